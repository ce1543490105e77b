/-! ===== VC lemmas (printed by gen/mk_vc.py) ===== -/
set_option maxRecDepth 100000
abbrev w_X1_init_0 (g : PG) (d : Nat) (l0 : Nat) (h : PH) (Q : Out → PH → Prop) : Prop := 0 < l0 ∧ ∀ h2, h2 = hnew 2 0 11 h → 0 < (hnx h) ∧ C g d m_X2_init [.ref (hnx h)] h2 (oV (fun h4 => hkd h4 l0 = 1 ∧ ∀ h8, h8 = setG 500 l0 (hnx h) h4 → ∀ h9, h9 = hnew 26 0 4 h8 → 0 < (hnx h8) ∧ C g d m_J7_init [.ref (hnx h8)] h9 (oV (fun h11 => hkd h11 l0 = 1 ∧ ∀ h15, h15 = setG 502 l0 (hnx h8) h11 → ∀ h16, h16 = hnew 28 0 5 h15 → 0 < (hnx h15) ∧ C g d m_J9_init [.ref (hnx h15)] h16 (oV (fun h18 => hkd h18 l0 = 1 ∧ ∀ h22, h22 = setG 504 l0 (hnx h15) h18 → ¬ (50 : Int32) < 0 ∧ (50 : Int32).toNatClampNeg ≤ 67108864 ∧ ∀ h25, h25 = hnew 200 (50 : Int32).toNatClampNeg ((50 : Int32).toNatClampNeg + 1) h22 → hkd h25 l0 = 1 ∧ ∀ h27, h27 = setG 505 l0 (hnx h22) h25 → Q (.inl none) h27) (fun r hx => Q (.inr r) hx))) (fun r hx => Q (.inr r) hx))) (fun r hx => Q (.inr r) hx))
theorem v_X1_init_0 {g : PG} {d : Nat} {l0 : Nat} {h : PH} {Q : Out → PH → Prop} (H : w_X1_init_0 g d l0 h Q) : R g d m_X1_init 0 [.ref l0] [] h Q := by
  refine r_aload_n dX1_init_0 rfl rfl ?_
  obtain ⟨k1, H⟩ := H
  refine r_oinit dX1_init_1 q181 q182 q183 k1 (Nat.le_of_ble_eq_true rfl) ?_
  refine r_aload_n dX1_init_4 rfl rfl ?_
  replace H := H _ rfl
  refine r_new (ci := 2) dX1_init_5 rfl (by decide) q184 q185 q108 ?_
  refine r_dup dX1_init_8 rfl ?_
  obtain ⟨k3, H⟩ := H
  refine r_invI (y := m_X2_init) dX1_init_9 rfl rfl q188 q108 q186 q187 rfl py_X2_init (Nat.le_of_ble_eq_true rfl) (args := []) rfl rfl (Nat.le_of_ble_eq_true rfl) k3 (C.monoE H (fun o h4 _ x6 K => cont_V K (fun H => ?_) (fun r HX => XR_nc rfl HX)))
  obtain ⟨k7, H⟩ := H
  replace H := H _ rfl
  refine r_putG fw_X1_37_1_i (by decide) dX1_init_12 k7 (by decide) rfl ?_
  refine r_aload_n dX1_init_15 rfl rfl ?_
  replace H := H _ rfl
  refine r_new (ci := 26) dX1_init_16 rfl (by decide) q346 q347 q117 ?_
  refine r_dup dX1_init_19 rfl ?_
  obtain ⟨k10, H⟩ := H
  refine r_invI (y := m_J7_init) dX1_init_20 rfl rfl q350 q117 q348 q349 rfl py_J7_init (Nat.le_of_ble_eq_true rfl) (args := []) rfl rfl (Nat.le_of_ble_eq_true rfl) k10 (C.monoE H (fun o h11 _ x13 K => cont_V K (fun H => ?_) (fun r HX => XR_nc rfl HX)))
  obtain ⟨k14, H⟩ := H
  replace H := H _ rfl
  refine r_putG fw_X1_44_1_i (by decide) dX1_init_23 k14 (by decide) rfl ?_
  refine r_aload_n dX1_init_26 rfl rfl ?_
  replace H := H _ rfl
  refine r_new (ci := 28) dX1_init_27 rfl (by decide) q366 q367 q119 ?_
  refine r_dup dX1_init_30 rfl ?_
  obtain ⟨k17, H⟩ := H
  refine r_invI (y := m_J9_init) dX1_init_31 rfl rfl q370 q119 q368 q369 rfl py_J9_init (Nat.le_of_ble_eq_true rfl) (args := []) rfl rfl (Nat.le_of_ble_eq_true rfl) k17 (C.monoE H (fun o h18 _ x20 K => cont_V K (fun H => ?_) (fun r HX => XR_nc rfl HX)))
  obtain ⟨k21, H⟩ := H
  replace H := H _ rfl
  refine r_putG fw_X1_51_1_i (by decide) dX1_init_34 k21 (by decide) rfl ?_
  refine r_aload_n dX1_init_37 rfl rfl ?_
  refine r_bipush dX1_init_38 rfl ?_
  obtain ⟨k23, H⟩ := H
  obtain ⟨k24, H⟩ := H
  replace H := H _ rfl
  refine r_newa (atype := .char) (m := 2) (kk := 200) dX1_init_40 rfl (by decide) (by decide) q424 k23 rfl (newB k24 (by decide)) ?_
  obtain ⟨k26, H⟩ := H
  replace H := H _ rfl
  refine r_putG fw_X1_55_1_i (by decide) dX1_init_42 k26 (by decide) rfl ?_
  exact r_vret dX1_init_45 rfl H
theorem c_X1_init_0 {g : PG} {d : Nat} {l0 : Nat} {h : PH} {Q : Out → PH → Prop} (H : w_X1_init_0 g d l0 h Q) : C g (d + 1) m_X1_init [.ref l0] h Q := C_of_R rfl rfl (Nat.le_of_ble_eq_true rfl) rfl (v_X1_init_0 H)
abbrev w_X1_line_15 (g : PG) (d : Nat) (l0 : Nat) (l2 : Int32) (h : PH) (Q : Out → PH → Prop) : Prop := (((12 : Int32) ≤ l2) → hkd h l0 = 1 ∧ hkd h (hG h 504 l0) = 28 ∧ C g d m_J9_length [.ref (hG h 504 l0)] h (oI (fun v5 h4 => Q (.inl (some (.int v5))) h4) (fun r hx => Q (.inr r) hx))) ∧ ((¬ (12 : Int32) ≤ l2) → hkd h l0 = 1 ∧ hkd h (hG h 500 l0) = 2 ∧ hkd h (hG h 506 (hG h 500 l0)) / 100 = 7 ∧ vp_in l2 (hln h (hG h 506 (hG h 500 l0))) ∧ ((l2 ≤ 0) → False) ∧ ((¬ l2 ≤ 0) → False))
theorem v_X1_line_15 {g : PG} {d : Nat} {l0 : Nat} {l2 : Int32} {h : PH} {Q : Out → PH → Prop} (H : w_X1_line_15 g d l0 l2 h Q) : R g d m_X1_line 15 [.ref l0, .null, .int l2, .null] [] h Q := by
  refine r_iload_n dX1_line_15 rfl rfl ?_
  refine r_bipush dX1_line_16 rfl ?_
  refine r_icmp_ge (tgt := 111) dX1_line_18 rfl (fun b1 => ?_) (fun b1 => ?_)
  · replace H := H.1 b1
    refine r_aload_n dX1_line_111 rfl rfl ?_
    obtain ⟨k2, H⟩ := H
    refine r_getG fr_X1_51_1 (by decide) dX1_line_112 k2 (by decide) ?_
    obtain ⟨k3, H⟩ := H
    refine r_invV (y := m_J9_length) dX1_line_115 rfl (lw_V q1542 q611 q3680 q119 q612) py_J9_length (Nat.le_of_ble_eq_true rfl) (args := []) rfl rfl (Nat.le_of_ble_eq_true rfl) k3 (by decide) rfl (C.monoE H (fun o h4 _ x6 K => cont_I K (fun v5 H => ?_) (fun r HX => XR_nc rfl HX)))
    exact r_iret dX1_line_118 rfl H
  · replace H := H.2 b1
    refine r_aload_n dX1_line_21 rfl rfl ?_
    obtain ⟨k7, H⟩ := H
    refine r_getG fr_X1_37_1 (by decide) dX1_line_22 k7 (by decide) ?_
    obtain ⟨k8, H⟩ := H
    refine r_getG fr_X1_346_2 (by decide) dX1_line_25 k8 (by decide) ?_
    refine r_iload_n dX1_line_28 rfl rfl ?_
    obtain ⟨k9, H⟩ := H
    obtain ⟨k10, H⟩ := H
    refine r_aald dX1_line_29 (m := 7) (by decide) k9 k10 ?_
    refine r_astore_n dX1_line_30 rfl (Nat.le_of_ble_eq_true rfl) rfl (slS (slS (slS sl0))) ?_
    refine r_aload_n dX1_line_31 rfl rfl ?_
    refine r_getG fr_X1_51_1 (by decide) dX1_line_32 k7 (by decide) ?_
    refine r_iload_n dX1_line_35 rfl rfl ?_
    refine r_if_le (tgt := 45) dX1_line_36 rfl (fun b11 => ?_) (fun b11 => ?_)
    · replace H := H.1 b11
      exact H.elim
    · replace H := H.2 b11
      exact H.elim
abbrev w_X1_line_0 (g : PG) (d : Nat) (l0 : Nat) (h : PH) (Q : Out → PH → Prop) : Prop := hkd h l0 = 1 ∧ hkd h (hG h 504 l0) = 28 ∧ C g d m_J9_setLength [.ref (hG h 504 l0), .int 0] h (oV (fun h3 => R g d m_X1_line 15 [.ref l0, .null, .int 0, .null] [] h3 Q) (fun r hx => Q (.inr r) hx))
theorem v_X1_line_0 {g : PG} {d : Nat} {l0 : Nat} {h : PH} {Q : Out → PH → Prop} (H : w_X1_line_0 g d l0 h Q) : R g d m_X1_line 0 [.ref l0, .null, .null, .null] [] h Q := by
  refine r_aload_n dX1_line_0 rfl rfl ?_
  obtain ⟨k1, H⟩ := H
  refine r_getG fr_X1_51_1 (by decide) dX1_line_1 k1 (by decide) ?_
  refine r_iconst dX1_line_4 rfl ?_
  obtain ⟨k2, H⟩ := H
  refine r_invV (y := m_J9_setLength) dX1_line_5 rfl (lw_V q429 q430 q431 q119 q432) py_J9_setLength (Nat.le_of_ble_eq_true rfl) (args := [_]) rfl rfl (Nat.le_of_ble_eq_true rfl) k2 (by decide) rfl (C.monoE H (fun o h3 _ x5 K => cont_V K (fun H => ?_) (fun r HX => XR_nc rfl HX)))
  refine r_aload_n dX1_line_8 rfl rfl ?_
  refine r_getG fr_X1_51_1 (by decide) dX1_line_9 (x5.kd k1 (by decide)) (by decide) ?_
  refine r_astore_n dX1_line_12 rfl (Nat.le_of_ble_eq_true rfl) rfl (slS sl0) ?_
  refine r_iconst dX1_line_13 rfl ?_
  refine r_istore_n dX1_line_14 rfl (Nat.le_of_ble_eq_true rfl) rfl (slS (slS sl0)) ?_
  exact R.forget H ⟨Or.inl rfl, ⟨Or.inr rfl, ⟨Or.inl rfl, ⟨Or.inl rfl, trivial⟩⟩⟩⟩
theorem c_X1_line_0 {g : PG} {d : Nat} {l0 : Nat} {h : PH} {Q : Out → PH → Prop} (H : w_X1_line_0 g d l0 h Q) : C g (d + 1) m_X1_line [.ref l0] h Q := C_of_R rfl rfl (Nat.le_of_ble_eq_true rfl) rfl (v_X1_line_0 H)
abbrev w_X1_write_8 (g : PG) (d : Nat) (l0 : Nat) (l1 : Int32) (l2 : Int32) (l4 : Int32) (h : PH) (Q : Out → PH → Prop) : Prop := ((l2 ≤ l4) → Q (.inl none) h) ∧ ((¬ l2 ≤ l4) → hkd h l0 = 1 ∧ hkd h (hG h 504 l0) = 28 ∧ C g d m_J9_append_3 [.ref (hG h 504 l0), .int l1] h (oR (fun v5 h4 => R g d m_X1_write 8 [.ref l0, .int l1, .int l2, .null, .int (l4 + 1)] [] h4 Q) (fun r hx => Q (.inr r) hx)))
theorem v_X1_write_8 {g : PG} {d : Nat} {l0 : Nat} {l1 : Int32} {l2 : Int32} {l4 : Int32} {h : PH} {Q : Out → PH → Prop} (H : w_X1_write_8 g d l0 l1 l2 l4 h Q) : R g d m_X1_write 8 [.ref l0, .int l1, .int l2, .null, .int l4] [] h Q := by
  refine r_iload dX1_write_8 rfl ?_
  refine r_iload_n dX1_write_10 rfl rfl ?_
  refine r_icmp_ge (tgt := 29) dX1_write_11 rfl (fun b1 => ?_) (fun b1 => ?_)
  · replace H := H.1 b1
    exact r_vret dX1_write_29 rfl H
  · replace H := H.2 b1
    refine r_aload_n dX1_write_14 rfl rfl ?_
    obtain ⟨k2, H⟩ := H
    refine r_getG fr_X1_51_1 (by decide) dX1_write_15 k2 (by decide) ?_
    refine r_iload_n dX1_write_18 rfl rfl ?_
    obtain ⟨k3, H⟩ := H
    refine r_invV (y := m_J9_append_3) dX1_write_19 rfl (lw_V q789 q790 q791 q119 q792) py_J9_append_3 (Nat.le_of_ble_eq_true rfl) (args := [_]) rfl rfl (Nat.le_of_ble_eq_true rfl) k3 (by decide) rfl (C.monoE H (fun o h4 _ x6 K => cont_R K (fun v5 H => ?_) (fun r HX => XR_nc rfl HX)))
    refine r_astore_n dX1_write_22 rfl (Nat.le_of_ble_eq_true rfl) rfl (slS (slS (slS sl0))) ?_
    refine r_iinc dX1_write_23 rfl rfl (Nat.le_of_ble_eq_true rfl) rfl (slS (slS (slS (slS sl0)))) ?_
    refine r_goto (tgt := 8) dX1_write_26 rfl ?_
    exact R.forget H ⟨Or.inl rfl, ⟨Or.inl rfl, ⟨Or.inl rfl, ⟨Or.inr rfl, ⟨Or.inl rfl, trivial⟩⟩⟩⟩⟩
abbrev w_X1_write_0 (g : PG) (d : Nat) (l0 : Nat) (l1 : Int32) (l2 : Int32) (h : PH) (Q : Out → PH → Prop) : Prop := hkd h l0 = 1 ∧ R g d m_X1_write 8 [.ref l0, .int l1, .int l2, .null, .int 0] [] h Q
theorem v_X1_write_0 {g : PG} {d : Nat} {l0 : Nat} {l1 : Int32} {l2 : Int32} {h : PH} {Q : Out → PH → Prop} (H : w_X1_write_0 g d l0 l1 l2 h Q) : R g d m_X1_write 0 [.ref l0, .int l1, .int l2, .null, .null] [] h Q := by
  refine r_aload_n dX1_write_0 rfl rfl ?_
  obtain ⟨k1, H⟩ := H
  refine r_getG fr_X1_51_1 (by decide) dX1_write_1 k1 (by decide) ?_
  refine r_astore_n dX1_write_4 rfl (Nat.le_of_ble_eq_true rfl) rfl (slS (slS (slS sl0))) ?_
  refine r_iconst dX1_write_5 rfl ?_
  refine r_istore dX1_write_6 (Nat.le_of_ble_eq_true rfl) rfl (slS (slS (slS (slS sl0)))) ?_
  exact R.forget H ⟨Or.inl rfl, ⟨Or.inl rfl, ⟨Or.inl rfl, ⟨Or.inr rfl, ⟨Or.inl rfl, trivial⟩⟩⟩⟩⟩
theorem c_X1_write_0 {g : PG} {d : Nat} {l0 : Nat} {l1 : Int32} {l2 : Int32} {h : PH} {Q : Out → PH → Prop} (H : w_X1_write_0 g d l0 l1 l2 h Q) : C g (d + 1) m_X1_write [.ref l0, .int l1, .int l2] h Q := C_of_R rfl rfl (Nat.le_of_ble_eq_true rfl) rfl (v_X1_write_0 H)
abbrev w_X1_number_0 (g : PG) (d : Nat) (l0 : Int32) (h : PH) (Q : Out → PH → Prop) : Prop := ((l0 = 0) → Q (.inl (some (.int 0))) h) ∧ ((¬ l0 = 0) → Q (.inl (some (.int 1))) h)
theorem v_X1_number_0 {g : PG} {d : Nat} {l0 : Int32} {h : PH} {Q : Out → PH → Prop} (H : w_X1_number_0 g d l0 h Q) : R g d m_X1_number 0 [.int l0] [] h Q := by
  refine r_iload_n dX1_number_0 rfl rfl ?_
  refine r_if_eq (tgt := 8) dX1_number_1 rfl (fun b1 => ?_) (fun b1 => ?_)
  · replace H := H.1 b1
    refine r_iconst dX1_number_8 rfl ?_
    exact r_iret dX1_number_9 rfl H
  · replace H := H.2 b1
    refine r_iconst dX1_number_4 rfl ?_
    refine r_goto (tgt := 9) dX1_number_5 rfl ?_
    exact r_iret dX1_number_9 rfl H
theorem c_X1_number_0 {g : PG} {d : Nat} {l0 : Int32} {h : PH} {Q : Out → PH → Prop} (H : w_X1_number_0 g d l0 h Q) : C g (d + 1) m_X1_number [.int l0] h Q := C_of_R rfl rfl (Nat.le_of_ble_eq_true rfl) rfl (v_X1_number_0 H)
abbrev w_X1_isBalanced_144 (g : PG) (d : Nat) (l0 : Nat) (l2 : Int32) (s0 : Int32) (s1 : Int32) (h : PH) (Q : Out → PH → Prop) : Prop := R g d m_X1_isBalanced 90 [.ref l0, .int (s0 &&& s1), .int (l2 + 1), .null] [] h Q
theorem v_X1_isBalanced_144 {g : PG} {d : Nat} {l0 : Nat} {l2 : Int32} {s0 : Int32} {s1 : Int32} {h : PH} {Q : Out → PH → Prop} (H : w_X1_isBalanced_144 g d l0 l2 s0 s1 h Q) : R g d m_X1_isBalanced 144 [.ref l0, .null, .int l2, .null] [.int s1, .int s0] h Q := by
  refine r_iand dX1_isBalanced_144 ?_
  refine r_istore_n dX1_isBalanced_145 rfl (Nat.le_of_ble_eq_true rfl) rfl (slS sl0) ?_
  refine r_iinc dX1_isBalanced_146 rfl rfl (Nat.le_of_ble_eq_true rfl) rfl (slS (slS sl0)) ?_
  refine r_goto (tgt := 90) dX1_isBalanced_149 rfl ?_
  exact H
abbrev w_X1_isBalanced_143 (g : PG) (d : Nat) (l0 : Nat) (l2 : Int32) (s0 : Int32) (h : PH) (Q : Out → PH → Prop) : Prop := w_X1_isBalanced_144 g d l0 l2 s0 (0 : Int32) h Q
theorem v_X1_isBalanced_143 {g : PG} {d : Nat} {l0 : Nat} {l2 : Int32} {s0 : Int32} {h : PH} {Q : Out → PH → Prop} (H : w_X1_isBalanced_143 g d l0 l2 s0 h Q) : R g d m_X1_isBalanced 143 [.ref l0, .null, .int l2, .null] [.int s0] h Q := by
  refine r_iconst dX1_isBalanced_143 rfl ?_
  exact v_X1_isBalanced_144 H
abbrev w_X1_isBalanced_139 (g : PG) (d : Nat) (l0 : Nat) (l2 : Int32) (s0 : Int32) (h : PH) (Q : Out → PH → Prop) : Prop := w_X1_isBalanced_144 g d l0 l2 s0 (1 : Int32) h Q
theorem v_X1_isBalanced_139 {g : PG} {d : Nat} {l0 : Nat} {l2 : Int32} {s0 : Int32} {h : PH} {Q : Out → PH → Prop} (H : w_X1_isBalanced_139 g d l0 l2 s0 h Q) : R g d m_X1_isBalanced 139 [.ref l0, .null, .int l2, .null] [.int s0] h Q := by
  refine r_iconst dX1_isBalanced_139 rfl ?_
  refine r_goto (tgt := 144) dX1_isBalanced_140 rfl ?_
  exact v_X1_isBalanced_144 H
abbrev w_X1_isBalanced_90 (g : PG) (d : Nat) (l0 : Nat) (l1 : Int32) (l2 : Int32) (h : PH) (Q : Out → PH → Prop) : Prop := (((3 : Int32) ≤ l2) → narrow .boolean (.int l1) = .int l1 ∧ Q (.inl (some (.int l1))) h) ∧ ((¬ (3 : Int32) ≤ l2) → hkd h l0 = 1 ∧ C g d m_X1_standing [.ref l0, .int l2] h (oI (fun v4 h3 => C g d m_X1_standingAgain [.ref l0, .int l2] h3 (oI (fun v7 h6 => ((¬ v4 = v7) → w_X1_isBalanced_143 g d l0 l2 l1 h6 Q) ∧ ((v4 = v7) → hkd h6 (hG h6 500 l0) = 2 ∧ hkd h6 (hG h6 508 (hG h6 500 l0)) / 100 = 1 ∧ vp_in l2 (hln h6 (hG h6 508 (hG h6 500 l0))) ∧ (((hA h6 (hG h6 508 (hG h6 500 l0)) l2.toNatClampNeg) = (-1 : Int32)) → w_X1_isBalanced_139 g d l0 l2 l1 h6 Q) ∧ ((¬ (hA h6 (hG h6 508 (hG h6 500 l0)) l2.toNatClampNeg) = (-1 : Int32)) → C g d m_J26_valueOf [.int l2] h6 (oR (fun v15 h14 => hkd h14 (hG h6 511 (hG h6 500 l0)) = 15 ∧ C g d m_J4_containsKey [.ref (hG h6 511 (hG h6 500 l0)), .ref v15] h14 (oI (fun v19 h18 => ((¬ v19 = 0) → w_X1_isBalanced_143 g d l0 l2 l1 h18 Q) ∧ ((v19 = 0) → w_X1_isBalanced_139 g d l0 l2 l1 h18 Q)) (fun r hx => Q (.inr r) hx))) (fun r hx => Q (.inr r) hx))))) (fun r hx => Q (.inr r) hx))) (fun r hx => Q (.inr r) hx)))
theorem v_X1_isBalanced_90 {g : PG} {d : Nat} {l0 : Nat} {l1 : Int32} {l2 : Int32} {h : PH} {Q : Out → PH → Prop} (H : w_X1_isBalanced_90 g d l0 l1 l2 h Q) : R g d m_X1_isBalanced 90 [.ref l0, .int l1, .int l2, .null] [] h Q := by
  refine r_iload_n dX1_isBalanced_90 rfl rfl ?_
  refine r_iconst dX1_isBalanced_91 rfl ?_
  refine r_icmp_ge (tgt := 152) dX1_isBalanced_92 rfl (fun b1 => ?_) (fun b1 => ?_)
  · replace H := H.1 b1
    refine r_iload_n dX1_isBalanced_152 rfl rfl ?_
    exact r_zret dX1_isBalanced_153 rfl H.1 H.2
  · replace H := H.2 b1
    refine r_iload_n dX1_isBalanced_95 rfl rfl ?_
    refine r_aload_n dX1_isBalanced_96 rfl rfl ?_
    refine r_iload_n dX1_isBalanced_97 rfl rfl ?_
    obtain ⟨k2, H⟩ := H
    refine r_invV (y := m_X1_standing) dX1_isBalanced_98 rfl (lw_V q1606 q1607 q1608 q107 q1609) py_X1_standing (Nat.le_of_ble_eq_true rfl) (args := [_]) rfl rfl (Nat.le_of_ble_eq_true rfl) k2 (by decide) rfl (C.monoE H (fun o h3 _ x5 K => cont_I K (fun v4 H => ?_) (fun r HX => XR_nc rfl HX)))
    refine r_aload_n dX1_isBalanced_101 rfl rfl ?_
    refine r_iload_n dX1_isBalanced_102 rfl rfl ?_
    refine r_invV (y := m_X1_standingAgain) dX1_isBalanced_103 rfl (lw_V q2047 q2048 q2049 q107 q2050) py_X1_standingAgain (Nat.le_of_ble_eq_true rfl) (args := [_]) rfl rfl (Nat.le_of_ble_eq_true rfl) (x5.kd k2 (by decide)) (by decide) rfl (C.monoE H (fun o h6 _ x8 K => cont_I K (fun v7 H => ?_) (fun r HX => XR_nc rfl HX)))
    refine r_icmp_ne (tgt := 143) dX1_isBalanced_106 rfl (fun b9 => ?_) (fun b9 => ?_)
    · replace H := H.1 b9
      exact R.forget (v_X1_isBalanced_143 H) ⟨Or.inl rfl, ⟨Or.inr rfl, ⟨Or.inl rfl, ⟨Or.inl rfl, trivial⟩⟩⟩⟩
    · replace H := H.2 b9
      refine r_aload_n dX1_isBalanced_109 rfl rfl ?_
      refine r_getG fr_X1_37_1 (by decide) dX1_isBalanced_110 (x8.kd (x5.kd k2 (by decide)) (by decide)) (by decide) ?_
      obtain ⟨k10, H⟩ := H
      refine r_getG fr_X1_199_2 (by decide) dX1_isBalanced_113 k10 (by decide) ?_
      refine r_iload_n dX1_isBalanced_116 rfl rfl ?_
      obtain ⟨k11, H⟩ := H
      obtain ⟨k12, H⟩ := H
      refine r_iald dX1_isBalanced_117 k11 k12 ?_
      refine r_iconst dX1_isBalanced_118 rfl ?_
      refine r_icmp_eq (tgt := 139) dX1_isBalanced_119 rfl (fun b13 => ?_) (fun b13 => ?_)
      · replace H := H.1 b13
        exact R.forget (v_X1_isBalanced_139 H) ⟨Or.inl rfl, ⟨Or.inr rfl, ⟨Or.inl rfl, ⟨Or.inl rfl, trivial⟩⟩⟩⟩
      · replace H := H.2 b13
        refine r_aload_n dX1_isBalanced_122 rfl rfl ?_
        refine r_getG fr_X1_37_1 (by decide) dX1_isBalanced_123 (x8.kd (x5.kd k2 (by decide)) (by decide)) (by decide) ?_
        refine r_getG fr_X1_414_2 (by decide) dX1_isBalanced_126 k10 (by decide) ?_
        refine r_iload_n dX1_isBalanced_129 rfl rfl ?_
        refine r_invS (y := m_J26_valueOf) dX1_isBalanced_130 rfl (lw_S q1639 q1255 q139 q1256) py_J26_valueOf (Nat.le_of_ble_eq_true rfl) (args := [_]) rfl rfl (Nat.le_of_ble_eq_true rfl) (C.monoE H (fun o h14 _ x16 K => cont_R K (fun v15 H => ?_) (fun r HX => XR_nc rfl HX)))
        obtain ⟨k17, H⟩ := H
        refine r_invV (y := m_J4_containsKey) dX1_isBalanced_133 rfl (lw_V q1640 q1634 q1635 q113 q1636) py_J4_containsKey (Nat.le_of_ble_eq_true rfl) (args := [_]) rfl rfl (Nat.le_of_ble_eq_true rfl) k17 (by decide) rfl (C.monoE H (fun o h18 _ x20 K => cont_I K (fun v19 H => ?_) (fun r HX => XR_nc rfl HX)))
        refine r_if_ne (tgt := 143) dX1_isBalanced_136 rfl (fun b21 => ?_) (fun b21 => ?_)
        · replace H := H.1 b21
          exact R.forget (v_X1_isBalanced_143 H) ⟨Or.inl rfl, ⟨Or.inr rfl, ⟨Or.inl rfl, ⟨Or.inl rfl, trivial⟩⟩⟩⟩
        · replace H := H.2 b21
          exact R.forget (v_X1_isBalanced_139 H) ⟨Or.inl rfl, ⟨Or.inr rfl, ⟨Or.inl rfl, ⟨Or.inl rfl, trivial⟩⟩⟩⟩
abbrev w_X1_isBalanced_58 (g : PG) (d : Nat) (l0 : Nat) (l1 : Int32) (l2 : Nat) (h : PH) (Q : Out → PH → Prop) : Prop := hkd h l2 = 14 ∧ C g d m_J18_hasNext [.ref l2] h (oI (fun v3 h2 => ((v3 = 0) → R g d m_X1_isBalanced 90 [.ref l0, .int l1, .int 0, .null] [] h2 Q) ∧ ((¬ v3 = 0) → C g d m_J18_next [.ref l2] h2 (oR (fun v7 h6 => (v7 = 0 ∨ hkd h6 v7 = 4) ∧ hkd h6 l0 = 1 ∧ C g d m_X1_isAlike [.ref l0, .ref v7] h6 (oI (fun v12 h11 => R g d m_X1_isBalanced 58 [.ref l0, .int (l1 &&& v12), .ref l2, .null] [] h11 Q) (fun r hx => Q (.inr r) hx))) (fun r hx => Q (.inr r) hx)))) (fun r hx => Q (.inr r) hx))
theorem v_X1_isBalanced_58 {g : PG} {d : Nat} {l0 : Nat} {l1 : Int32} {l2 : Nat} {h : PH} {Q : Out → PH → Prop} (H : w_X1_isBalanced_58 g d l0 l1 l2 h Q) : R g d m_X1_isBalanced 58 [.ref l0, .int l1, .ref l2, .null] [] h Q := by
  refine r_aload_n dX1_isBalanced_58 rfl rfl ?_
  obtain ⟨k1, H⟩ := H
  refine r_invF (y := m_J18_hasNext) (Cn := "java/util/ArrayList$Itr") (x := ⟨"java/util/Iterator", "hasNext", "()Z"⟩) dX1_isBalanced_59 rfl (lw_F q1577 q925 q927 q130 q929) fw_t2 (n := 0) (by decide +kernel) (Nat.le_of_ble_eq_true rfl) (args := []) rfl rfl (Nat.le_of_ble_eq_true rfl) k1 (by decide) rfl (C.monoE H (fun o h2 _ x4 K => cont_I K (fun v3 H => ?_) (fun r HX => XR_nc rfl HX)))
  refine r_if_eq (tgt := 88) dX1_isBalanced_64 rfl (fun b5 => ?_) (fun b5 => ?_)
  · replace H := H.1 b5
    refine r_iconst dX1_isBalanced_88 rfl ?_
    refine r_istore_n dX1_isBalanced_89 rfl (Nat.le_of_ble_eq_true rfl) rfl (slS (slS sl0)) ?_
    exact H
  · replace H := H.2 b5
    refine r_aload_n dX1_isBalanced_67 rfl rfl ?_
    refine r_invF (y := m_J18_next) (Cn := "java/util/ArrayList$Itr") (x := ⟨"java/util/Iterator", "next", "()Ljava/lang/Object;"⟩) dX1_isBalanced_68 rfl (lw_F q1579 q1167 q1169 q130 q1171) fw_t7 (n := 0) (by decide +kernel) (Nat.le_of_ble_eq_true rfl) (args := []) rfl rfl (Nat.le_of_ble_eq_true rfl) (x4.kd k1 (by decide)) (by decide) rfl (C.monoE H (fun o h6 _ x8 K => cont_R K (fun v7 H => ?_) (fun r HX => XR_nc rfl HX)))
    obtain ⟨k9, H⟩ := H
    refine r_castO (kv := 4) dX1_isBalanced_73 q1580 (by decide) (Or.inr rfl) k9 ?_
    refine r_astore_n dX1_isBalanced_76 rfl (Nat.le_of_ble_eq_true rfl) rfl (slS (slS (slS sl0))) ?_
    refine r_iload_n dX1_isBalanced_77 rfl rfl ?_
    refine r_aload_n dX1_isBalanced_78 rfl rfl ?_
    refine r_aload_n dX1_isBalanced_79 rfl rfl ?_
    obtain ⟨k10, H⟩ := H
    refine r_invV (y := m_X1_isAlike) dX1_isBalanced_80 rfl (lw_V q1595 q1597 qp9 q107 q1598) py_X1_isAlike (Nat.le_of_ble_eq_true rfl) (args := [_]) rfl rfl (Nat.le_of_ble_eq_true rfl) k10 (by decide) rfl (C.monoE H (fun o h11 _ x13 K => cont_I K (fun v12 H => ?_) (fun r HX => XR_nc rfl HX)))
    refine r_iand dX1_isBalanced_83 ?_
    refine r_istore_n dX1_isBalanced_84 rfl (Nat.le_of_ble_eq_true rfl) rfl (slS sl0) ?_
    refine r_goto (tgt := 58) dX1_isBalanced_85 rfl ?_
    exact R.forget H ⟨Or.inl rfl, ⟨Or.inl rfl, ⟨Or.inl rfl, ⟨Or.inr rfl, trivial⟩⟩⟩⟩
abbrev w_X1_isBalanced_46 (g : PG) (d : Nat) (l0 : Nat) (s0 : Int32) (h : PH) (Q : Out → PH → Prop) : Prop := hkd h l0 = 1 ∧ hkd h (hG h 500 l0) = 2 ∧ hkd h (hG h 507 (hG h 500 l0)) = 13 ∧ C g d m_J2_iterator [.ref (hG h 507 (hG h 500 l0))] h (oR (fun v5 h4 => R g d m_X1_isBalanced 58 [.ref l0, .int s0, .ref v5, .null] [] h4 Q) (fun r hx => Q (.inr r) hx))
theorem v_X1_isBalanced_46 {g : PG} {d : Nat} {l0 : Nat} {s0 : Int32} {h : PH} {Q : Out → PH → Prop} (H : w_X1_isBalanced_46 g d l0 s0 h Q) : R g d m_X1_isBalanced 46 [.ref l0, .null, .null, .null] [.int s0] h Q := by
  refine r_istore_n dX1_isBalanced_46 rfl (Nat.le_of_ble_eq_true rfl) rfl (slS sl0) ?_
  refine r_aload_n dX1_isBalanced_47 rfl rfl ?_
  obtain ⟨k1, H⟩ := H
  refine r_getG fr_X1_37_1 (by decide) dX1_isBalanced_48 k1 (by decide) ?_
  obtain ⟨k2, H⟩ := H
  refine r_getG fr_X1_115_2 (by decide) dX1_isBalanced_51 k2 (by decide) ?_
  obtain ⟨k3, H⟩ := H
  refine r_invV (y := m_J2_iterator) dX1_isBalanced_54 rfl (lw_V q1551 q1552 q1553 q111 q1554) py_J2_iterator (Nat.le_of_ble_eq_true rfl) (args := []) rfl rfl (Nat.le_of_ble_eq_true rfl) k3 (by decide) rfl (C.monoE H (fun o h4 _ x6 K => cont_R K (fun v5 H => ?_) (fun r HX => XR_nc rfl HX)))
  refine r_astore_n dX1_isBalanced_57 rfl (Nat.le_of_ble_eq_true rfl) rfl (slS (slS sl0)) ?_
  exact H
abbrev w_X1_isBalanced_45 (g : PG) (d : Nat) (l0 : Nat) (h : PH) (Q : Out → PH → Prop) : Prop := w_X1_isBalanced_46 g d l0 (0 : Int32) h Q
theorem v_X1_isBalanced_45 {g : PG} {d : Nat} {l0 : Nat} {h : PH} {Q : Out → PH → Prop} (H : w_X1_isBalanced_45 g d l0 h Q) : R g d m_X1_isBalanced 45 [.ref l0, .null, .null, .null] [] h Q := by
  refine r_iconst dX1_isBalanced_45 rfl ?_
  exact v_X1_isBalanced_46 H
abbrev w_X1_isBalanced_0 (g : PG) (d : Nat) (l0 : Nat) (h : PH) (Q : Out → PH → Prop) : Prop := hkd h l0 = 1 ∧ hkd h (hG h 500 l0) = 2 ∧ C g d m_X1_allMass [.ref l0] h (oI (fun v4 h3 => C g d m_X1_allDripped [.ref l0] h3 (oI (fun v7 h6 => ((¬ (hF h 3 (hG h 500 l0)) = (v4 + v7)) → w_X1_isBalanced_45 g d l0 h6 Q) ∧ (((hF h 3 (hG h 500 l0)) = (v4 + v7)) → C g d m_X1_noses [.ref l0] h6 (oI (fun v11 h10 => C g d m_X1_lyingNoses [.ref l0] h10 (oI (fun v14 h13 => hkd h13 (hG h13 500 l0) = 2 ∧ hkd h13 (hG h13 507 (hG h13 500 l0)) = 13 ∧ C g d m_J2_size [.ref (hG h13 507 (hG h13 500 l0))] h13 (oI (fun v19 h18 => ((¬ (v11 + v14) = v19) → w_X1_isBalanced_45 g d l0 h18 Q) ∧ (((v11 + v14) = v19) → w_X1_isBalanced_46 g d l0 (1 : Int32) h18 Q)) (fun r hx => Q (.inr r) hx))) (fun r hx => Q (.inr r) hx))) (fun r hx => Q (.inr r) hx)))) (fun r hx => Q (.inr r) hx))) (fun r hx => Q (.inr r) hx))
theorem v_X1_isBalanced_0 {g : PG} {d : Nat} {l0 : Nat} {h : PH} {Q : Out → PH → Prop} (H : w_X1_isBalanced_0 g d l0 h Q) : R g d m_X1_isBalanced 0 [.ref l0, .null, .null, .null] [] h Q := by
  refine r_aload_n dX1_isBalanced_0 rfl rfl ?_
  obtain ⟨k1, H⟩ := H
  refine r_getG fr_X1_37_1 (by decide) dX1_isBalanced_1 k1 (by decide) ?_
  obtain ⟨k2, H⟩ := H
  refine r_getF fr_X1_391_2 (by decide) dX1_isBalanced_4 k2 (by decide) ?_
  refine r_aload_n dX1_isBalanced_7 rfl rfl ?_
  refine r_invV (y := m_X1_allMass) dX1_isBalanced_8 rfl (lw_V q1547 q1549 qp5 q107 q1550) py_X1_allMass (Nat.le_of_ble_eq_true rfl) (args := []) rfl rfl (Nat.le_of_ble_eq_true rfl) k1 (by decide) rfl (C.monoE H (fun o h3 _ x5 K => cont_I K (fun v4 H => ?_) (fun r HX => XR_nc rfl HX)))
  refine r_aload_n dX1_isBalanced_11 rfl rfl ?_
  refine r_invV (y := m_X1_allDripped) dX1_isBalanced_12 rfl (lw_V q1581 q1583 qp6 q107 q1584) py_X1_allDripped (Nat.le_of_ble_eq_true rfl) (args := []) rfl rfl (Nat.le_of_ble_eq_true rfl) (x5.kd k1 (by decide)) (by decide) rfl (C.monoE H (fun o h6 _ x8 K => cont_I K (fun v7 H => ?_) (fun r HX => XR_nc rfl HX)))
  refine r_iadd dX1_isBalanced_15 ?_
  refine r_icmp_ne (tgt := 45) dX1_isBalanced_16 rfl (fun b9 => ?_) (fun b9 => ?_)
  · replace H := H.1 b9
    exact v_X1_isBalanced_45 H
  · replace H := H.2 b9
    refine r_aload_n dX1_isBalanced_19 rfl rfl ?_
    refine r_invV (y := m_X1_noses) dX1_isBalanced_20 rfl (lw_V q1585 q1587 qp7 q107 q1588) py_X1_noses (Nat.le_of_ble_eq_true rfl) (args := []) rfl rfl (Nat.le_of_ble_eq_true rfl) (x8.kd (x5.kd k1 (by decide)) (by decide)) (by decide) rfl (C.monoE H (fun o h10 _ x12 K => cont_I K (fun v11 H => ?_) (fun r HX => XR_nc rfl HX)))
    refine r_aload_n dX1_isBalanced_23 rfl rfl ?_
    refine r_invV (y := m_X1_lyingNoses) dX1_isBalanced_24 rfl (lw_V q1590 q1592 qp8 q107 q1593) py_X1_lyingNoses (Nat.le_of_ble_eq_true rfl) (args := []) rfl rfl (Nat.le_of_ble_eq_true rfl) (x12.kd (x8.kd (x5.kd k1 (by decide)) (by decide)) (by decide)) (by decide) rfl (C.monoE H (fun o h13 _ x15 K => cont_I K (fun v14 H => ?_) (fun r HX => XR_nc rfl HX)))
    refine r_iadd dX1_isBalanced_27 ?_
    refine r_aload_n dX1_isBalanced_28 rfl rfl ?_
    refine r_getG fr_X1_37_1 (by decide) dX1_isBalanced_29 (x15.kd (x12.kd (x8.kd (x5.kd k1 (by decide)) (by decide)) (by decide)) (by decide)) (by decide) ?_
    obtain ⟨k16, H⟩ := H
    refine r_getG fr_X1_115_2 (by decide) dX1_isBalanced_32 k16 (by decide) ?_
    obtain ⟨k17, H⟩ := H
    refine r_invV (y := m_J2_size) dX1_isBalanced_35 rfl (lw_V q1594 q913 q3681 q111 q914) py_J2_size (Nat.le_of_ble_eq_true rfl) (args := []) rfl rfl (Nat.le_of_ble_eq_true rfl) k17 (by decide) rfl (C.monoE H (fun o h18 _ x20 K => cont_I K (fun v19 H => ?_) (fun r HX => XR_nc rfl HX)))
    refine r_icmp_ne (tgt := 45) dX1_isBalanced_38 rfl (fun b21 => ?_) (fun b21 => ?_)
    · replace H := H.1 b21
      exact v_X1_isBalanced_45 H
    · replace H := H.2 b21
      refine r_iconst dX1_isBalanced_41 rfl ?_
      refine r_goto (tgt := 46) dX1_isBalanced_42 rfl ?_
      exact v_X1_isBalanced_46 H
theorem c_X1_isBalanced_0 {g : PG} {d : Nat} {l0 : Nat} {h : PH} {Q : Out → PH → Prop} (H : w_X1_isBalanced_0 g d l0 h Q) : C g (d + 1) m_X1_isBalanced [.ref l0] h Q := C_of_R rfl rfl (Nat.le_of_ble_eq_true rfl) rfl (v_X1_isBalanced_0 H)
abbrev w_X1_allMass_13 (g : PG) (d : Nat) (l1 : Int32) (l2 : Nat) (h : PH) (Q : Out → PH → Prop) : Prop := hkd h l2 = 14 ∧ C g d m_J18_hasNext [.ref l2] h (oI (fun v3 h2 => ((v3 = 0) → Q (.inl (some (.int l1))) h2) ∧ ((¬ v3 = 0) → C g d m_J18_next [.ref l2] h2 (oR (fun v7 h6 => (v7 = 0 ∨ hkd h6 v7 = 4) ∧ hkd h6 v7 = 4 ∧ R g d m_X1_allMass 13 [.null, .int (l1 + (hF h6 10 v7)), .ref l2, .null] [] h6 Q) (fun r hx => Q (.inr r) hx)))) (fun r hx => Q (.inr r) hx))
theorem v_X1_allMass_13 {g : PG} {d : Nat} {l1 : Int32} {l2 : Nat} {h : PH} {Q : Out → PH → Prop} (H : w_X1_allMass_13 g d l1 l2 h Q) : R g d m_X1_allMass 13 [.null, .int l1, .ref l2, .null] [] h Q := by
  refine r_aload_n dX1_allMass_13 rfl rfl ?_
  obtain ⟨k1, H⟩ := H
  refine r_invF (y := m_J18_hasNext) (Cn := "java/util/ArrayList$Itr") (x := ⟨"java/util/Iterator", "hasNext", "()Z"⟩) dX1_allMass_14 rfl (lw_F q1577 q925 q927 q130 q929) fw_t2 (n := 0) (by decide +kernel) (Nat.le_of_ble_eq_true rfl) (args := []) rfl rfl (Nat.le_of_ble_eq_true rfl) k1 (by decide) rfl (C.monoE H (fun o h2 _ x4 K => cont_I K (fun v3 H => ?_) (fun r HX => XR_nc rfl HX)))
  refine r_if_eq (tgt := 42) dX1_allMass_19 rfl (fun b5 => ?_) (fun b5 => ?_)
  · replace H := H.1 b5
    refine r_iload_n dX1_allMass_42 rfl rfl ?_
    exact r_iret dX1_allMass_43 rfl H
  · replace H := H.2 b5
    refine r_aload_n dX1_allMass_22 rfl rfl ?_
    refine r_invF (y := m_J18_next) (Cn := "java/util/ArrayList$Itr") (x := ⟨"java/util/Iterator", "next", "()Ljava/lang/Object;"⟩) dX1_allMass_23 rfl (lw_F q1579 q1167 q1169 q130 q1171) fw_t7 (n := 0) (by decide +kernel) (Nat.le_of_ble_eq_true rfl) (args := []) rfl rfl (Nat.le_of_ble_eq_true rfl) (x4.kd k1 (by decide)) (by decide) rfl (C.monoE H (fun o h6 _ x8 K => cont_R K (fun v7 H => ?_) (fun r HX => XR_nc rfl HX)))
    obtain ⟨k9, H⟩ := H
    refine r_castO (kv := 4) dX1_allMass_28 q1580 (by decide) (Or.inr rfl) k9 ?_
    refine r_astore_n dX1_allMass_31 rfl (Nat.le_of_ble_eq_true rfl) rfl (slS (slS (slS sl0))) ?_
    refine r_iload_n dX1_allMass_32 rfl rfl ?_
    refine r_aload_n dX1_allMass_33 rfl rfl ?_
    obtain ⟨k10, H⟩ := H
    refine r_getF fr_X1_175_4 (by decide) dX1_allMass_34 k10 (by decide) ?_
    refine r_iadd dX1_allMass_37 ?_
    refine r_istore_n dX1_allMass_38 rfl (Nat.le_of_ble_eq_true rfl) rfl (slS sl0) ?_
    refine r_goto (tgt := 13) dX1_allMass_39 rfl ?_
    exact R.forget H ⟨Or.inl rfl, ⟨Or.inl rfl, ⟨Or.inl rfl, ⟨Or.inr rfl, trivial⟩⟩⟩⟩
abbrev w_X1_allMass_0 (g : PG) (d : Nat) (l0 : Nat) (h : PH) (Q : Out → PH → Prop) : Prop := hkd h l0 = 1 ∧ hkd h (hG h 500 l0) = 2 ∧ hkd h (hG h 507 (hG h 500 l0)) = 13 ∧ C g d m_J2_iterator [.ref (hG h 507 (hG h 500 l0))] h (oR (fun v5 h4 => R g d m_X1_allMass 13 [.null, .int 0, .ref v5, .null] [] h4 Q) (fun r hx => Q (.inr r) hx))
theorem v_X1_allMass_0 {g : PG} {d : Nat} {l0 : Nat} {h : PH} {Q : Out → PH → Prop} (H : w_X1_allMass_0 g d l0 h Q) : R g d m_X1_allMass 0 [.ref l0, .null, .null, .null] [] h Q := by
  refine r_iconst dX1_allMass_0 rfl ?_
  refine r_istore_n dX1_allMass_1 rfl (Nat.le_of_ble_eq_true rfl) rfl (slS sl0) ?_
  refine r_aload_n dX1_allMass_2 rfl rfl ?_
  obtain ⟨k1, H⟩ := H
  refine r_getG fr_X1_37_1 (by decide) dX1_allMass_3 k1 (by decide) ?_
  obtain ⟨k2, H⟩ := H
  refine r_getG fr_X1_115_2 (by decide) dX1_allMass_6 k2 (by decide) ?_
  obtain ⟨k3, H⟩ := H
  refine r_invV (y := m_J2_iterator) dX1_allMass_9 rfl (lw_V q1551 q1552 q1553 q111 q1554) py_J2_iterator (Nat.le_of_ble_eq_true rfl) (args := []) rfl rfl (Nat.le_of_ble_eq_true rfl) k3 (by decide) rfl (C.monoE H (fun o h4 _ x6 K => cont_R K (fun v5 H => ?_) (fun r HX => XR_nc rfl HX)))
  refine r_astore_n dX1_allMass_12 rfl (Nat.le_of_ble_eq_true rfl) rfl (slS (slS sl0)) ?_
  exact R.forget H ⟨Or.inr rfl, ⟨Or.inl rfl, ⟨Or.inl rfl, ⟨Or.inl rfl, trivial⟩⟩⟩⟩
theorem c_X1_allMass_0 {g : PG} {d : Nat} {l0 : Nat} {h : PH} {Q : Out → PH → Prop} (H : w_X1_allMass_0 g d l0 h Q) : C g (d + 1) m_X1_allMass [.ref l0] h Q := C_of_R rfl rfl (Nat.le_of_ble_eq_true rfl) rfl (v_X1_allMass_0 H)
abbrev w_X1_allDripped_16 (g : PG) (d : Nat) (l1 : Int32) (l2 : Nat) (l3 : Int32) (l4 : Int32) (h : PH) (Q : Out → PH → Prop) : Prop := ((l3 ≤ l4) → Q (.inl (some (.int l1))) h) ∧ ((¬ l3 ≤ l4) → hkd h l2 / 100 = 7 ∧ vp_in l4 (hln h l2) ∧ hkd h (hB h l2 l4.toNatClampNeg) = 3 ∧ R g d m_X1_allDripped 16 [.null, .int (l1 + (hF h 5 (hB h l2 l4.toNatClampNeg))), .ref l2, .int l3, .int (l4 + 1), .null] [] h Q)
theorem v_X1_allDripped_16 {g : PG} {d : Nat} {l1 : Int32} {l2 : Nat} {l3 : Int32} {l4 : Int32} {h : PH} {Q : Out → PH → Prop} (H : w_X1_allDripped_16 g d l1 l2 l3 l4 h Q) : R g d m_X1_allDripped 16 [.null, .int l1, .ref l2, .int l3, .int l4, .null] [] h Q := by
  refine r_iload dX1_allDripped_16 rfl ?_
  refine r_iload_n dX1_allDripped_18 rfl rfl ?_
  refine r_icmp_ge (tgt := 42) dX1_allDripped_19 rfl (fun b1 => ?_) (fun b1 => ?_)
  · replace H := H.1 b1
    refine r_iload_n dX1_allDripped_42 rfl rfl ?_
    exact r_iret dX1_allDripped_43 rfl H
  · replace H := H.2 b1
    refine r_aload_n dX1_allDripped_22 rfl rfl ?_
    refine r_iload dX1_allDripped_23 rfl ?_
    obtain ⟨k2, H⟩ := H
    obtain ⟨k3, H⟩ := H
    refine r_aald dX1_allDripped_25 (m := 7) (by decide) k2 k3 ?_
    refine r_astore dX1_allDripped_26 (Nat.le_of_ble_eq_true rfl) rfl (slS (slS (slS (slS (slS sl0))))) ?_
    refine r_iload_n dX1_allDripped_28 rfl rfl ?_
    refine r_aload dX1_allDripped_29 rfl ?_
    obtain ⟨k4, H⟩ := H
    refine r_getF fr_X1_155_3 (by decide) dX1_allDripped_31 k4 (by decide) ?_
    refine r_iadd dX1_allDripped_34 ?_
    refine r_istore_n dX1_allDripped_35 rfl (Nat.le_of_ble_eq_true rfl) rfl (slS sl0) ?_
    refine r_iinc dX1_allDripped_36 rfl rfl (Nat.le_of_ble_eq_true rfl) rfl (slS (slS (slS (slS sl0)))) ?_
    refine r_goto (tgt := 16) dX1_allDripped_39 rfl ?_
    exact R.forget H ⟨Or.inl rfl, ⟨Or.inl rfl, ⟨Or.inl rfl, ⟨Or.inl rfl, ⟨Or.inl rfl, ⟨Or.inr rfl, trivial⟩⟩⟩⟩⟩⟩
abbrev w_X1_allDripped_0 (g : PG) (d : Nat) (l0 : Nat) (h : PH) (Q : Out → PH → Prop) : Prop := hkd h l0 = 1 ∧ hkd h (hG h 500 l0) = 2 ∧ hkd h (hG h 506 (hG h 500 l0)) / 100 = 7 ∧ R g d m_X1_allDripped 16 [.null, .int 0, .ref (hG h 506 (hG h 500 l0)), .int (nI (hln h (hG h 506 (hG h 500 l0)))), .int 0, .null] [] h Q
theorem v_X1_allDripped_0 {g : PG} {d : Nat} {l0 : Nat} {h : PH} {Q : Out → PH → Prop} (H : w_X1_allDripped_0 g d l0 h Q) : R g d m_X1_allDripped 0 [.ref l0, .null, .null, .null, .null, .null] [] h Q := by
  refine r_iconst dX1_allDripped_0 rfl ?_
  refine r_istore_n dX1_allDripped_1 rfl (Nat.le_of_ble_eq_true rfl) rfl (slS sl0) ?_
  refine r_aload_n dX1_allDripped_2 rfl rfl ?_
  obtain ⟨k1, H⟩ := H
  refine r_getG fr_X1_37_1 (by decide) dX1_allDripped_3 k1 (by decide) ?_
  obtain ⟨k2, H⟩ := H
  refine r_getG fr_X1_346_2 (by decide) dX1_allDripped_6 k2 (by decide) ?_
  refine r_astore_n dX1_allDripped_9 rfl (Nat.le_of_ble_eq_true rfl) rfl (slS (slS sl0)) ?_
  refine r_aload_n dX1_allDripped_10 rfl rfl ?_
  obtain ⟨k3, H⟩ := H
  refine r_alen (m := 7) dX1_allDripped_11 (by decide) k3 ?_
  refine r_istore_n dX1_allDripped_12 rfl (Nat.le_of_ble_eq_true rfl) rfl (slS (slS (slS sl0))) ?_
  refine r_iconst dX1_allDripped_13 rfl ?_
  refine r_istore dX1_allDripped_14 (Nat.le_of_ble_eq_true rfl) rfl (slS (slS (slS (slS sl0)))) ?_
  exact R.forget H ⟨Or.inr rfl, ⟨Or.inl rfl, ⟨Or.inl rfl, ⟨Or.inl rfl, ⟨Or.inl rfl, ⟨Or.inl rfl, trivial⟩⟩⟩⟩⟩⟩
theorem c_X1_allDripped_0 {g : PG} {d : Nat} {l0 : Nat} {h : PH} {Q : Out → PH → Prop} (H : w_X1_allDripped_0 g d l0 h Q) : C g (d + 1) m_X1_allDripped [.ref l0] h Q := C_of_R rfl rfl (Nat.le_of_ble_eq_true rfl) rfl (v_X1_allDripped_0 H)
abbrev w_X1_noses_13 (g : PG) (d : Nat) (l1 : Int32) (l2 : Nat) (h : PH) (Q : Out → PH → Prop) : Prop := hkd h l2 = 14 ∧ C g d m_J18_hasNext [.ref l2] h (oI (fun v3 h2 => ((v3 = 0) → Q (.inl (some (.int l1))) h2) ∧ ((¬ v3 = 0) → C g d m_J18_next [.ref l2] h2 (oR (fun v7 h6 => (v7 = 0 ∨ hkd h6 v7 = 4) ∧ hkd h6 v7 = 4 ∧ C g d m_X1_number [.int (hF h6 11 v7)] h6 (oI (fun v12 h11 => R g d m_X1_noses 13 [.null, .int (l1 + v12), .ref l2, .null] [] h11 Q) (fun r hx => Q (.inr r) hx))) (fun r hx => Q (.inr r) hx)))) (fun r hx => Q (.inr r) hx))
theorem v_X1_noses_13 {g : PG} {d : Nat} {l1 : Int32} {l2 : Nat} {h : PH} {Q : Out → PH → Prop} (H : w_X1_noses_13 g d l1 l2 h Q) : R g d m_X1_noses 13 [.null, .int l1, .ref l2, .null] [] h Q := by
  refine r_aload_n dX1_noses_13 rfl rfl ?_
  obtain ⟨k1, H⟩ := H
  refine r_invF (y := m_J18_hasNext) (Cn := "java/util/ArrayList$Itr") (x := ⟨"java/util/Iterator", "hasNext", "()Z"⟩) dX1_noses_14 rfl (lw_F q1577 q925 q927 q130 q929) fw_t2 (n := 0) (by decide +kernel) (Nat.le_of_ble_eq_true rfl) (args := []) rfl rfl (Nat.le_of_ble_eq_true rfl) k1 (by decide) rfl (C.monoE H (fun o h2 _ x4 K => cont_I K (fun v3 H => ?_) (fun r HX => XR_nc rfl HX)))
  refine r_if_eq (tgt := 45) dX1_noses_19 rfl (fun b5 => ?_) (fun b5 => ?_)
  · replace H := H.1 b5
    refine r_iload_n dX1_noses_45 rfl rfl ?_
    exact r_iret dX1_noses_46 rfl H
  · replace H := H.2 b5
    refine r_aload_n dX1_noses_22 rfl rfl ?_
    refine r_invF (y := m_J18_next) (Cn := "java/util/ArrayList$Itr") (x := ⟨"java/util/Iterator", "next", "()Ljava/lang/Object;"⟩) dX1_noses_23 rfl (lw_F q1579 q1167 q1169 q130 q1171) fw_t7 (n := 0) (by decide +kernel) (Nat.le_of_ble_eq_true rfl) (args := []) rfl rfl (Nat.le_of_ble_eq_true rfl) (x4.kd k1 (by decide)) (by decide) rfl (C.monoE H (fun o h6 _ x8 K => cont_R K (fun v7 H => ?_) (fun r HX => XR_nc rfl HX)))
    obtain ⟨k9, H⟩ := H
    refine r_castO (kv := 4) dX1_noses_28 q1580 (by decide) (Or.inr rfl) k9 ?_
    refine r_astore_n dX1_noses_31 rfl (Nat.le_of_ble_eq_true rfl) rfl (slS (slS (slS sl0))) ?_
    refine r_iload_n dX1_noses_32 rfl rfl ?_
    refine r_aload_n dX1_noses_33 rfl rfl ?_
    obtain ⟨k10, H⟩ := H
    refine r_getF fr_X1_178_4 (by decide) dX1_noses_34 k10 (by decide) ?_
    refine r_invS (y := m_X1_number) dX1_noses_37 rfl (lw_S q1589 q1534 q107 q1535) py_X1_number (Nat.le_of_ble_eq_true rfl) (args := [_]) rfl rfl (Nat.le_of_ble_eq_true rfl) (C.monoE H (fun o h11 _ x13 K => cont_I K (fun v12 H => ?_) (fun r HX => XR_nc rfl HX)))
    refine r_iadd dX1_noses_40 ?_
    refine r_istore_n dX1_noses_41 rfl (Nat.le_of_ble_eq_true rfl) rfl (slS sl0) ?_
    refine r_goto (tgt := 13) dX1_noses_42 rfl ?_
    exact R.forget H ⟨Or.inl rfl, ⟨Or.inl rfl, ⟨Or.inl rfl, ⟨Or.inr rfl, trivial⟩⟩⟩⟩
abbrev w_X1_noses_0 (g : PG) (d : Nat) (l0 : Nat) (h : PH) (Q : Out → PH → Prop) : Prop := hkd h l0 = 1 ∧ hkd h (hG h 500 l0) = 2 ∧ hkd h (hG h 507 (hG h 500 l0)) = 13 ∧ C g d m_J2_iterator [.ref (hG h 507 (hG h 500 l0))] h (oR (fun v5 h4 => R g d m_X1_noses 13 [.null, .int 0, .ref v5, .null] [] h4 Q) (fun r hx => Q (.inr r) hx))
theorem v_X1_noses_0 {g : PG} {d : Nat} {l0 : Nat} {h : PH} {Q : Out → PH → Prop} (H : w_X1_noses_0 g d l0 h Q) : R g d m_X1_noses 0 [.ref l0, .null, .null, .null] [] h Q := by
  refine r_iconst dX1_noses_0 rfl ?_
  refine r_istore_n dX1_noses_1 rfl (Nat.le_of_ble_eq_true rfl) rfl (slS sl0) ?_
  refine r_aload_n dX1_noses_2 rfl rfl ?_
  obtain ⟨k1, H⟩ := H
  refine r_getG fr_X1_37_1 (by decide) dX1_noses_3 k1 (by decide) ?_
  obtain ⟨k2, H⟩ := H
  refine r_getG fr_X1_115_2 (by decide) dX1_noses_6 k2 (by decide) ?_
  obtain ⟨k3, H⟩ := H
  refine r_invV (y := m_J2_iterator) dX1_noses_9 rfl (lw_V q1551 q1552 q1553 q111 q1554) py_J2_iterator (Nat.le_of_ble_eq_true rfl) (args := []) rfl rfl (Nat.le_of_ble_eq_true rfl) k3 (by decide) rfl (C.monoE H (fun o h4 _ x6 K => cont_R K (fun v5 H => ?_) (fun r HX => XR_nc rfl HX)))
  refine r_astore_n dX1_noses_12 rfl (Nat.le_of_ble_eq_true rfl) rfl (slS (slS sl0)) ?_
  exact R.forget H ⟨Or.inr rfl, ⟨Or.inl rfl, ⟨Or.inl rfl, ⟨Or.inl rfl, trivial⟩⟩⟩⟩
theorem c_X1_noses_0 {g : PG} {d : Nat} {l0 : Nat} {h : PH} {Q : Out → PH → Prop} (H : w_X1_noses_0 g d l0 h Q) : C g (d + 1) m_X1_noses [.ref l0] h Q := C_of_R rfl rfl (Nat.le_of_ble_eq_true rfl) rfl (v_X1_noses_0 H)
abbrev w_X1_lyingNoses_16 (g : PG) (d : Nat) (l1 : Int32) (l2 : Nat) (l3 : Int32) (l4 : Int32) (h : PH) (Q : Out → PH → Prop) : Prop := ((l3 ≤ l4) → Q (.inl (some (.int l1))) h) ∧ ((¬ l3 ≤ l4) → hkd h l2 / 100 = 7 ∧ vp_in l4 (hln h l2) ∧ hkd h (hB h l2 l4.toNatClampNeg) = 3 ∧ R g d m_X1_lyingNoses 16 [.null, .int (l1 + (hF h 6 (hB h l2 l4.toNatClampNeg))), .ref l2, .int l3, .int (l4 + 1), .null] [] h Q)
theorem v_X1_lyingNoses_16 {g : PG} {d : Nat} {l1 : Int32} {l2 : Nat} {l3 : Int32} {l4 : Int32} {h : PH} {Q : Out → PH → Prop} (H : w_X1_lyingNoses_16 g d l1 l2 l3 l4 h Q) : R g d m_X1_lyingNoses 16 [.null, .int l1, .ref l2, .int l3, .int l4, .null] [] h Q := by
  refine r_iload dX1_lyingNoses_16 rfl ?_
  refine r_iload_n dX1_lyingNoses_18 rfl rfl ?_
  refine r_icmp_ge (tgt := 42) dX1_lyingNoses_19 rfl (fun b1 => ?_) (fun b1 => ?_)
  · replace H := H.1 b1
    refine r_iload_n dX1_lyingNoses_42 rfl rfl ?_
    exact r_iret dX1_lyingNoses_43 rfl H
  · replace H := H.2 b1
    refine r_aload_n dX1_lyingNoses_22 rfl rfl ?_
    refine r_iload dX1_lyingNoses_23 rfl ?_
    obtain ⟨k2, H⟩ := H
    obtain ⟨k3, H⟩ := H
    refine r_aald dX1_lyingNoses_25 (m := 7) (by decide) k2 k3 ?_
    refine r_astore dX1_lyingNoses_26 (Nat.le_of_ble_eq_true rfl) rfl (slS (slS (slS (slS (slS sl0))))) ?_
    refine r_iload_n dX1_lyingNoses_28 rfl rfl ?_
    refine r_aload dX1_lyingNoses_29 rfl ?_
    obtain ⟨k4, H⟩ := H
    refine r_getF fr_X1_158_3 (by decide) dX1_lyingNoses_31 k4 (by decide) ?_
    refine r_iadd dX1_lyingNoses_34 ?_
    refine r_istore_n dX1_lyingNoses_35 rfl (Nat.le_of_ble_eq_true rfl) rfl (slS sl0) ?_
    refine r_iinc dX1_lyingNoses_36 rfl rfl (Nat.le_of_ble_eq_true rfl) rfl (slS (slS (slS (slS sl0)))) ?_
    refine r_goto (tgt := 16) dX1_lyingNoses_39 rfl ?_
    exact R.forget H ⟨Or.inl rfl, ⟨Or.inl rfl, ⟨Or.inl rfl, ⟨Or.inl rfl, ⟨Or.inl rfl, ⟨Or.inr rfl, trivial⟩⟩⟩⟩⟩⟩
abbrev w_X1_lyingNoses_0 (g : PG) (d : Nat) (l0 : Nat) (h : PH) (Q : Out → PH → Prop) : Prop := hkd h l0 = 1 ∧ hkd h (hG h 500 l0) = 2 ∧ hkd h (hG h 506 (hG h 500 l0)) / 100 = 7 ∧ R g d m_X1_lyingNoses 16 [.null, .int 0, .ref (hG h 506 (hG h 500 l0)), .int (nI (hln h (hG h 506 (hG h 500 l0)))), .int 0, .null] [] h Q
theorem v_X1_lyingNoses_0 {g : PG} {d : Nat} {l0 : Nat} {h : PH} {Q : Out → PH → Prop} (H : w_X1_lyingNoses_0 g d l0 h Q) : R g d m_X1_lyingNoses 0 [.ref l0, .null, .null, .null, .null, .null] [] h Q := by
  refine r_iconst dX1_lyingNoses_0 rfl ?_
  refine r_istore_n dX1_lyingNoses_1 rfl (Nat.le_of_ble_eq_true rfl) rfl (slS sl0) ?_
  refine r_aload_n dX1_lyingNoses_2 rfl rfl ?_
  obtain ⟨k1, H⟩ := H
  refine r_getG fr_X1_37_1 (by decide) dX1_lyingNoses_3 k1 (by decide) ?_
  obtain ⟨k2, H⟩ := H
  refine r_getG fr_X1_346_2 (by decide) dX1_lyingNoses_6 k2 (by decide) ?_
  refine r_astore_n dX1_lyingNoses_9 rfl (Nat.le_of_ble_eq_true rfl) rfl (slS (slS sl0)) ?_
  refine r_aload_n dX1_lyingNoses_10 rfl rfl ?_
  obtain ⟨k3, H⟩ := H
  refine r_alen (m := 7) dX1_lyingNoses_11 (by decide) k3 ?_
  refine r_istore_n dX1_lyingNoses_12 rfl (Nat.le_of_ble_eq_true rfl) rfl (slS (slS (slS sl0))) ?_
  refine r_iconst dX1_lyingNoses_13 rfl ?_
  refine r_istore dX1_lyingNoses_14 (Nat.le_of_ble_eq_true rfl) rfl (slS (slS (slS (slS sl0)))) ?_
  exact R.forget H ⟨Or.inr rfl, ⟨Or.inl rfl, ⟨Or.inl rfl, ⟨Or.inl rfl, ⟨Or.inl rfl, ⟨Or.inl rfl, trivial⟩⟩⟩⟩⟩⟩
theorem c_X1_lyingNoses_0 {g : PG} {d : Nat} {l0 : Nat} {h : PH} {Q : Out → PH → Prop} (H : w_X1_lyingNoses_0 g d l0 h Q) : C g (d + 1) m_X1_lyingNoses [.ref l0] h Q := C_of_R rfl rfl (Nat.le_of_ble_eq_true rfl) rfl (v_X1_lyingNoses_0 H)
abbrev w_X1_isAlike_47 (g : PG) (d : Nat) (l0 : Nat) (l1 : Nat) (l3 : Int32) (s0 : Int32) (s1 : Int32) (h : PH) (Q : Out → PH → Prop) : Prop := R g d m_X1_isAlike 4 [.ref l0, .ref l1, .int (s0 &&& s1), .int (l3 + 1)] [] h Q
theorem v_X1_isAlike_47 {g : PG} {d : Nat} {l0 : Nat} {l1 : Nat} {l3 : Int32} {s0 : Int32} {s1 : Int32} {h : PH} {Q : Out → PH → Prop} (H : w_X1_isAlike_47 g d l0 l1 l3 s0 s1 h Q) : R g d m_X1_isAlike 47 [.ref l0, .ref l1, .null, .int l3] [.int s1, .int s0] h Q := by
  refine r_iand dX1_isAlike_47 ?_
  refine r_istore_n dX1_isAlike_48 rfl (Nat.le_of_ble_eq_true rfl) rfl (slS (slS sl0)) ?_
  refine r_iinc dX1_isAlike_49 rfl rfl (Nat.le_of_ble_eq_true rfl) rfl (slS (slS (slS sl0))) ?_
  refine r_goto (tgt := 4) dX1_isAlike_52 rfl ?_
  exact H
abbrev w_X1_isAlike_4 (g : PG) (d : Nat) (l0 : Nat) (l1 : Nat) (l2 : Int32) (l3 : Int32) (h : PH) (Q : Out → PH → Prop) : Prop := hkd h l1 = 4 ∧ (((i32min (9 : Int32) ((11 : Int32) - (hF h 9 l1))) < l3) → narrow .boolean (.int l2) = .int l2 ∧ Q (.inl (some (.int l2))) h) ∧ ((¬ (i32min (9 : Int32) ((11 : Int32) - (hF h 9 l1))) < l3) → hkd h l0 = 1 ∧ hkd h (hG h 500 l0) = 2 ∧ C g d m_X2_massBehind [.ref (hG h 500 l0), .ref l1, .int l3] h (oI (fun v6 h5 => hkd h5 (hG h5 500 l0) = 2 ∧ C g d m_X2_massBehindAgain [.ref (hG h5 500 l0), .ref l1, .int l3] h5 (oI (fun v10 h9 => ((¬ v6 = v10) → w_X1_isAlike_47 g d l0 l1 l3 l2 (0 : Int32) h9 Q) ∧ ((v6 = v10) → w_X1_isAlike_47 g d l0 l1 l3 l2 (1 : Int32) h9 Q)) (fun r hx => Q (.inr r) hx))) (fun r hx => Q (.inr r) hx)))
theorem v_X1_isAlike_4 {g : PG} {d : Nat} {l0 : Nat} {l1 : Nat} {l2 : Int32} {l3 : Int32} {h : PH} {Q : Out → PH → Prop} (H : w_X1_isAlike_4 g d l0 l1 l2 l3 h Q) : R g d m_X1_isAlike 4 [.ref l0, .ref l1, .int l2, .int l3] [] h Q := by
  refine r_iload_n dX1_isAlike_4 rfl rfl ?_
  refine r_bipush dX1_isAlike_5 rfl ?_
  refine r_bipush dX1_isAlike_7 rfl ?_
  refine r_aload_n dX1_isAlike_9 rfl rfl ?_
  obtain ⟨k1, H⟩ := H
  refine r_getF fr_X1_136_4 (by decide) dX1_isAlike_10 k1 (by decide) ?_
  refine r_isub dX1_isAlike_13 ?_
  refine r_mmin dX1_isAlike_14 q1599 q485 q134 q486 (Nat.le_of_ble_eq_true rfl) ?_
  refine r_icmp_gt (tgt := 55) dX1_isAlike_17 rfl (fun b2 => ?_) (fun b2 => ?_)
  · replace H := H.1 b2
    refine r_iload_n dX1_isAlike_55 rfl rfl ?_
    exact r_zret dX1_isAlike_56 rfl H.1 H.2
  · replace H := H.2 b2
    refine r_iload_n dX1_isAlike_20 rfl rfl ?_
    refine r_aload_n dX1_isAlike_21 rfl rfl ?_
    obtain ⟨k3, H⟩ := H
    refine r_getG fr_X1_37_1 (by decide) dX1_isAlike_22 k3 (by decide) ?_
    refine r_aload_n dX1_isAlike_25 rfl rfl ?_
    refine r_iload_n dX1_isAlike_26 rfl rfl ?_
    obtain ⟨k4, H⟩ := H
    refine r_invV (y := m_X2_massBehind) dX1_isAlike_27 rfl (lw_V q1600 q1307 q1308 q108 q1309) py_X2_massBehind (Nat.le_of_ble_eq_true rfl) (args := [_, _]) rfl rfl (Nat.le_of_ble_eq_true rfl) k4 (by decide) rfl (C.monoE H (fun o h5 _ x7 K => cont_I K (fun v6 H => ?_) (fun r HX => XR_nc rfl HX)))
    refine r_aload_n dX1_isAlike_30 rfl rfl ?_
    refine r_getG fr_X1_37_1 (by decide) dX1_isAlike_31 (x7.kd k3 (by decide)) (by decide) ?_
    refine r_aload_n dX1_isAlike_34 rfl rfl ?_
    refine r_iload_n dX1_isAlike_35 rfl rfl ?_
    obtain ⟨k8, H⟩ := H
    refine r_invV (y := m_X2_massBehindAgain) dX1_isAlike_36 rfl (lw_V q1601 q1602 q1603 q108 q1604) py_X2_massBehindAgain (Nat.le_of_ble_eq_true rfl) (args := [_, _]) rfl rfl (Nat.le_of_ble_eq_true rfl) k8 (by decide) rfl (C.monoE H (fun o h9 _ x11 K => cont_I K (fun v10 H => ?_) (fun r HX => XR_nc rfl HX)))
    refine r_icmp_ne (tgt := 46) dX1_isAlike_39 rfl (fun b12 => ?_) (fun b12 => ?_)
    · replace H := H.1 b12
      refine r_iconst dX1_isAlike_46 rfl ?_
      exact R.forget (v_X1_isAlike_47 H) ⟨Or.inl rfl, ⟨Or.inl rfl, ⟨Or.inr rfl, ⟨Or.inl rfl, trivial⟩⟩⟩⟩
    · replace H := H.2 b12
      refine r_iconst dX1_isAlike_42 rfl ?_
      refine r_goto (tgt := 47) dX1_isAlike_43 rfl ?_
      exact R.forget (v_X1_isAlike_47 H) ⟨Or.inl rfl, ⟨Or.inl rfl, ⟨Or.inr rfl, ⟨Or.inl rfl, trivial⟩⟩⟩⟩
abbrev w_X1_isAlike_0 (g : PG) (d : Nat) (l0 : Nat) (l1 : Nat) (h : PH) (Q : Out → PH → Prop) : Prop := R g d m_X1_isAlike 4 [.ref l0, .ref l1, .int 1, .int 0] [] h Q
theorem v_X1_isAlike_0 {g : PG} {d : Nat} {l0 : Nat} {l1 : Nat} {h : PH} {Q : Out → PH → Prop} (H : w_X1_isAlike_0 g d l0 l1 h Q) : R g d m_X1_isAlike 0 [.ref l0, .ref l1, .null, .null] [] h Q := by
  refine r_iconst dX1_isAlike_0 rfl ?_
  refine r_istore_n dX1_isAlike_1 rfl (Nat.le_of_ble_eq_true rfl) rfl (slS (slS sl0)) ?_
  refine r_iconst dX1_isAlike_2 rfl ?_
  refine r_istore_n dX1_isAlike_3 rfl (Nat.le_of_ble_eq_true rfl) rfl (slS (slS (slS sl0))) ?_
  exact H
theorem c_X1_isAlike_0 {g : PG} {d : Nat} {l0 : Nat} {l1 : Nat} {h : PH} {Q : Out → PH → Prop} (H : w_X1_isAlike_0 g d l0 l1 h Q) : C g (d + 1) m_X1_isAlike [.ref l0, .ref l1] h Q := C_of_R rfl rfl (Nat.le_of_ble_eq_true rfl) rfl (v_X1_isAlike_0 H)
abbrev w_X1_standing_119 (g : PG) (d : Nat) (l1 : Int32) (l3 : Nat) (l5 : Nat) (h : PH) (Q : Out → PH → Prop) : Prop := hkd h l5 = 22 ∧ C g d m_J31_hasNext [.ref l5] h (oI (fun v3 h2 => ((v3 = 0) → hkd h2 l3 = 23 ∧ C g d m_J6_get [.ref l3, .int l1] h2 (oR (fun v8 h7 => (v8 = 0 ∨ ko h7 v8 30) ∧ ko h7 v8 30 ∧ C g d m_J26_intValue [.ref v8] h7 (oI (fun v14 h13 => Q (.inl (some (.int v14))) h13) (fun r hx => Q (.inr r) hx))) (fun r hx => Q (.inr r) hx))) ∧ ((¬ v3 = 0) → C g d m_J43_next [.ref l5] h2 (oR (fun v17 h16 => (v17 = 0 ∨ hkd h16 v17 = 23) ∧ hkd h16 l3 = 23 ∧ C g d m_J6_addAll [.ref l3, .ref v17] h16 (oI (fun v22 h21 => R g d m_X1_standing 119 [.null, .int l1, .null, .ref l3, .null, .ref l5, .null] [] h21 Q) (fun r hx => Q (.inr r) hx))) (fun r hx => Q (.inr r) hx)))) (fun r hx => Q (.inr r) hx))
theorem v_X1_standing_119 {g : PG} {d : Nat} {l1 : Int32} {l3 : Nat} {l5 : Nat} {h : PH} {Q : Out → PH → Prop} (H : w_X1_standing_119 g d l1 l3 l5 h Q) : R g d m_X1_standing 119 [.null, .int l1, .null, .ref l3, .null, .ref l5, .null] [] h Q := by
  refine r_aload dX1_standing_119 rfl ?_
  obtain ⟨k1, H⟩ := H
  refine r_invF (y := m_J31_hasNext) (Cn := "java/util/TreeMap$ValueIterator") (x := ⟨"java/util/Iterator", "hasNext", "()Z"⟩) dX1_standing_121 rfl (lw_F q1577 q959 q952 q145 q954) fw_t6 (n := 0) (by decide +kernel) (Nat.le_of_ble_eq_true rfl) (args := []) rfl rfl (Nat.le_of_ble_eq_true rfl) k1 (by decide) rfl (C.monoE H (fun o h2 _ x4 K => cont_I K (fun v3 H => ?_) (fun r HX => XR_nc rfl HX)))
  refine r_if_eq (tgt := 152) dX1_standing_126 rfl (fun b5 => ?_) (fun b5 => ?_)
  · replace H := H.1 b5
    refine r_aload_n dX1_standing_152 rfl rfl ?_
    refine r_iload_n dX1_standing_153 rfl rfl ?_
    obtain ⟨k6, H⟩ := H
    refine r_invV (y := m_J6_get) dX1_standing_154 rfl (lw_V q2044 q990 q3691 q115 q991) py_J6_get (Nat.le_of_ble_eq_true rfl) (args := [_]) rfl rfl (Nat.le_of_ble_eq_true rfl) k6 (by decide) rfl (C.monoE H (fun o h7 _ x9 K => cont_R K (fun v8 H => ?_) (fun r HX => XR_nc rfl HX)))
    obtain ⟨k10, H⟩ := H
    refine r_castOc (kv := 30) dX1_standing_157 q2045 (by decide) (Or.inr rfl) k10 ?_
    obtain ⟨k11, H⟩ := H
    obtain ⟨_, k12, k12a, k12b⟩ := ko_use (by decide) k11
    refine r_invV (y := m_J26_intValue) dX1_standing_160 rfl (lw_V q2046 q1251 q1252 q139 q1253) py_J26_intValue (Nat.le_of_ble_eq_true rfl) (args := []) rfl rfl (Nat.le_of_ble_eq_true rfl) k12 k12a (k12b.trans rfl) (C.monoE H (fun o h13 _ x15 K => cont_I K (fun v14 H => ?_) (fun r HX => XR_nc rfl HX)))
    exact r_iret dX1_standing_163 rfl H
  · replace H := H.2 b5
    refine r_aload dX1_standing_129 rfl ?_
    refine r_invF (y := m_J43_next) (Cn := "java/util/TreeMap$ValueIterator") (x := ⟨"java/util/Iterator", "next", "()Ljava/lang/Object;"⟩) dX1_standing_131 rfl (lw_F q1579 q1241 q1243 q159 q1245) fw_t11 (n := 0) (by decide +kernel) (Nat.le_of_ble_eq_true rfl) (args := []) rfl rfl (Nat.le_of_ble_eq_true rfl) (x4.kd k1 (by decide)) (by decide) rfl (C.monoE H (fun o h16 _ x18 K => cont_R K (fun v17 H => ?_) (fun r HX => XR_nc rfl HX)))
    obtain ⟨k19, H⟩ := H
    refine r_castO (kv := 23) dX1_standing_136 q1642 (by decide) (Or.inr rfl) k19 ?_
    refine r_astore dX1_standing_139 (Nat.le_of_ble_eq_true rfl) rfl (slS (slS (slS (slS (slS (slS sl0)))))) ?_
    refine r_aload_n dX1_standing_141 rfl rfl ?_
    refine r_aload dX1_standing_142 rfl ?_
    obtain ⟨k20, H⟩ := H
    refine r_invV (y := m_J6_addAll) dX1_standing_144 rfl (lw_V q1942 q1943 q1944 q115 q1945) py_J6_addAll (Nat.le_of_ble_eq_true rfl) (args := [_]) rfl rfl (Nat.le_of_ble_eq_true rfl) k20 (by decide) rfl (C.monoE H (fun o h21 _ x23 K => cont_I K (fun v22 H => ?_) (fun r HX => XR_nc rfl HX)))
    refine r_istore dX1_standing_147 (Nat.le_of_ble_eq_true rfl) rfl (slS (slS (slS (slS sl0)))) ?_
    refine r_goto (tgt := 119) dX1_standing_149 rfl ?_
    exact R.forget H ⟨Or.inl rfl, ⟨Or.inl rfl, ⟨Or.inl rfl, ⟨Or.inl rfl, ⟨Or.inr rfl, ⟨Or.inl rfl, ⟨Or.inr rfl, trivial⟩⟩⟩⟩⟩⟩⟩
abbrev w_X1_standing_64 (g : PG) (d : Nat) (l0 : Nat) (l1 : Int32) (l2 : Nat) (l3 : Int32) (s0 : Nat) (h : PH) (Q : Out → PH → Prop) : Prop := C g d m_J26_valueOf [.int l3] h (oR (fun v2 h1 => hkd h1 s0 = 23 ∧ C g d m_J6_addLast [.ref s0, .ref v2] h1 (oV (fun h5 => hkd h5 l0 = 1 ∧ C g d m_X1_keyOf [.ref l0, .int l3] h5 (oI (fun v10 h9 => C g d m_J26_valueOf [.int v10] h9 (oR (fun v13 h12 => hkd h12 l2 = 15 ∧ C g d m_J4_put [.ref l2, .ref v13, .ref s0] h12 (oR (fun v17 h16 => (v17 = 0 ∨ hkd h16 v17 = 23) ∧ R g d m_X1_standing 19 [.ref l0, .int l1, .ref l2, .int (l3 + 1), .null, .null, .null] [] h16 Q) (fun r hx => Q (.inr r) hx))) (fun r hx => Q (.inr r) hx))) (fun r hx => Q (.inr r) hx))) (fun r hx => Q (.inr r) hx))) (fun r hx => Q (.inr r) hx))
theorem v_X1_standing_64 {g : PG} {d : Nat} {l0 : Nat} {l1 : Int32} {l2 : Nat} {l3 : Int32} {s0 : Nat} {h : PH} {Q : Out → PH → Prop} (H : w_X1_standing_64 g d l0 l1 l2 l3 s0 h Q) : R g d m_X1_standing 64 [.ref l0, .int l1, .ref l2, .int l3, .null, .null, .null] [.ref s0] h Q := by
  refine r_astore dX1_standing_64 (Nat.le_of_ble_eq_true rfl) rfl (slS (slS (slS (slS sl0)))) ?_
  refine r_aload dX1_standing_66 rfl ?_
  refine r_iload_n dX1_standing_68 rfl rfl ?_
  refine r_invS (y := m_J26_valueOf) dX1_standing_69 rfl (lw_S q1639 q1255 q139 q1256) py_J26_valueOf (Nat.le_of_ble_eq_true rfl) (args := [_]) rfl rfl (Nat.le_of_ble_eq_true rfl) (C.monoE H (fun o h1 _ x3 K => cont_R K (fun v2 H => ?_) (fun r HX => XR_nc rfl HX)))
  obtain ⟨k4, H⟩ := H
  refine r_invV (y := m_J6_addLast) dX1_standing_72 rfl (lw_V q1644 q1645 q1646 q115 q1647) py_J6_addLast (Nat.le_of_ble_eq_true rfl) (args := [_]) rfl rfl (Nat.le_of_ble_eq_true rfl) k4 (by decide) rfl (C.monoE H (fun o h5 _ x7 K => cont_V K (fun H => ?_) (fun r HX => XR_nc rfl HX)))
  refine r_aload_n dX1_standing_75 rfl rfl ?_
  refine r_aload_n dX1_standing_76 rfl rfl ?_
  refine r_iload_n dX1_standing_77 rfl rfl ?_
  obtain ⟨k8, H⟩ := H
  refine r_invV (y := m_X1_keyOf) dX1_standing_78 rfl (lw_V q1620 q1622 qp10 q107 q1623) py_X1_keyOf (Nat.le_of_ble_eq_true rfl) (args := [_]) rfl rfl (Nat.le_of_ble_eq_true rfl) k8 (by decide) rfl (C.monoE H (fun o h9 _ x11 K => cont_I K (fun v10 H => ?_) (fun r HX => XR_nc rfl HX)))
  refine r_invS (y := m_J26_valueOf) dX1_standing_81 rfl (lw_S q1639 q1255 q139 q1256) py_J26_valueOf (Nat.le_of_ble_eq_true rfl) (args := [_]) rfl rfl (Nat.le_of_ble_eq_true rfl) (C.monoE H (fun o h12 _ x14 K => cont_R K (fun v13 H => ?_) (fun r HX => XR_nc rfl HX)))
  refine r_aload dX1_standing_84 rfl ?_
  obtain ⟨k15, H⟩ := H
  refine r_invV (y := m_J4_put) dX1_standing_86 rfl (lw_V q1673 q1674 q1675 q113 q1676) py_J4_put (Nat.le_of_ble_eq_true rfl) (args := [_, _]) rfl rfl (Nat.le_of_ble_eq_true rfl) k15 (by decide) rfl (C.monoE H (fun o h16 _ x18 K => cont_R K (fun v17 H => ?_) (fun r HX => XR_nc rfl HX)))
  obtain ⟨k19, H⟩ := H
  refine r_castO (kv := 23) dX1_standing_89 q1642 (by decide) (Or.inr rfl) k19 ?_
  refine r_astore dX1_standing_92 (Nat.le_of_ble_eq_true rfl) rfl (slS (slS (slS (slS (slS sl0))))) ?_
  refine r_iinc dX1_standing_94 rfl rfl (Nat.le_of_ble_eq_true rfl) rfl (slS (slS (slS sl0))) ?_
  refine r_goto (tgt := 19) dX1_standing_97 rfl ?_
  exact R.forget H ⟨Or.inl rfl, ⟨Or.inl rfl, ⟨Or.inl rfl, ⟨Or.inl rfl, ⟨Or.inr rfl, ⟨Or.inr rfl, ⟨Or.inl rfl, trivial⟩⟩⟩⟩⟩⟩⟩
abbrev w_X1_standing_19 (g : PG) (d : Nat) (l0 : Nat) (l1 : Int32) (l2 : Nat) (l3 : Int32) (h : PH) (Q : Out → PH → Prop) : Prop := (((3 : Int32) ≤ l3) → ∀ h2, h2 = hnew 23 0 5 h → 0 < (hnx h) ∧ C g d m_J6_init [.ref (hnx h)] h2 (oV (fun h4 => hkd h4 l2 = 15 ∧ C g d m_J4_values [.ref l2] h4 (oR (fun v9 h8 => hkd h8 v9 = 19 ∧ C g d m_J49_iterator [.ref v9] h8 (oR (fun v13 h12 => R g d m_X1_standing 119 [.null, .int l1, .null, .ref (hnx h), .null, .ref v13, .null] [] h12 Q) (fun r hx => Q (.inr r) hx))) (fun r hx => Q (.inr r) hx))) (fun r hx => Q (.inr r) hx))) ∧ ((¬ (3 : Int32) ≤ l3) → hkd h l0 = 1 ∧ C g d m_X1_keyOf [.ref l0, .int l3] h (oI (fun v17 h16 => C g d m_J26_valueOf [.int v17] h16 (oR (fun v20 h19 => hkd h19 l2 = 15 ∧ C g d m_J4_containsKey [.ref l2, .ref v20] h19 (oI (fun v24 h23 => ((v24 = 0) → ∀ h27, h27 = hnew 23 0 5 h23 → 0 < (hnx h23) ∧ C g d m_J6_init [.ref (hnx h23)] h27 (oV (fun h29 => w_X1_standing_64 g d l0 l1 l2 l3 (hnx h23) h29 Q) (fun r hx => Q (.inr r) hx))) ∧ ((¬ v24 = 0) → C g d m_X1_keyOf [.ref l0, .int l3] h23 (oI (fun v33 h32 => C g d m_J26_valueOf [.int v33] h32 (oR (fun v36 h35 => C g d m_J4_get [.ref l2, .ref v36] h35 (oR (fun v39 h38 => (v39 = 0 ∨ hkd h38 v39 = 23) ∧ w_X1_standing_64 g d l0 l1 l2 l3 v39 h38 Q) (fun r hx => Q (.inr r) hx))) (fun r hx => Q (.inr r) hx))) (fun r hx => Q (.inr r) hx)))) (fun r hx => Q (.inr r) hx))) (fun r hx => Q (.inr r) hx))) (fun r hx => Q (.inr r) hx)))
theorem v_X1_standing_19 {g : PG} {d : Nat} {l0 : Nat} {l1 : Int32} {l2 : Nat} {l3 : Int32} {h : PH} {Q : Out → PH → Prop} (H : w_X1_standing_19 g d l0 l1 l2 l3 h Q) : R g d m_X1_standing 19 [.ref l0, .int l1, .ref l2, .int l3, .null, .null, .null] [] h Q := by
  refine r_iload_n dX1_standing_19 rfl rfl ?_
  refine r_iconst dX1_standing_20 rfl ?_
  refine r_icmp_ge (tgt := 100) dX1_standing_21 rfl (fun b1 => ?_) (fun b1 => ?_)
  · replace H := H.1 b1
    replace H := H _ rfl
    refine r_new (ci := 23) dX1_standing_100 rfl (by decide) q1642 q264 q115 ?_
    refine r_dup dX1_standing_103 rfl ?_
    obtain ⟨k3, H⟩ := H
    refine r_invI (y := m_J6_init) dX1_standing_104 rfl rfl q267 q115 q1643 q266 rfl py_J6_init (Nat.le_of_ble_eq_true rfl) (args := []) rfl rfl (Nat.le_of_ble_eq_true rfl) k3 (C.monoE H (fun o h4 _ x6 K => cont_V K (fun H => ?_) (fun r HX => XR_nc rfl HX)))
    refine r_astore_n dX1_standing_107 rfl (Nat.le_of_ble_eq_true rfl) rfl (slS (slS (slS sl0))) ?_
    refine r_aload_n dX1_standing_108 rfl rfl ?_
    obtain ⟨k7, H⟩ := H
    refine r_invV (y := m_J4_values) dX1_standing_109 rfl (lw_V q1751 q1752 q1753 q113 q1754) py_J4_values (Nat.le_of_ble_eq_true rfl) (args := []) rfl rfl (Nat.le_of_ble_eq_true rfl) k7 (by decide) rfl (C.monoE H (fun o h8 _ x10 K => cont_R K (fun v9 H => ?_) (fun r HX => XR_nc rfl HX)))
    obtain ⟨k11, H⟩ := H
    refine r_invF (y := m_J49_iterator) (Cn := "java/util/TreeMap$Values") (x := ⟨"java/util/Collection", "iterator", "()Ljava/util/Iterator;"⟩) dX1_standing_112 rfl (lw_F q1766 q1925 q1927 q169 q1929) fw_t23 (n := 0) (by decide +kernel) (Nat.le_of_ble_eq_true rfl) (args := []) rfl rfl (Nat.le_of_ble_eq_true rfl) k11 (by decide) rfl (C.monoE H (fun o h12 _ x14 K => cont_R K (fun v13 H => ?_) (fun r HX => XR_nc rfl HX)))
    refine r_astore dX1_standing_117 (Nat.le_of_ble_eq_true rfl) rfl (slS (slS (slS (slS (slS sl0))))) ?_
    exact R.forget H ⟨Or.inr rfl, ⟨Or.inl rfl, ⟨Or.inr rfl, ⟨Or.inl rfl, ⟨Or.inl rfl, ⟨Or.inl rfl, ⟨Or.inl rfl, trivial⟩⟩⟩⟩⟩⟩⟩
  · replace H := H.2 b1
    refine r_aload_n dX1_standing_24 rfl rfl ?_
    refine r_aload_n dX1_standing_25 rfl rfl ?_
    refine r_iload_n dX1_standing_26 rfl rfl ?_
    obtain ⟨k15, H⟩ := H
    refine r_invV (y := m_X1_keyOf) dX1_standing_27 rfl (lw_V q1620 q1622 qp10 q107 q1623) py_X1_keyOf (Nat.le_of_ble_eq_true rfl) (args := [_]) rfl rfl (Nat.le_of_ble_eq_true rfl) k15 (by decide) rfl (C.monoE H (fun o h16 _ x18 K => cont_I K (fun v17 H => ?_) (fun r HX => XR_nc rfl HX)))
    refine r_invS (y := m_J26_valueOf) dX1_standing_30 rfl (lw_S q1639 q1255 q139 q1256) py_J26_valueOf (Nat.le_of_ble_eq_true rfl) (args := [_]) rfl rfl (Nat.le_of_ble_eq_true rfl) (C.monoE H (fun o h19 _ x21 K => cont_R K (fun v20 H => ?_) (fun r HX => XR_nc rfl HX)))
    obtain ⟨k22, H⟩ := H
    refine r_invV (y := m_J4_containsKey) dX1_standing_33 rfl (lw_V q1640 q1634 q1635 q113 q1636) py_J4_containsKey (Nat.le_of_ble_eq_true rfl) (args := [_]) rfl rfl (Nat.le_of_ble_eq_true rfl) k22 (by decide) rfl (C.monoE H (fun o h23 _ x25 K => cont_I K (fun v24 H => ?_) (fun r HX => XR_nc rfl HX)))
    refine r_if_eq (tgt := 57) dX1_standing_36 rfl (fun b26 => ?_) (fun b26 => ?_)
    · replace H := H.1 b26
      replace H := H _ rfl
      refine r_new (ci := 23) dX1_standing_57 rfl (by decide) q1642 q264 q115 ?_
      refine r_dup dX1_standing_60 rfl ?_
      obtain ⟨k28, H⟩ := H
      refine r_invI (y := m_J6_init) dX1_standing_61 rfl rfl q267 q115 q1643 q266 rfl py_J6_init (Nat.le_of_ble_eq_true rfl) (args := []) rfl rfl (Nat.le_of_ble_eq_true rfl) k28 (C.monoE H (fun o h29 _ x31 K => cont_V K (fun H => ?_) (fun r HX => XR_nc rfl HX)))
      exact v_X1_standing_64 H
    · replace H := H.2 b26
      refine r_aload_n dX1_standing_39 rfl rfl ?_
      refine r_aload_n dX1_standing_40 rfl rfl ?_
      refine r_iload_n dX1_standing_41 rfl rfl ?_
      refine r_invV (y := m_X1_keyOf) dX1_standing_42 rfl (lw_V q1620 q1622 qp10 q107 q1623) py_X1_keyOf (Nat.le_of_ble_eq_true rfl) (args := [_]) rfl rfl (Nat.le_of_ble_eq_true rfl) (x25.kd (x21.kd (x18.kd k15 (by decide)) (by decide)) (by decide)) (by decide) rfl (C.monoE H (fun o h32 _ x34 K => cont_I K (fun v33 H => ?_) (fun r HX => XR_nc rfl HX)))
      refine r_invS (y := m_J26_valueOf) dX1_standing_45 rfl (lw_S q1639 q1255 q139 q1256) py_J26_valueOf (Nat.le_of_ble_eq_true rfl) (args := [_]) rfl rfl (Nat.le_of_ble_eq_true rfl) (C.monoE H (fun o h35 _ x37 K => cont_R K (fun v36 H => ?_) (fun r HX => XR_nc rfl HX)))
      refine r_invV (y := m_J4_get) dX1_standing_48 rfl (lw_V q1641 q1275 q1276 q113 q1277) py_J4_get (Nat.le_of_ble_eq_true rfl) (args := [_]) rfl rfl (Nat.le_of_ble_eq_true rfl) (x37.kd (x34.kd (x25.kd k22 (by decide)) (by decide)) (by decide)) (by decide) rfl (C.monoE H (fun o h38 _ x40 K => cont_R K (fun v39 H => ?_) (fun r HX => XR_nc rfl HX)))
      obtain ⟨k41, H⟩ := H
      refine r_castO (kv := 23) dX1_standing_51 q1642 (by decide) (Or.inr rfl) k41 ?_
      refine r_goto (tgt := 64) dX1_standing_54 rfl ?_
      exact v_X1_standing_64 H
abbrev w_X1_standing_0 (g : PG) (d : Nat) (l0 : Nat) (l1 : Int32) (h : PH) (Q : Out → PH → Prop) : Prop := C g d m_X1_inRange [.int l1, .int 0, .int 2] h (oI (fun v2 h1 => C g d m_X1_checkFound [.int v2] h1 (oV (fun h4 => ∀ h7, h7 = hnew 15 0 10 h4 → 0 < (hnx h4) ∧ C g d m_J4_init [.ref (hnx h4)] h7 (oV (fun h9 => R g d m_X1_standing 19 [.ref l0, .int l1, .ref (hnx h4), .int 0, .null, .null, .null] [] h9 Q) (fun r hx => Q (.inr r) hx))) (fun r hx => Q (.inr r) hx))) (fun r hx => Q (.inr r) hx))
theorem v_X1_standing_0 {g : PG} {d : Nat} {l0 : Nat} {l1 : Int32} {h : PH} {Q : Out → PH → Prop} (H : w_X1_standing_0 g d l0 l1 h Q) : R g d m_X1_standing 0 [.ref l0, .int l1, .null, .null, .null, .null, .null] [] h Q := by
  refine r_iload_n dX1_standing_0 rfl rfl ?_
  refine r_iconst dX1_standing_1 rfl ?_
  refine r_iconst dX1_standing_2 rfl ?_
  refine r_invS (y := m_X1_inRange) dX1_standing_3 rfl (lw_S q1610 q1611 q107 q1612) py_X1_inRange (Nat.le_of_ble_eq_true rfl) (args := [_, _, _]) rfl rfl (Nat.le_of_ble_eq_true rfl) (C.monoE H (fun o h1 _ x3 K => cont_I K (fun v2 H => ?_) (fun r HX => XR_nc rfl HX)))
  refine r_invS (y := m_X1_checkFound) dX1_standing_6 rfl (lw_S q1613 q1614 q107 q1615) py_X1_checkFound (Nat.le_of_ble_eq_true rfl) (args := [_]) rfl rfl (Nat.le_of_ble_eq_true rfl) (C.monoE H (fun o h4 _ x6 K => cont_V K (fun H => ?_) (fun r HX => XR_nc rfl HX)))
  replace H := H _ rfl
  refine r_new (ci := 15) dX1_standing_9 rfl (by decide) q1618 q226 q113 ?_
  refine r_dup dX1_standing_12 rfl ?_
  obtain ⟨k8, H⟩ := H
  refine r_invI (y := m_J4_init) dX1_standing_13 rfl rfl q229 q113 q1619 q228 rfl py_J4_init (Nat.le_of_ble_eq_true rfl) (args := []) rfl rfl (Nat.le_of_ble_eq_true rfl) k8 (C.monoE H (fun o h9 _ x11 K => cont_V K (fun H => ?_) (fun r HX => XR_nc rfl HX)))
  refine r_astore_n dX1_standing_16 rfl (Nat.le_of_ble_eq_true rfl) rfl (slS (slS sl0)) ?_
  refine r_iconst dX1_standing_17 rfl ?_
  refine r_istore_n dX1_standing_18 rfl (Nat.le_of_ble_eq_true rfl) rfl (slS (slS (slS sl0))) ?_
  exact H
theorem c_X1_standing_0 {g : PG} {d : Nat} {l0 : Nat} {l1 : Int32} {h : PH} {Q : Out → PH → Prop} (H : w_X1_standing_0 g d l0 l1 h Q) : C g (d + 1) m_X1_standing [.ref l0, .int l1] h Q := C_of_R rfl rfl (Nat.le_of_ble_eq_true rfl) rfl (v_X1_standing_0 H)
abbrev w_X1_inRange_0 (g : PG) (d : Nat) (l0 : Int32) (l1 : Int32) (l2 : Int32) (h : PH) (Q : Out → PH → Prop) : Prop := ((l0 < l1) → Q (.inl (some (.int 0))) h) ∧ ((¬ l0 < l1) → ((l2 < l0) → Q (.inl (some (.int 0))) h) ∧ ((¬ l2 < l0) → Q (.inl (some (.int 1))) h))
theorem v_X1_inRange_0 {g : PG} {d : Nat} {l0 : Int32} {l1 : Int32} {l2 : Int32} {h : PH} {Q : Out → PH → Prop} (H : w_X1_inRange_0 g d l0 l1 l2 h Q) : R g d m_X1_inRange 0 [.int l0, .int l1, .int l2] [] h Q := by
  refine r_iload_n dX1_inRange_0 rfl rfl ?_
  refine r_iload_n dX1_inRange_1 rfl rfl ?_
  refine r_icmp_lt (tgt := 14) dX1_inRange_2 rfl (fun b1 => ?_) (fun b1 => ?_)
  · replace H := H.1 b1
    refine r_iconst dX1_inRange_14 rfl ?_
    exact r_zret dX1_inRange_15 rfl rfl H
  · replace H := H.2 b1
    refine r_iload_n dX1_inRange_5 rfl rfl ?_
    refine r_iload_n dX1_inRange_6 rfl rfl ?_
    refine r_icmp_gt (tgt := 14) dX1_inRange_7 rfl (fun b2 => ?_) (fun b2 => ?_)
    · replace H := H.1 b2
      refine r_iconst dX1_inRange_14 rfl ?_
      exact r_zret dX1_inRange_15 rfl rfl H
    · replace H := H.2 b2
      refine r_iconst dX1_inRange_10 rfl ?_
      refine r_goto (tgt := 15) dX1_inRange_11 rfl ?_
      exact r_zret dX1_inRange_15 rfl rfl H
theorem c_X1_inRange_0 {g : PG} {d : Nat} {l0 : Int32} {l1 : Int32} {l2 : Int32} {h : PH} {Q : Out → PH → Prop} (H : w_X1_inRange_0 g d l0 l1 l2 h Q) : C g (d + 1) m_X1_inRange [.int l0, .int l1, .int l2] h Q := C_of_R rfl rfl (Nat.le_of_ble_eq_true rfl) rfl (v_X1_inRange_0 H)
abbrev w_X1_checkFound_0 (g : PG) (d : Nat) (l0 : Int32) (h : PH) (Q : Out → PH → Prop) : Prop := ((¬ l0 = 0) → Q (.inl none) h) ∧ ((l0 = 0) → 5 ≤ d ∧ Q (.inr (hnx h)) (hnew 34 0 7 h))
theorem v_X1_checkFound_0 {g : PG} {d : Nat} {l0 : Int32} {h : PH} {Q : Out → PH → Prop} (H : w_X1_checkFound_0 g d l0 h Q) : R g d m_X1_checkFound 0 [.int l0] [] h Q := by
  refine r_iload_n dX1_checkFound_0 rfl rfl ?_
  refine r_if_ne (tgt := 12) dX1_checkFound_1 rfl (fun b1 => ?_) (fun b1 => ?_)
  · replace H := H.1 b1
    exact r_vret dX1_checkFound_12 rfl H
  · replace H := H.2 b1
    exact r_throw0 (kE := 34) (names := ["java/lang/RuntimeException", "java/lang/Exception"]) (by decide) dX1_checkFound_4 dX1_checkFound_7 dX1_checkFound_8 dX1_checkFound_11 (by decide +kernel) (by decide +kernel) tw_X1_19_21 rfl H.1 (Nat.le_of_ble_eq_true rfl) H.2
theorem c_X1_checkFound_0 {g : PG} {d : Nat} {l0 : Int32} {h : PH} {Q : Out → PH → Prop} (H : w_X1_checkFound_0 g d l0 h Q) : C g (d + 1) m_X1_checkFound [.int l0] h Q := C_of_R rfl rfl (Nat.le_of_ble_eq_true rfl) rfl (v_X1_checkFound_0 H)
abbrev w_X1_keyOf_0 (g : PG) (d : Nat) (l0 : Nat) (l1 : Int32) (h : PH) (Q : Out → PH → Prop) : Prop := hkd h l0 = 1 ∧ hkd h (hG h 500 l0) = 2 ∧ hkd h (hG h 509 (hG h 500 l0)) / 100 = 1 ∧ vp_in l1 (hln h (hG h 509 (hG h 500 l0))) ∧ (((hA h (hG h 509 (hG h 500 l0)) l1.toNatClampNeg) = (-1 : Int32)) → C g d m_X2_hatPlank [.ref (hG h 500 l0), .int l1] h (oI (fun v7 h6 => Q (.inl (some (.int (-v7)))) h6) (fun r hx => Q (.inr r) hx))) ∧ ((¬ (hA h (hG h 509 (hG h 500 l0)) l1.toNatClampNeg) = (-1 : Int32)) → Q (.inl (some (.int ((hA h (hG h 509 (hG h 500 l0)) l1.toNatClampNeg) - (1000000 : Int32))))) h)
theorem v_X1_keyOf_0 {g : PG} {d : Nat} {l0 : Nat} {l1 : Int32} {h : PH} {Q : Out → PH → Prop} (H : w_X1_keyOf_0 g d l0 l1 h Q) : R g d m_X1_keyOf 0 [.ref l0, .int l1, .null] [] h Q := by
  refine r_aload_n dX1_keyOf_0 rfl rfl ?_
  obtain ⟨k1, H⟩ := H
  refine r_getG fr_X1_37_1 (by decide) dX1_keyOf_1 k1 (by decide) ?_
  obtain ⟨k2, H⟩ := H
  refine r_getG fr_X1_206_2 (by decide) dX1_keyOf_4 k2 (by decide) ?_
  refine r_iload_n dX1_keyOf_7 rfl rfl ?_
  obtain ⟨k3, H⟩ := H
  obtain ⟨k4, H⟩ := H
  refine r_iald dX1_keyOf_8 k3 k4 ?_
  refine r_istore_n dX1_keyOf_9 rfl (Nat.le_of_ble_eq_true rfl) rfl (slS (slS sl0)) ?_
  refine r_iload_n dX1_keyOf_10 rfl rfl ?_
  refine r_iconst dX1_keyOf_11 rfl ?_
  refine r_icmp_eq (tgt := 23) dX1_keyOf_12 rfl (fun b5 => ?_) (fun b5 => ?_)
  · replace H := H.1 b5
    refine r_aload_n dX1_keyOf_23 rfl rfl ?_
    refine r_getG fr_X1_37_1 (by decide) dX1_keyOf_24 k1 (by decide) ?_
    refine r_iload_n dX1_keyOf_27 rfl rfl ?_
    refine r_invV (y := m_X2_hatPlank) dX1_keyOf_28 rfl (lw_V q1625 q1626 q1627 q108 q1628) py_X2_hatPlank (Nat.le_of_ble_eq_true rfl) (args := [_]) rfl rfl (Nat.le_of_ble_eq_true rfl) k2 (by decide) rfl (C.monoE H (fun o h6 _ x8 K => cont_I K (fun v7 H => ?_) (fun r HX => XR_nc rfl HX)))
    refine r_ineg dX1_keyOf_31 ?_
    exact r_iret dX1_keyOf_32 rfl H
  · replace H := H.2 b5
    refine r_iload_n dX1_keyOf_15 rfl rfl ?_
    refine r_ldcw dX1_keyOf_16 q1624 ?_
    refine r_isub dX1_keyOf_19 ?_
    refine r_goto (tgt := 32) dX1_keyOf_20 rfl ?_
    exact r_iret dX1_keyOf_32 rfl H
theorem c_X1_keyOf_0 {g : PG} {d : Nat} {l0 : Nat} {l1 : Int32} {h : PH} {Q : Out → PH → Prop} (H : w_X1_keyOf_0 g d l0 l1 h Q) : C g (d + 1) m_X1_keyOf [.ref l0, .int l1] h Q := C_of_R rfl rfl (Nat.le_of_ble_eq_true rfl) rfl (v_X1_keyOf_0 H)
abbrev w_X1_standingAgain_12 (g : PG) (d : Nat) (l0 : Nat) (l1 : Int32) (l2 : Int32) (l3 : Int32) (l4 : Int32) (h : PH) (Q : Out → PH → Prop) : Prop := (((3 : Int32) ≤ l4) → ((¬ l3 = l1) → R g d m_X1_standingAgain 2 [.ref l0, .int l1, .int (l2 + 1), .null, .null] [] h Q) ∧ ((l3 = l1) → Q (.inl (some (.int l2))) h)) ∧ ((¬ (3 : Int32) ≤ l4) → hkd h l0 = 1 ∧ C g d m_X1_standsAhead [.ref l0, .int l4, .int l2] h (oI (fun v5 h4 => C g d m_X1_number [.int v5] h4 (oI (fun v8 h7 => R g d m_X1_standingAgain 12 [.ref l0, .int l1, .int l2, .int (l3 + v8), .int (l4 + 1)] [] h7 Q) (fun r hx => Q (.inr r) hx))) (fun r hx => Q (.inr r) hx)))
theorem v_X1_standingAgain_12 {g : PG} {d : Nat} {l0 : Nat} {l1 : Int32} {l2 : Int32} {l3 : Int32} {l4 : Int32} {h : PH} {Q : Out → PH → Prop} (H : w_X1_standingAgain_12 g d l0 l1 l2 l3 l4 h Q) : R g d m_X1_standingAgain 12 [.ref l0, .int l1, .int l2, .int l3, .int l4] [] h Q := by
  refine r_iload dX1_standingAgain_12 rfl ?_
  refine r_iconst dX1_standingAgain_14 rfl ?_
  refine r_icmp_ge (tgt := 37) dX1_standingAgain_15 rfl (fun b1 => ?_) (fun b1 => ?_)
  · replace H := H.1 b1
    refine r_iload_n dX1_standingAgain_37 rfl rfl ?_
    refine r_iload_n dX1_standingAgain_38 rfl rfl ?_
    refine r_icmp_ne (tgt := 44) dX1_standingAgain_39 rfl (fun b2 => ?_) (fun b2 => ?_)
    · replace H := H.1 b2
      refine r_iinc dX1_standingAgain_44 rfl rfl (Nat.le_of_ble_eq_true rfl) rfl (slS (slS sl0)) ?_
      refine r_goto (tgt := 2) dX1_standingAgain_47 rfl ?_
      exact R.forget H ⟨Or.inl rfl, ⟨Or.inl rfl, ⟨Or.inl rfl, ⟨Or.inr rfl, ⟨Or.inr rfl, trivial⟩⟩⟩⟩⟩
    · replace H := H.2 b2
      refine r_iload_n dX1_standingAgain_42 rfl rfl ?_
      exact r_iret dX1_standingAgain_43 rfl H
  · replace H := H.2 b1
    refine r_iload_n dX1_standingAgain_18 rfl rfl ?_
    refine r_aload_n dX1_standingAgain_19 rfl rfl ?_
    refine r_iload dX1_standingAgain_20 rfl ?_
    refine r_iload_n dX1_standingAgain_22 rfl rfl ?_
    obtain ⟨k3, H⟩ := H
    refine r_invV (y := m_X1_standsAhead) dX1_standingAgain_23 rfl (lw_V q2051 q2053 qp23 q107 q2054) py_X1_standsAhead (Nat.le_of_ble_eq_true rfl) (args := [_, _]) rfl rfl (Nat.le_of_ble_eq_true rfl) k3 (by decide) rfl (C.monoE H (fun o h4 _ x6 K => cont_I K (fun v5 H => ?_) (fun r HX => XR_nc rfl HX)))
    refine r_invS (y := m_X1_number) dX1_standingAgain_26 rfl (lw_S q1589 q1534 q107 q1535) py_X1_number (Nat.le_of_ble_eq_true rfl) (args := [_]) rfl rfl (Nat.le_of_ble_eq_true rfl) (C.monoE H (fun o h7 _ x9 K => cont_I K (fun v8 H => ?_) (fun r HX => XR_nc rfl HX)))
    refine r_iadd dX1_standingAgain_29 ?_
    refine r_istore_n dX1_standingAgain_30 rfl (Nat.le_of_ble_eq_true rfl) rfl (slS (slS (slS sl0))) ?_
    refine r_iinc dX1_standingAgain_31 rfl rfl (Nat.le_of_ble_eq_true rfl) rfl (slS (slS (slS (slS sl0)))) ?_
    refine r_goto (tgt := 12) dX1_standingAgain_34 rfl ?_
    exact H
abbrev w_X1_standingAgain_2 (g : PG) (d : Nat) (l0 : Nat) (l1 : Int32) (l2 : Int32) (h : PH) (Q : Out → PH → Prop) : Prop := (((3 : Int32) ≤ l2) → 5 ≤ d ∧ Q (.inr (hnx h)) (hnew 34 0 7 h)) ∧ ((¬ (3 : Int32) ≤ l2) → R g d m_X1_standingAgain 12 [.ref l0, .int l1, .int l2, .int 0, .int 0] [] h Q)
theorem v_X1_standingAgain_2 {g : PG} {d : Nat} {l0 : Nat} {l1 : Int32} {l2 : Int32} {h : PH} {Q : Out → PH → Prop} (H : w_X1_standingAgain_2 g d l0 l1 l2 h Q) : R g d m_X1_standingAgain 2 [.ref l0, .int l1, .int l2, .null, .null] [] h Q := by
  refine r_iload_n dX1_standingAgain_2 rfl rfl ?_
  refine r_iconst dX1_standingAgain_3 rfl ?_
  refine r_icmp_ge (tgt := 50) dX1_standingAgain_4 rfl (fun b1 => ?_) (fun b1 => ?_)
  · replace H := H.1 b1
    exact r_throw0 (kE := 34) (names := ["java/lang/RuntimeException", "java/lang/Exception"]) (by decide) dX1_standingAgain_50 dX1_standingAgain_53 dX1_standingAgain_54 dX1_standingAgain_57 (by decide +kernel) (by decide +kernel) tw_X1_19_21 rfl H.1 (Nat.le_of_ble_eq_true rfl) H.2
  · replace H := H.2 b1
    refine r_iconst dX1_standingAgain_7 rfl ?_
    refine r_istore_n dX1_standingAgain_8 rfl (Nat.le_of_ble_eq_true rfl) rfl (slS (slS (slS sl0))) ?_
    refine r_iconst dX1_standingAgain_9 rfl ?_
    refine r_istore dX1_standingAgain_10 (Nat.le_of_ble_eq_true rfl) rfl (slS (slS (slS (slS sl0)))) ?_
    exact H
abbrev w_X1_standingAgain_0 (g : PG) (d : Nat) (l0 : Nat) (l1 : Int32) (h : PH) (Q : Out → PH → Prop) : Prop := R g d m_X1_standingAgain 2 [.ref l0, .int l1, .int 0, .null, .null] [] h Q
theorem v_X1_standingAgain_0 {g : PG} {d : Nat} {l0 : Nat} {l1 : Int32} {h : PH} {Q : Out → PH → Prop} (H : w_X1_standingAgain_0 g d l0 l1 h Q) : R g d m_X1_standingAgain 0 [.ref l0, .int l1, .null, .null, .null] [] h Q := by
  refine r_iconst dX1_standingAgain_0 rfl ?_
  refine r_istore_n dX1_standingAgain_1 rfl (Nat.le_of_ble_eq_true rfl) rfl (slS (slS sl0)) ?_
  exact H
theorem c_X1_standingAgain_0 {g : PG} {d : Nat} {l0 : Nat} {l1 : Int32} {h : PH} {Q : Out → PH → Prop} (H : w_X1_standingAgain_0 g d l0 l1 h Q) : C g (d + 1) m_X1_standingAgain [.ref l0, .int l1] h Q := C_of_R rfl rfl (Nat.le_of_ble_eq_true rfl) rfl (v_X1_standingAgain_0 H)
abbrev w_X1_standsAhead_0 (g : PG) (d : Nat) (l0 : Nat) (l1 : Int32) (l2 : Int32) (h : PH) (Q : Out → PH → Prop) : Prop := hkd h l0 = 1 ∧ C g d m_X1_keyOf [.ref l0, .int l1] h (oI (fun v3 h2 => C g d m_X1_keyOf [.ref l0, .int l2] h2 (oI (fun v6 h5 => ((v3 < v6) → Q (.inl (some (.int 1))) h5) ∧ ((¬ v3 < v6) → C g d m_X1_keyOf [.ref l0, .int l1] h5 (oI (fun v10 h9 => C g d m_X1_keyOf [.ref l0, .int l2] h9 (oI (fun v13 h12 => ((¬ v10 = v13) → Q (.inl (some (.int 0))) h12) ∧ ((v10 = v13) → ((l2 ≤ l1) → Q (.inl (some (.int 0))) h12) ∧ ((¬ l2 ≤ l1) → Q (.inl (some (.int 1))) h12))) (fun r hx => Q (.inr r) hx))) (fun r hx => Q (.inr r) hx)))) (fun r hx => Q (.inr r) hx))) (fun r hx => Q (.inr r) hx))
theorem v_X1_standsAhead_0 {g : PG} {d : Nat} {l0 : Nat} {l1 : Int32} {l2 : Int32} {h : PH} {Q : Out → PH → Prop} (H : w_X1_standsAhead_0 g d l0 l1 l2 h Q) : R g d m_X1_standsAhead 0 [.ref l0, .int l1, .int l2] [] h Q := by
  refine r_aload_n dX1_standsAhead_0 rfl rfl ?_
  refine r_iload_n dX1_standsAhead_1 rfl rfl ?_
  obtain ⟨k1, H⟩ := H
  refine r_invV (y := m_X1_keyOf) dX1_standsAhead_2 rfl (lw_V q1620 q1622 qp10 q107 q1623) py_X1_keyOf (Nat.le_of_ble_eq_true rfl) (args := [_]) rfl rfl (Nat.le_of_ble_eq_true rfl) k1 (by decide) rfl (C.monoE H (fun o h2 _ x4 K => cont_I K (fun v3 H => ?_) (fun r HX => XR_nc rfl HX)))
  refine r_aload_n dX1_standsAhead_5 rfl rfl ?_
  refine r_iload_n dX1_standsAhead_6 rfl rfl ?_
  refine r_invV (y := m_X1_keyOf) dX1_standsAhead_7 rfl (lw_V q1620 q1622 qp10 q107 q1623) py_X1_keyOf (Nat.le_of_ble_eq_true rfl) (args := [_]) rfl rfl (Nat.le_of_ble_eq_true rfl) (x4.kd k1 (by decide)) (by decide) rfl (C.monoE H (fun o h5 _ x7 K => cont_I K (fun v6 H => ?_) (fun r HX => XR_nc rfl HX)))
  refine r_icmp_lt (tgt := 31) dX1_standsAhead_10 rfl (fun b8 => ?_) (fun b8 => ?_)
  · replace H := H.1 b8
    refine r_iconst dX1_standsAhead_31 rfl ?_
    refine r_goto (tgt := 36) dX1_standsAhead_32 rfl ?_
    exact r_zret dX1_standsAhead_36 rfl rfl H
  · replace H := H.2 b8
    refine r_aload_n dX1_standsAhead_13 rfl rfl ?_
    refine r_iload_n dX1_standsAhead_14 rfl rfl ?_
    refine r_invV (y := m_X1_keyOf) dX1_standsAhead_15 rfl (lw_V q1620 q1622 qp10 q107 q1623) py_X1_keyOf (Nat.le_of_ble_eq_true rfl) (args := [_]) rfl rfl (Nat.le_of_ble_eq_true rfl) (x7.kd (x4.kd k1 (by decide)) (by decide)) (by decide) rfl (C.monoE H (fun o h9 _ x11 K => cont_I K (fun v10 H => ?_) (fun r HX => XR_nc rfl HX)))
    refine r_aload_n dX1_standsAhead_18 rfl rfl ?_
    refine r_iload_n dX1_standsAhead_19 rfl rfl ?_
    refine r_invV (y := m_X1_keyOf) dX1_standsAhead_20 rfl (lw_V q1620 q1622 qp10 q107 q1623) py_X1_keyOf (Nat.le_of_ble_eq_true rfl) (args := [_]) rfl rfl (Nat.le_of_ble_eq_true rfl) (x11.kd (x7.kd (x4.kd k1 (by decide)) (by decide)) (by decide)) (by decide) rfl (C.monoE H (fun o h12 _ x14 K => cont_I K (fun v13 H => ?_) (fun r HX => XR_nc rfl HX)))
    refine r_icmp_ne (tgt := 35) dX1_standsAhead_23 rfl (fun b15 => ?_) (fun b15 => ?_)
    · replace H := H.1 b15
      refine r_iconst dX1_standsAhead_35 rfl ?_
      exact r_zret dX1_standsAhead_36 rfl rfl H
    · replace H := H.2 b15
      refine r_iload_n dX1_standsAhead_26 rfl rfl ?_
      refine r_iload_n dX1_standsAhead_27 rfl rfl ?_
      refine r_icmp_ge (tgt := 35) dX1_standsAhead_28 rfl (fun b16 => ?_) (fun b16 => ?_)
      · replace H := H.1 b16
        refine r_iconst dX1_standsAhead_35 rfl ?_
        exact r_zret dX1_standsAhead_36 rfl rfl H
      · replace H := H.2 b16
        refine r_iconst dX1_standsAhead_31 rfl ?_
        refine r_goto (tgt := 36) dX1_standsAhead_32 rfl ?_
        exact r_zret dX1_standsAhead_36 rfl rfl H
theorem c_X1_standsAhead_0 {g : PG} {d : Nat} {l0 : Nat} {l1 : Int32} {l2 : Int32} {h : PH} {Q : Out → PH → Prop} (H : w_X1_standsAhead_0 g d l0 l1 l2 h Q) : C g (d + 1) m_X1_standsAhead [.ref l0, .int l1, .int l2] h Q := C_of_R rfl rfl (Nat.le_of_ble_eq_true rfl) rfl (v_X1_standsAhead_0 H)
abbrev w_X1_meanDegree_16 (g : PG) (d : Nat) (l1 : Int32) (l2 : Nat) (l3 : Int32) (l4 : Int32) (h : PH) (Q : Out → PH → Prop) : Prop := ((l3 ≤ l4) → vf_n64 (FP.ddiv (FP.i2d l1) (4622945017495814144 : UInt64)) ∧ Q (.inl (some (.double (FP.ddiv (FP.i2d l1) (4622945017495814144 : UInt64))))) h) ∧ ((¬ l3 ≤ l4) → hkd h l2 / 100 = 7 ∧ vp_in l4 (hln h l2) ∧ hkd h (hB h l2 l4.toNatClampNeg) = 3 ∧ R g d m_X1_meanDegree 16 [.null, .int (l1 + (hF h 4 (hB h l2 l4.toNatClampNeg))), .ref l2, .int l3, .int (l4 + 1), .null] [] h Q)
theorem v_X1_meanDegree_16 {g : PG} {d : Nat} {l1 : Int32} {l2 : Nat} {l3 : Int32} {l4 : Int32} {h : PH} {Q : Out → PH → Prop} (H : w_X1_meanDegree_16 g d l1 l2 l3 l4 h Q) : R g d m_X1_meanDegree 16 [.null, .int l1, .ref l2, .int l3, .int l4, .null] [] h Q := by
  refine r_iload dX1_meanDegree_16 rfl ?_
  refine r_iload_n dX1_meanDegree_18 rfl rfl ?_
  refine r_icmp_ge (tgt := 42) dX1_meanDegree_19 rfl (fun b1 => ?_) (fun b1 => ?_)
  · replace H := H.1 b1
    refine r_iload_n dX1_meanDegree_42 rfl rfl ?_
    refine r_i2d dX1_meanDegree_43 ?_
    refine r_ldc2d dX1_meanDegree_44 q2059 ?_
    obtain ⟨k2, H⟩ := H
    refine r_ddiv dX1_meanDegree_47 k2 ?_
    exact r_dret dX1_meanDegree_48 rfl H
  · replace H := H.2 b1
    refine r_aload_n dX1_meanDegree_22 rfl rfl ?_
    refine r_iload dX1_meanDegree_23 rfl ?_
    obtain ⟨k3, H⟩ := H
    obtain ⟨k4, H⟩ := H
    refine r_aald dX1_meanDegree_25 (m := 7) (by decide) k3 k4 ?_
    refine r_astore dX1_meanDegree_26 (Nat.le_of_ble_eq_true rfl) rfl (slS (slS (slS (slS (slS sl0))))) ?_
    refine r_iload_n dX1_meanDegree_28 rfl rfl ?_
    refine r_aload dX1_meanDegree_29 rfl ?_
    obtain ⟨k5, H⟩ := H
    refine r_getF fr_X1_150_3 (by decide) dX1_meanDegree_31 k5 (by decide) ?_
    refine r_iadd dX1_meanDegree_34 ?_
    refine r_istore_n dX1_meanDegree_35 rfl (Nat.le_of_ble_eq_true rfl) rfl (slS sl0) ?_
    refine r_iinc dX1_meanDegree_36 rfl rfl (Nat.le_of_ble_eq_true rfl) rfl (slS (slS (slS (slS sl0)))) ?_
    refine r_goto (tgt := 16) dX1_meanDegree_39 rfl ?_
    exact R.forget H ⟨Or.inl rfl, ⟨Or.inl rfl, ⟨Or.inl rfl, ⟨Or.inl rfl, ⟨Or.inl rfl, ⟨Or.inr rfl, trivial⟩⟩⟩⟩⟩⟩
abbrev w_X1_meanDegree_0 (g : PG) (d : Nat) (l0 : Nat) (h : PH) (Q : Out → PH → Prop) : Prop := hkd h l0 = 1 ∧ hkd h (hG h 500 l0) = 2 ∧ hkd h (hG h 506 (hG h 500 l0)) / 100 = 7 ∧ R g d m_X1_meanDegree 16 [.null, .int 0, .ref (hG h 506 (hG h 500 l0)), .int (nI (hln h (hG h 506 (hG h 500 l0)))), .int 0, .null] [] h Q
theorem v_X1_meanDegree_0 {g : PG} {d : Nat} {l0 : Nat} {h : PH} {Q : Out → PH → Prop} (H : w_X1_meanDegree_0 g d l0 h Q) : R g d m_X1_meanDegree 0 [.ref l0, .null, .null, .null, .null, .null] [] h Q := by
  refine r_iconst dX1_meanDegree_0 rfl ?_
  refine r_istore_n dX1_meanDegree_1 rfl (Nat.le_of_ble_eq_true rfl) rfl (slS sl0) ?_
  refine r_aload_n dX1_meanDegree_2 rfl rfl ?_
  obtain ⟨k1, H⟩ := H
  refine r_getG fr_X1_37_1 (by decide) dX1_meanDegree_3 k1 (by decide) ?_
  obtain ⟨k2, H⟩ := H
  refine r_getG fr_X1_346_2 (by decide) dX1_meanDegree_6 k2 (by decide) ?_
  refine r_astore_n dX1_meanDegree_9 rfl (Nat.le_of_ble_eq_true rfl) rfl (slS (slS sl0)) ?_
  refine r_aload_n dX1_meanDegree_10 rfl rfl ?_
  obtain ⟨k3, H⟩ := H
  refine r_alen (m := 7) dX1_meanDegree_11 (by decide) k3 ?_
  refine r_istore_n dX1_meanDegree_12 rfl (Nat.le_of_ble_eq_true rfl) rfl (slS (slS (slS sl0))) ?_
  refine r_iconst dX1_meanDegree_13 rfl ?_
  refine r_istore dX1_meanDegree_14 (Nat.le_of_ble_eq_true rfl) rfl (slS (slS (slS (slS sl0)))) ?_
  exact R.forget H ⟨Or.inr rfl, ⟨Or.inl rfl, ⟨Or.inl rfl, ⟨Or.inl rfl, ⟨Or.inl rfl, ⟨Or.inl rfl, trivial⟩⟩⟩⟩⟩⟩
theorem c_X1_meanDegree_0 {g : PG} {d : Nat} {l0 : Nat} {h : PH} {Q : Out → PH → Prop} (H : w_X1_meanDegree_0 g d l0 h Q) : C g (d + 1) m_X1_meanDegree [.ref l0] h Q := C_of_R rfl rfl (Nat.le_of_ble_eq_true rfl) rfl (v_X1_meanDegree_0 H)
abbrev w_X1_save_0 (g : PG) (d : Nat) (l0 : Nat) (h : PH) (Q : Out → PH → Prop) : Prop := ∀ h1, h1 = hnew 2 0 11 h → hkd h1 l0 = 1 ∧ 0 < (hnx h) ∧ C g d m_X2_init_2 [.ref (hnx h), .ref (hG h1 500 l0)] h1 (oV (fun h4 => ∀ h7, h7 = setG 501 l0 (hnx h) h4 → hkd h7 (hG h7 500 l0) = 2 ∧ hkd h7 (hG h7 507 (hG h7 500 l0)) = 13 ∧ C g d m_J2_size [.ref (hG h7 507 (hG h7 500 l0))] h7 (oI (fun v11 h10 => Q (.inl (some (.int v11))) h10) (fun r hx => Q (.inr r) hx))) (fun r hx => Q (.inr r) hx))
theorem v_X1_save_0 {g : PG} {d : Nat} {l0 : Nat} {h : PH} {Q : Out → PH → Prop} (H : w_X1_save_0 g d l0 h Q) : R g d m_X1_save 0 [.ref l0] [] h Q := by
  refine r_aload_n dX1_save_0 rfl rfl ?_
  replace H := H _ rfl
  refine r_new (ci := 2) dX1_save_1 rfl (by decide) q184 q185 q108 ?_
  refine r_dup dX1_save_4 rfl ?_
  refine r_aload_n dX1_save_5 rfl rfl ?_
  obtain ⟨k2, H⟩ := H
  refine r_getG fr_X1_37_1 (by decide) dX1_save_6 k2 (by decide) ?_
  obtain ⟨k3, H⟩ := H
  refine r_invI (y := m_X2_init_2) dX1_save_9 rfl rfl q2066 q108 q2064 q2065 rfl py_X2_init_2 (Nat.le_of_ble_eq_true rfl) (args := [_]) rfl rfl (Nat.le_of_ble_eq_true rfl) k3 (C.monoE H (fun o h4 _ x6 K => cont_V K (fun H => ?_) (fun r HX => XR_nc rfl HX)))
  replace H := H _ rfl
  refine r_putG fw_X1_478_1 (by decide) dX1_save_12 (x6.kd k2 (by decide)) (by decide) rfl ?_
  refine r_aload_n dX1_save_15 rfl rfl ?_
  refine r_getG fr_X1_37_1 (by decide) dX1_save_16 (x6.kd k2 (by decide)) (by decide) ?_
  obtain ⟨k8, H⟩ := H
  refine r_getG fr_X1_115_2 (by decide) dX1_save_19 k8 (by decide) ?_
  obtain ⟨k9, H⟩ := H
  refine r_invV (y := m_J2_size) dX1_save_22 rfl (lw_V q1594 q913 q3681 q111 q914) py_J2_size (Nat.le_of_ble_eq_true rfl) (args := []) rfl rfl (Nat.le_of_ble_eq_true rfl) k9 (by decide) rfl (C.monoE H (fun o h10 _ x12 K => cont_I K (fun v11 H => ?_) (fun r HX => XR_nc rfl HX)))
  exact r_iret dX1_save_25 rfl H
theorem c_X1_save_0 {g : PG} {d : Nat} {l0 : Nat} {h : PH} {Q : Out → PH → Prop} (H : w_X1_save_0 g d l0 h Q) : C g (d + 1) m_X1_save [.ref l0] h Q := C_of_R rfl rfl (Nat.le_of_ble_eq_true rfl) rfl (v_X1_save_0 H)
abbrev w_X1_come_0 (g : PG) (d : Nat) (l0 : Nat) (l1 : Int32) (l2 : Int32) (l3 : Int32) (h : PH) (Q : Out → PH → Prop) : Prop := ∀ h1, h1 = hnew 6 0 5 h → 0 < (hnx h) ∧ C g d m_X5_init [.ref (hnx h), .ref (gSr g 14 + 1), .int l1, .int l2, .int l3] h1 (oV (fun h3 => hkd h3 l0 = 1 ∧ C g d m_X1_carryOut [.ref l0, .ref (hnx h)] h3 (oI (fun v8 h7 => Q (.inl (some (.int v8))) h7) (fun r hx => Q (.inr r) hx))) (fun r hx => Q (.inr r) hx))
theorem v_X1_come_0 {g : PG} {d : Nat} {l0 : Nat} {l1 : Int32} {l2 : Int32} {l3 : Int32} {h : PH} {Q : Out → PH → Prop} (H : w_X1_come_0 g d l0 l1 l2 l3 h Q) : R g d m_X1_come 0 [.ref l0, .int l1, .int l2, .int l3] [] h Q := by
  refine r_aload_n dX1_come_0 rfl rfl ?_
  replace H := H _ rfl
  refine r_new (ci := 6) dX1_come_1 rfl (by decide) q2292 q2293 q129 ?_
  refine r_dup dX1_come_4 rfl ?_
  refine r_ldcS (n := 14) dX1_come_5 rfl ?_
  refine r_iload_n dX1_come_7 rfl rfl ?_
  refine r_iload_n dX1_come_8 rfl rfl ?_
  refine r_iload_n dX1_come_9 rfl rfl ?_
  obtain ⟨k2, H⟩ := H
  refine r_invIN (y := m_X5_init) dX1_come_10 rfl rfl q2295 q2297 q129 q2296 rfl py_X5_init (Nat.le_of_ble_eq_true rfl) (args := [_, _, _, _]) rfl rfl (Nat.le_of_ble_eq_true rfl) k2 (C.monoE H (fun o h3 _ x5 K => cont_V K (fun H => ?_) (fun r HX => XR_nc rfl HX)))
  obtain ⟨k6, H⟩ := H
  refine r_invVW (y := m_X1_carryOut) dX1_come_13 (fun h => by cases h) (lw_VW q2315 q2317 qp29 q107 q2318) py_X1_carryOut (Nat.le_of_ble_eq_true rfl) (args := [_]) rfl rfl (Nat.le_of_ble_eq_true rfl) k6 (by decide) rfl (C.monoE H (fun o h7 _ x9 K => cont_I K (fun v8 H => ?_) (fun r HX => XR_nc rfl HX)))
  exact r_iret dX1_come_16 rfl H
theorem c_X1_come_0 {g : PG} {d : Nat} {l0 : Nat} {l1 : Int32} {l2 : Int32} {l3 : Int32} {h : PH} {Q : Out → PH → Prop} (H : w_X1_come_0 g d l0 l1 l2 l3 h Q) : C g (d + 1) m_X1_come [.ref l0, .int l1, .int l2, .int l3] h Q := C_of_R rfl rfl (Nat.le_of_ble_eq_true rfl) rfl (v_X1_come_0 H)
abbrev w_X1_carryOut_25 (g : PG) (d : Nat) (l0 : Nat) (s0 : Nat) (h : PH) (Q : Out → PH → Prop) : Prop := hkd h l0 = 1 ∧ C g d m_X1_refused [.ref l0, .ref s0] h (oI (fun v3 h2 => Q (.inl (some (.int v3))) h2) (fun r hx => Q (.inr r) hx))
theorem v_X1_carryOut_25 {g : PG} {d : Nat} {l0 : Nat} {s0 : Nat} {h : PH} {Q : Out → PH → Prop} (H : w_X1_carryOut_25 g d l0 s0 h Q) : R g d m_X1_carryOut 25 [.ref l0, .null, .null, .null] [.ref s0] h Q := by
  refine r_astore_n dX1_carryOut_25 rfl (Nat.le_of_ble_eq_true rfl) rfl (slS (slS (slS sl0))) ?_
  refine r_aload_n dX1_carryOut_26 rfl rfl ?_
  refine r_aload_n dX1_carryOut_27 rfl rfl ?_
  obtain ⟨k1, H⟩ := H
  refine r_invV (y := m_X1_refused) dX1_carryOut_28 rfl (lw_V q2615 q2617 qp43 q107 q2618) py_X1_refused (Nat.le_of_ble_eq_true rfl) (args := [_]) rfl rfl (Nat.le_of_ble_eq_true rfl) k1 (by decide) rfl (C.monoE H (fun o h2 _ x4 K => cont_I K (fun v3 H => ?_) (fun r HX => XR_nc rfl HX)))
  exact r_iret dX1_carryOut_31 rfl H
abbrev w_X1_carryOut_0 (g : PG) (d : Nat) (l0 : Nat) (l1 : Nat) (h : PH) (Q : Out → PH → Prop) : Prop := ∀ h1, h1 = hnew 2 0 11 h → hkd h1 l0 = 1 ∧ 0 < (hnx h) ∧ C g d m_X2_init_2 [.ref (hnx h), .ref (hG h1 500 l0)] h1 (oV (fun h4 => hkd h4 l1 = 6 ∧ C g d m_X5_carryOut [.ref l1, .ref (hnx h)] h4 (oI (fun v9 h8 => C g d m_X1_change [.ref l0, .ref (hnx h)] h8 (oV (fun h11 => Q (.inl (some (.int v9))) h11) (fun r hx => XR g d m_X1_carryOut 20 [.ref l0, .ref l1, .ref (hnx h), .int v9] r hx Q))) (fun r hx => XR g d m_X1_carryOut 14 [.ref l0, .ref l1, .ref (hnx h), .null] r hx Q))) (fun r hx => Q (.inr r) hx))
theorem v_X1_carryOut_0 {g : PG} {d : Nat} {l0 : Nat} {l1 : Nat} {h : PH} {Q : Out → PH → Prop} (H : w_X1_carryOut_0 g d l0 l1 h Q) : R g d m_X1_carryOut 0 [.ref l0, .ref l1, .null, .null] [] h Q := by
  replace H := H _ rfl
  refine r_new (ci := 2) dX1_carryOut_0 rfl (by decide) q184 q185 q108 ?_
  refine r_dup dX1_carryOut_3 rfl ?_
  refine r_aload_n dX1_carryOut_4 rfl rfl ?_
  obtain ⟨k2, H⟩ := H
  refine r_getG fr_X1_37_1 (by decide) dX1_carryOut_5 k2 (by decide) ?_
  obtain ⟨k3, H⟩ := H
  refine r_invI (y := m_X2_init_2) dX1_carryOut_8 rfl rfl q2066 q108 q2064 q2065 rfl py_X2_init_2 (Nat.le_of_ble_eq_true rfl) (args := [_]) rfl rfl (Nat.le_of_ble_eq_true rfl) k3 (C.monoE H (fun o h4 _ x6 K => cont_V K (fun H => ?_) (fun r HX => XR_nc rfl HX)))
  refine r_astore_n dX1_carryOut_11 rfl (Nat.le_of_ble_eq_true rfl) rfl (slS (slS sl0)) ?_
  refine r_aload_n dX1_carryOut_12 rfl rfl ?_
  refine r_aload_n dX1_carryOut_13 rfl rfl ?_
  obtain ⟨k7, H⟩ := H
  refine r_invV (y := m_X5_carryOut) dX1_carryOut_14 rfl (lw_V q2320 q2321 q2322 q129 q2323) py_X5_carryOut (Nat.le_of_ble_eq_true rfl) (args := [_]) rfl rfl (Nat.le_of_ble_eq_true rfl) k7 (by decide) rfl (C.monoE H (fun o h8 _ x10 K => cont_I K (fun v9 H => ?_) (fun r HX => HX)))
  refine r_istore_n dX1_carryOut_17 rfl (Nat.le_of_ble_eq_true rfl) rfl (slS (slS (slS sl0))) ?_
  refine r_aload_n dX1_carryOut_18 rfl rfl ?_
  refine r_aload_n dX1_carryOut_19 rfl rfl ?_
  refine r_invV (y := m_X1_change) dX1_carryOut_20 rfl (lw_V q2573 q2575 qp40 q107 q2576) py_X1_change (Nat.le_of_ble_eq_true rfl) (args := [_]) rfl rfl (Nat.le_of_ble_eq_true rfl) (x10.kd (x6.kd k2 (by decide)) (by decide)) (by decide) rfl (C.monoE H (fun o h11 _ x13 K => cont_V K (fun H => ?_) (fun r HX => HX)))
  refine r_iload_n dX1_carryOut_23 rfl rfl ?_
  exact r_iret dX1_carryOut_24 rfl H
theorem c_X1_carryOut_0 {g : PG} {d : Nat} {l0 : Nat} {l1 : Nat} {h : PH} {Q : Out → PH → Prop} (H : w_X1_carryOut_0 g d l0 l1 h Q) : C g (d + 1) m_X1_carryOut [.ref l0, .ref l1] h Q := C_of_R rfl rfl (Nat.le_of_ble_eq_true rfl) rfl (v_X1_carryOut_0 H)
abbrev w_X1_checkIndex_0 (g : PG) (d : Nat) (l0 : Int32) (l1 : Int32) (h : PH) (Q : Out → PH → Prop) : Prop := C g d m_X1_inRange [.int l0, .int 0, .int (l1 - (1 : Int32))] h (oI (fun v2 h1 => ((¬ v2 = 0) → Q (.inl none) h1) ∧ ((v2 = 0) → 5 ≤ d ∧ Q (.inr (hnx h1)) (hnew 33 0 7 h1))) (fun r hx => Q (.inr r) hx))
theorem v_X1_checkIndex_0 {g : PG} {d : Nat} {l0 : Int32} {l1 : Int32} {h : PH} {Q : Out → PH → Prop} (H : w_X1_checkIndex_0 g d l0 l1 h Q) : R g d m_X1_checkIndex 0 [.int l0, .int l1] [] h Q := by
  refine r_iload_n dX1_checkIndex_0 rfl rfl ?_
  refine r_iconst dX1_checkIndex_1 rfl ?_
  refine r_iload_n dX1_checkIndex_2 rfl rfl ?_
  refine r_iconst dX1_checkIndex_3 rfl ?_
  refine r_isub dX1_checkIndex_4 ?_
  refine r_invS (y := m_X1_inRange) dX1_checkIndex_5 rfl (lw_S q1610 q1611 q107 q1612) py_X1_inRange (Nat.le_of_ble_eq_true rfl) (args := [_, _, _]) rfl rfl (Nat.le_of_ble_eq_true rfl) (C.monoE H (fun o h1 _ x3 K => cont_I K (fun v2 H => ?_) (fun r HX => XR_nc rfl HX)))
  refine r_if_ne (tgt := 19) dX1_checkIndex_8 rfl (fun b4 => ?_) (fun b4 => ?_)
  · replace H := H.1 b4
    exact r_vret dX1_checkIndex_19 rfl H
  · replace H := H.2 b4
    exact r_throw0 (kE := 33) (names := ["java/lang/RuntimeException", "java/lang/Exception"]) (by decide) dX1_checkIndex_11 dX1_checkIndex_14 dX1_checkIndex_15 dX1_checkIndex_18 (by decide +kernel) (by decide +kernel) tw_X1_16_18 rfl H.1 (Nat.le_of_ble_eq_true rfl) H.2
theorem c_X1_checkIndex_0 {g : PG} {d : Nat} {l0 : Int32} {l1 : Int32} {h : PH} {Q : Out → PH → Prop} (H : w_X1_checkIndex_0 g d l0 l1 h Q) : C g (d + 1) m_X1_checkIndex [.int l0, .int l1] h Q := C_of_R rfl rfl (Nat.le_of_ble_eq_true rfl) rfl (v_X1_checkIndex_0 H)
abbrev w_X1_checkTeam_0 (g : PG) (d : Nat) (l0 : Int32) (h : PH) (Q : Out → PH → Prop) : Prop := C g d m_X1_inRange [.int l0, .int 0, .int 2] h (oI (fun v2 h1 => C g d m_X1_checkArgument [.int v2] h1 (oV (fun h4 => Q (.inl none) h4) (fun r hx => Q (.inr r) hx))) (fun r hx => Q (.inr r) hx))
theorem v_X1_checkTeam_0 {g : PG} {d : Nat} {l0 : Int32} {h : PH} {Q : Out → PH → Prop} (H : w_X1_checkTeam_0 g d l0 h Q) : R g d m_X1_checkTeam 0 [.int l0] [] h Q := by
  refine r_iload_n dX1_checkTeam_0 rfl rfl ?_
  refine r_iconst dX1_checkTeam_1 rfl ?_
  refine r_iconst dX1_checkTeam_2 rfl ?_
  refine r_invS (y := m_X1_inRange) dX1_checkTeam_3 rfl (lw_S q1610 q1611 q107 q1612) py_X1_inRange (Nat.le_of_ble_eq_true rfl) (args := [_, _, _]) rfl rfl (Nat.le_of_ble_eq_true rfl) (C.monoE H (fun o h1 _ x3 K => cont_I K (fun v2 H => ?_) (fun r HX => XR_nc rfl HX)))
  refine r_invS (y := m_X1_checkArgument) dX1_checkTeam_6 rfl (lw_S q2406 q2407 q107 q2408) py_X1_checkArgument (Nat.le_of_ble_eq_true rfl) (args := [_]) rfl rfl (Nat.le_of_ble_eq_true rfl) (C.monoE H (fun o h4 _ x6 K => cont_V K (fun H => ?_) (fun r HX => XR_nc rfl HX)))
  exact r_vret dX1_checkTeam_9 rfl H
theorem c_X1_checkTeam_0 {g : PG} {d : Nat} {l0 : Int32} {h : PH} {Q : Out → PH → Prop} (H : w_X1_checkTeam_0 g d l0 h Q) : C g (d + 1) m_X1_checkTeam [.int l0] h Q := C_of_R rfl rfl (Nat.le_of_ble_eq_true rfl) rfl (v_X1_checkTeam_0 H)
abbrev w_X1_checkArgument_0 (g : PG) (d : Nat) (l0 : Int32) (h : PH) (Q : Out → PH → Prop) : Prop := ((¬ l0 = 0) → Q (.inl none) h) ∧ ((l0 = 0) → 5 ≤ d ∧ Q (.inr (hnx h)) (hnew 31 0 7 h))
theorem v_X1_checkArgument_0 {g : PG} {d : Nat} {l0 : Int32} {h : PH} {Q : Out → PH → Prop} (H : w_X1_checkArgument_0 g d l0 h Q) : R g d m_X1_checkArgument 0 [.int l0] [] h Q := by
  refine r_iload_n dX1_checkArgument_0 rfl rfl ?_
  refine r_if_ne (tgt := 12) dX1_checkArgument_1 rfl (fun b1 => ?_) (fun b1 => ?_)
  · replace H := H.1 b1
    exact r_vret dX1_checkArgument_12 rfl H
  · replace H := H.2 b1
    exact r_throw0 (kE := 31) (names := ["java/lang/RuntimeException", "java/lang/Exception"]) (by decide) dX1_checkArgument_4 dX1_checkArgument_7 dX1_checkArgument_8 dX1_checkArgument_11 (by decide +kernel) (by decide +kernel) tw_X1_1_3 rfl H.1 (Nat.le_of_ble_eq_true rfl) H.2
theorem c_X1_checkArgument_0 {g : PG} {d : Nat} {l0 : Int32} {h : PH} {Q : Out → PH → Prop} (H : w_X1_checkArgument_0 g d l0 h Q) : C g (d + 1) m_X1_checkArgument [.int l0] h Q := C_of_R rfl rfl (Nat.le_of_ble_eq_true rfl) rfl (v_X1_checkArgument_0 H)
abbrev w_X1_refuse_0 (g : PG) (d : Nat) (l0 : Int32) (l1 : Int32) (l2 : Int32) (h : PH) (Q : Out → PH → Prop) : Prop := ((l0 = 0) → Q (.inl none) h) ∧ ((¬ l0 = 0) → ∀ h2, h2 = hnew 7 0 9 h → 0 < (hnx h) ∧ C g d m_X7_init [.ref (hnx h), .int l1, .int l2] h2 (oV (fun h4 => (hkd h4 (hnx h) ≠ 0 ∧ hkd h4 (hnx h) < 100) ∧ Q (.inr (hnx h)) h4) (fun r hx => Q (.inr r) hx)))
theorem v_X1_refuse_0 {g : PG} {d : Nat} {l0 : Int32} {l1 : Int32} {l2 : Int32} {h : PH} {Q : Out → PH → Prop} (H : w_X1_refuse_0 g d l0 l1 l2 h Q) : R g d m_X1_refuse 0 [.int l0, .int l1, .int l2] [] h Q := by
  refine r_iload_n dX1_refuse_0 rfl rfl ?_
  refine r_if_eq (tgt := 14) dX1_refuse_1 rfl (fun b1 => ?_) (fun b1 => ?_)
  · replace H := H.1 b1
    exact r_vret dX1_refuse_14 rfl H
  · replace H := H.2 b1
    replace H := H _ rfl
    refine r_new (ci := 7) dX1_refuse_4 rfl (by decide) q2319 q2420 q161 ?_
    refine r_dup dX1_refuse_7 rfl ?_
    refine r_iload_n dX1_refuse_8 rfl rfl ?_
    refine r_iload_n dX1_refuse_9 rfl rfl ?_
    obtain ⟨k3, H⟩ := H
    refine r_invI (y := m_X7_init) dX1_refuse_10 rfl rfl q2430 q161 q2428 q2429 rfl py_X7_init (Nat.le_of_ble_eq_true rfl) (args := [_, _]) rfl rfl (Nat.le_of_ble_eq_true rfl) k3 (C.monoE H (fun o h4 _ x6 K => cont_V K (fun H => ?_) (fun r HX => XR_nc rfl HX)))
    exact r_athrow dX1_refuse_13 H.1 (XR_nc rfl H.2)
theorem c_X1_refuse_0 {g : PG} {d : Nat} {l0 : Int32} {l1 : Int32} {l2 : Int32} {h : PH} {Q : Out → PH → Prop} (H : w_X1_refuse_0 g d l0 l1 l2 h Q) : C g (d + 1) m_X1_refuse [.int l0, .int l1, .int l2] h Q := C_of_R rfl rfl (Nat.le_of_ble_eq_true rfl) rfl (v_X1_refuse_0 H)
abbrev w_X1_change_23 (g : PG) (d : Nat) (l0 : Nat) (l1 : Nat) (h : PH) (Q : Out → PH → Prop) : Prop := hkd h l0 = 1 ∧ hkd h (hG h 502 l0) = 26 ∧ C g d m_J7_addLast [.ref (hG h 502 l0), .ref (hG h 500 l0)] h (oV (fun h3 => ∀ h6, h6 = setG 500 l0 l1 h3 → Q (.inl none) h6) (fun r hx => Q (.inr r) hx))
theorem v_X1_change_23 {g : PG} {d : Nat} {l0 : Nat} {l1 : Nat} {h : PH} {Q : Out → PH → Prop} (H : w_X1_change_23 g d l0 l1 h Q) : R g d m_X1_change 23 [.ref l0, .ref l1, .null] [] h Q := by
  refine r_aload_n dX1_change_23 rfl rfl ?_
  obtain ⟨k1, H⟩ := H
  refine r_getG fr_X1_44_1 (by decide) dX1_change_24 k1 (by decide) ?_
  refine r_aload_n dX1_change_27 rfl rfl ?_
  refine r_getG fr_X1_37_1 (by decide) dX1_change_28 k1 (by decide) ?_
  obtain ⟨k2, H⟩ := H
  refine r_invV (y := m_J7_addLast) dX1_change_31 rfl (lw_V q2584 q2585 q2586 q117 q2587) py_J7_addLast (Nat.le_of_ble_eq_true rfl) (args := [_]) rfl rfl (Nat.le_of_ble_eq_true rfl) k2 (by decide) rfl (C.monoE H (fun o h3 _ x5 K => cont_V K (fun H => ?_) (fun r HX => XR_nc rfl HX)))
  refine r_aload_n dX1_change_34 rfl rfl ?_
  refine r_aload_n dX1_change_35 rfl rfl ?_
  replace H := H _ rfl
  refine r_putG fw_X1_37_1 (by decide) dX1_change_36 (x5.kd k1 (by decide)) (by decide) rfl ?_
  exact r_vret dX1_change_39 rfl H
abbrev w_X1_change_0 (g : PG) (d : Nat) (l0 : Nat) (l1 : Nat) (h : PH) (Q : Out → PH → Prop) : Prop := hkd h l0 = 1 ∧ hkd h (hG h 502 l0) = 26 ∧ C g d m_J7_size [.ref (hG h 502 l0)] h (oI (fun v4 h3 => ((¬ v4 = (8 : Int32)) → w_X1_change_23 g d l0 l1 h3 Q) ∧ ((v4 = (8 : Int32)) → hkd h3 (hG h3 502 l0) = 26 ∧ C g d m_J7_removeFirst [.ref (hG h3 502 l0)] h3 (oR (fun v9 h8 => (v9 = 0 ∨ hkd h8 v9 = 2) ∧ w_X1_change_23 g d l0 l1 h8 Q) (fun r hx => Q (.inr r) hx)))) (fun r hx => Q (.inr r) hx))
theorem v_X1_change_0 {g : PG} {d : Nat} {l0 : Nat} {l1 : Nat} {h : PH} {Q : Out → PH → Prop} (H : w_X1_change_0 g d l0 l1 h Q) : R g d m_X1_change 0 [.ref l0, .ref l1, .null] [] h Q := by
  refine r_aload_n dX1_change_0 rfl rfl ?_
  obtain ⟨k1, H⟩ := H
  refine r_getG fr_X1_44_1 (by decide) dX1_change_1 k1 (by decide) ?_
  obtain ⟨k2, H⟩ := H
  refine r_invV (y := m_J7_size) dX1_change_4 rfl (lw_V q2577 q1782 q1783 q117 q1784) py_J7_size (Nat.le_of_ble_eq_true rfl) (args := []) rfl rfl (Nat.le_of_ble_eq_true rfl) k2 (by decide) rfl (C.monoE H (fun o h3 _ x5 K => cont_I K (fun v4 H => ?_) (fun r HX => XR_nc rfl HX)))
  refine r_bipush dX1_change_7 rfl ?_
  refine r_icmp_ne (tgt := 23) dX1_change_9 rfl (fun b6 => ?_) (fun b6 => ?_)
  · replace H := H.1 b6
    exact v_X1_change_23 H
  · replace H := H.2 b6
    refine r_aload_n dX1_change_12 rfl rfl ?_
    refine r_getG fr_X1_44_1 (by decide) dX1_change_13 (x5.kd k1 (by decide)) (by decide) ?_
    obtain ⟨k7, H⟩ := H
    refine r_invV (y := m_J7_removeFirst) dX1_change_16 rfl (lw_V q2578 q2579 q2580 q117 q2581) py_J7_removeFirst (Nat.le_of_ble_eq_true rfl) (args := []) rfl rfl (Nat.le_of_ble_eq_true rfl) k7 (by decide) rfl (C.monoE H (fun o h8 _ x10 K => cont_R K (fun v9 H => ?_) (fun r HX => XR_nc rfl HX)))
    obtain ⟨k11, H⟩ := H
    refine r_castO (kv := 2) dX1_change_19 q184 (by decide) (Or.inr rfl) k11 ?_
    refine r_astore_n dX1_change_22 rfl (Nat.le_of_ble_eq_true rfl) rfl (slS (slS sl0)) ?_
    exact R.forget (v_X1_change_23 H) ⟨Or.inl rfl, ⟨Or.inl rfl, ⟨Or.inr rfl, trivial⟩⟩⟩
theorem c_X1_change_0 {g : PG} {d : Nat} {l0 : Nat} {l1 : Nat} {h : PH} {Q : Out → PH → Prop} (H : w_X1_change_0 g d l0 l1 h Q) : C g (d + 1) m_X1_change [.ref l0, .ref l1] h Q := C_of_R rfl rfl (Nat.le_of_ble_eq_true rfl) rfl (v_X1_change_0 H)
abbrev w_X1_refused_0 (g : PG) (d : Nat) (l0 : Nat) (l1 : Nat) (h : PH) (Q : Out → PH → Prop) : Prop := hkd h l0 = 1 ∧ ∀ h2, h2 = setG 503 l0 l1 h → 5 ≤ d ∧ Q (.inr (hnx h2)) (hnew 36 0 7 h2)
theorem v_X1_refused_0 {g : PG} {d : Nat} {l0 : Nat} {l1 : Nat} {h : PH} {Q : Out → PH → Prop} (H : w_X1_refused_0 g d l0 l1 h Q) : R g d m_X1_refused 0 [.ref l0, .ref l1] [] h Q := by
  refine r_aload_n dX1_refused_0 rfl rfl ?_
  refine r_aload_n dX1_refused_1 rfl rfl ?_
  obtain ⟨k1, H⟩ := H
  replace H := H _ rfl
  refine r_putG fw_X1_71_1 (by decide) dX1_refused_2 k1 (by decide) rfl ?_
  exact r_throw0 (kE := 36) (names := ["java/lang/RuntimeException", "java/lang/Exception"]) (by decide) dX1_refused_5 dX1_refused_8 dX1_refused_9 dX1_refused_12 (by decide +kernel) (by decide +kernel) tw_X1_75_77 rfl H.1 (Nat.le_of_ble_eq_true rfl) H.2
theorem c_X1_refused_0 {g : PG} {d : Nat} {l0 : Nat} {l1 : Nat} {h : PH} {Q : Out → PH → Prop} (H : w_X1_refused_0 g d l0 l1 h Q) : C g (d + 1) m_X1_refused [.ref l0, .ref l1] h Q := C_of_R rfl rfl (Nat.le_of_ble_eq_true rfl) rfl (v_X1_refused_0 H)
abbrev w_X1_run_0 (g : PG) (d : Nat) (l0 : Nat) (l1 : Int32) (l2 : Int32) (h : PH) (Q : Out → PH → Prop) : Prop := ∀ h1, h1 = hnew 6 0 5 h → 0 < (hnx h) ∧ C g d m_X5_init_2 [.ref (hnx h), .ref (gSr g 22 + 1), .int l1, .int l2] h1 (oV (fun h3 => hkd h3 l0 = 1 ∧ C g d m_X1_carryOut [.ref l0, .ref (hnx h)] h3 (oI (fun v8 h7 => Q (.inl (some (.int v8))) h7) (fun r hx => Q (.inr r) hx))) (fun r hx => Q (.inr r) hx))
theorem v_X1_run_0 {g : PG} {d : Nat} {l0 : Nat} {l1 : Int32} {l2 : Int32} {h : PH} {Q : Out → PH → Prop} (H : w_X1_run_0 g d l0 l1 l2 h Q) : R g d m_X1_run 0 [.ref l0, .int l1, .int l2] [] h Q := by
  refine r_aload_n dX1_run_0 rfl rfl ?_
  replace H := H _ rfl
  refine r_new (ci := 6) dX1_run_1 rfl (by decide) q2292 q2293 q129 ?_
  refine r_dup dX1_run_4 rfl ?_
  refine r_ldcS (n := 22) dX1_run_5 rfl ?_
  refine r_iload_n dX1_run_7 rfl rfl ?_
  refine r_iload_n dX1_run_8 rfl rfl ?_
  obtain ⟨k2, H⟩ := H
  refine r_invI (y := m_X5_init_2) dX1_run_9 rfl rfl q2644 q129 q2642 q2643 rfl py_X5_init_2 (Nat.le_of_ble_eq_true rfl) (args := [_, _, _]) rfl rfl (Nat.le_of_ble_eq_true rfl) k2 (C.monoE H (fun o h3 _ x5 K => cont_V K (fun H => ?_) (fun r HX => XR_nc rfl HX)))
  obtain ⟨k6, H⟩ := H
  refine r_invVW (y := m_X1_carryOut) dX1_run_12 (fun h => by cases h) (lw_VW q2315 q2317 qp29 q107 q2318) py_X1_carryOut (Nat.le_of_ble_eq_true rfl) (args := [_]) rfl rfl (Nat.le_of_ble_eq_true rfl) k6 (by decide) rfl (C.monoE H (fun o h7 _ x9 K => cont_I K (fun v8 H => ?_) (fun r HX => XR_nc rfl HX)))
  exact r_iret dX1_run_15 rfl H
theorem c_X1_run_0 {g : PG} {d : Nat} {l0 : Nat} {l1 : Int32} {l2 : Int32} {h : PH} {Q : Out → PH → Prop} (H : w_X1_run_0 g d l0 l1 l2 h Q) : C g (d + 1) m_X1_run [.ref l0, .int l1, .int l2] h Q := C_of_R rfl rfl (Nat.le_of_ble_eq_true rfl) rfl (v_X1_run_0 H)
abbrev w_X1_pass_0 (g : PG) (d : Nat) (l0 : Nat) (l1 : Int32) (l2 : Int32) (h : PH) (Q : Out → PH → Prop) : Prop := ∀ h1, h1 = hnew 6 0 5 h → 0 < (hnx h) ∧ C g d m_X5_init_2 [.ref (hnx h), .ref (gSr g 23 + 1), .int l1, .int l2] h1 (oV (fun h3 => hkd h3 l0 = 1 ∧ C g d m_X1_carryOut [.ref l0, .ref (hnx h)] h3 (oI (fun v8 h7 => Q (.inl (some (.int v8))) h7) (fun r hx => Q (.inr r) hx))) (fun r hx => Q (.inr r) hx))
theorem v_X1_pass_0 {g : PG} {d : Nat} {l0 : Nat} {l1 : Int32} {l2 : Int32} {h : PH} {Q : Out → PH → Prop} (H : w_X1_pass_0 g d l0 l1 l2 h Q) : R g d m_X1_pass 0 [.ref l0, .int l1, .int l2] [] h Q := by
  refine r_aload_n dX1_pass_0 rfl rfl ?_
  replace H := H _ rfl
  refine r_new (ci := 6) dX1_pass_1 rfl (by decide) q2292 q2293 q129 ?_
  refine r_dup dX1_pass_4 rfl ?_
  refine r_ldcS (n := 23) dX1_pass_5 rfl ?_
  refine r_iload_n dX1_pass_7 rfl rfl ?_
  refine r_iload_n dX1_pass_8 rfl rfl ?_
  obtain ⟨k2, H⟩ := H
  refine r_invI (y := m_X5_init_2) dX1_pass_9 rfl rfl q2644 q129 q2642 q2643 rfl py_X5_init_2 (Nat.le_of_ble_eq_true rfl) (args := [_, _, _]) rfl rfl (Nat.le_of_ble_eq_true rfl) k2 (C.monoE H (fun o h3 _ x5 K => cont_V K (fun H => ?_) (fun r HX => XR_nc rfl HX)))
  obtain ⟨k6, H⟩ := H
  refine r_invVW (y := m_X1_carryOut) dX1_pass_12 (fun h => by cases h) (lw_VW q2315 q2317 qp29 q107 q2318) py_X1_carryOut (Nat.le_of_ble_eq_true rfl) (args := [_]) rfl rfl (Nat.le_of_ble_eq_true rfl) k6 (by decide) rfl (C.monoE H (fun o h7 _ x9 K => cont_I K (fun v8 H => ?_) (fun r HX => XR_nc rfl HX)))
  exact r_iret dX1_pass_15 rfl H
theorem c_X1_pass_0 {g : PG} {d : Nat} {l0 : Nat} {l1 : Int32} {l2 : Int32} {h : PH} {Q : Out → PH → Prop} (H : w_X1_pass_0 g d l0 l1 l2 h Q) : C g (d + 1) m_X1_pass [.ref l0, .int l1, .int l2] h Q := C_of_R rfl rfl (Nat.le_of_ble_eq_true rfl) rfl (v_X1_pass_0 H)
abbrev w_X1_pick_0 (g : PG) (d : Nat) (l0 : Nat) (l1 : Int32) (h : PH) (Q : Out → PH → Prop) : Prop := ∀ h1, h1 = hnew 6 0 5 h → 0 < (hnx h) ∧ C g d m_X5_init_2 [.ref (hnx h), .ref (gSr g 24 + 1), .int l1, .int 0] h1 (oV (fun h3 => hkd h3 l0 = 1 ∧ C g d m_X1_carryOut [.ref l0, .ref (hnx h)] h3 (oI (fun v8 h7 => Q (.inl (some (.int v8))) h7) (fun r hx => Q (.inr r) hx))) (fun r hx => Q (.inr r) hx))
theorem v_X1_pick_0 {g : PG} {d : Nat} {l0 : Nat} {l1 : Int32} {h : PH} {Q : Out → PH → Prop} (H : w_X1_pick_0 g d l0 l1 h Q) : R g d m_X1_pick 0 [.ref l0, .int l1] [] h Q := by
  refine r_aload_n dX1_pick_0 rfl rfl ?_
  replace H := H _ rfl
  refine r_new (ci := 6) dX1_pick_1 rfl (by decide) q2292 q2293 q129 ?_
  refine r_dup dX1_pick_4 rfl ?_
  refine r_ldcS (n := 24) dX1_pick_5 rfl ?_
  refine r_iload_n dX1_pick_7 rfl rfl ?_
  refine r_iconst dX1_pick_8 rfl ?_
  obtain ⟨k2, H⟩ := H
  refine r_invI (y := m_X5_init_2) dX1_pick_9 rfl rfl q2644 q129 q2642 q2643 rfl py_X5_init_2 (Nat.le_of_ble_eq_true rfl) (args := [_, _, _]) rfl rfl (Nat.le_of_ble_eq_true rfl) k2 (C.monoE H (fun o h3 _ x5 K => cont_V K (fun H => ?_) (fun r HX => XR_nc rfl HX)))
  obtain ⟨k6, H⟩ := H
  refine r_invVW (y := m_X1_carryOut) dX1_pick_12 (fun h => by cases h) (lw_VW q2315 q2317 qp29 q107 q2318) py_X1_carryOut (Nat.le_of_ble_eq_true rfl) (args := [_]) rfl rfl (Nat.le_of_ble_eq_true rfl) k6 (by decide) rfl (C.monoE H (fun o h7 _ x9 K => cont_I K (fun v8 H => ?_) (fun r HX => XR_nc rfl HX)))
  exact r_iret dX1_pick_15 rfl H
theorem c_X1_pick_0 {g : PG} {d : Nat} {l0 : Nat} {l1 : Int32} {h : PH} {Q : Out → PH → Prop} (H : w_X1_pick_0 g d l0 l1 h Q) : C g (d + 1) m_X1_pick [.ref l0, .int l1] h Q := C_of_R rfl rfl (Nat.le_of_ble_eq_true rfl) rfl (v_X1_pick_0 H)
abbrev w_X1_warm_0 (g : PG) (d : Nat) (l0 : Nat) (l1 : Int32) (l2 : Int32) (h : PH) (Q : Out → PH → Prop) : Prop := ∀ h1, h1 = hnew 6 0 5 h → 0 < (hnx h) ∧ C g d m_X5_init_2 [.ref (hnx h), .ref (gSr g 25 + 1), .int l1, .int l2] h1 (oV (fun h3 => hkd h3 l0 = 1 ∧ C g d m_X1_carryOut [.ref l0, .ref (hnx h)] h3 (oI (fun v8 h7 => Q (.inl (some (.int v8))) h7) (fun r hx => Q (.inr r) hx))) (fun r hx => Q (.inr r) hx))
theorem v_X1_warm_0 {g : PG} {d : Nat} {l0 : Nat} {l1 : Int32} {l2 : Int32} {h : PH} {Q : Out → PH → Prop} (H : w_X1_warm_0 g d l0 l1 l2 h Q) : R g d m_X1_warm 0 [.ref l0, .int l1, .int l2] [] h Q := by
  refine r_aload_n dX1_warm_0 rfl rfl ?_
  replace H := H _ rfl
  refine r_new (ci := 6) dX1_warm_1 rfl (by decide) q2292 q2293 q129 ?_
  refine r_dup dX1_warm_4 rfl ?_
  refine r_ldcS (n := 25) dX1_warm_5 rfl ?_
  refine r_iload_n dX1_warm_7 rfl rfl ?_
  refine r_iload_n dX1_warm_8 rfl rfl ?_
  obtain ⟨k2, H⟩ := H
  refine r_invI (y := m_X5_init_2) dX1_warm_9 rfl rfl q2644 q129 q2642 q2643 rfl py_X5_init_2 (Nat.le_of_ble_eq_true rfl) (args := [_, _, _]) rfl rfl (Nat.le_of_ble_eq_true rfl) k2 (C.monoE H (fun o h3 _ x5 K => cont_V K (fun H => ?_) (fun r HX => XR_nc rfl HX)))
  obtain ⟨k6, H⟩ := H
  refine r_invVW (y := m_X1_carryOut) dX1_warm_12 (fun h => by cases h) (lw_VW q2315 q2317 qp29 q107 q2318) py_X1_carryOut (Nat.le_of_ble_eq_true rfl) (args := [_]) rfl rfl (Nat.le_of_ble_eq_true rfl) k6 (by decide) rfl (C.monoE H (fun o h7 _ x9 K => cont_I K (fun v8 H => ?_) (fun r HX => XR_nc rfl HX)))
  exact r_iret dX1_warm_15 rfl H
theorem c_X1_warm_0 {g : PG} {d : Nat} {l0 : Nat} {l1 : Int32} {l2 : Int32} {h : PH} {Q : Out → PH → Prop} (H : w_X1_warm_0 g d l0 l1 l2 h Q) : C g (d + 1) m_X1_warm [.ref l0, .int l1, .int l2] h Q := C_of_R rfl rfl (Nat.le_of_ble_eq_true rfl) rfl (v_X1_warm_0 H)
abbrev w_X1_hour_0 (g : PG) (d : Nat) (l0 : Nat) (l1 : Int32) (h : PH) (Q : Out → PH → Prop) : Prop := ∀ h1, h1 = hnew 6 0 5 h → 0 < (hnx h) ∧ C g d m_X5_init_2 [.ref (hnx h), .ref (gSr g 26 + 1), .int l1, .int 0] h1 (oV (fun h3 => hkd h3 l0 = 1 ∧ C g d m_X1_carryOut [.ref l0, .ref (hnx h)] h3 (oI (fun v8 h7 => Q (.inl (some (.int v8))) h7) (fun r hx => Q (.inr r) hx))) (fun r hx => Q (.inr r) hx))
theorem v_X1_hour_0 {g : PG} {d : Nat} {l0 : Nat} {l1 : Int32} {h : PH} {Q : Out → PH → Prop} (H : w_X1_hour_0 g d l0 l1 h Q) : R g d m_X1_hour 0 [.ref l0, .int l1] [] h Q := by
  refine r_aload_n dX1_hour_0 rfl rfl ?_
  replace H := H _ rfl
  refine r_new (ci := 6) dX1_hour_1 rfl (by decide) q2292 q2293 q129 ?_
  refine r_dup dX1_hour_4 rfl ?_
  refine r_ldcS (n := 26) dX1_hour_5 rfl ?_
  refine r_iload_n dX1_hour_7 rfl rfl ?_
  refine r_iconst dX1_hour_8 rfl ?_
  obtain ⟨k2, H⟩ := H
  refine r_invI (y := m_X5_init_2) dX1_hour_9 rfl rfl q2644 q129 q2642 q2643 rfl py_X5_init_2 (Nat.le_of_ble_eq_true rfl) (args := [_, _, _]) rfl rfl (Nat.le_of_ble_eq_true rfl) k2 (C.monoE H (fun o h3 _ x5 K => cont_V K (fun H => ?_) (fun r HX => XR_nc rfl HX)))
  obtain ⟨k6, H⟩ := H
  refine r_invVW (y := m_X1_carryOut) dX1_hour_12 (fun h => by cases h) (lw_VW q2315 q2317 qp29 q107 q2318) py_X1_carryOut (Nat.le_of_ble_eq_true rfl) (args := [_]) rfl rfl (Nat.le_of_ble_eq_true rfl) k6 (by decide) rfl (C.monoE H (fun o h7 _ x9 K => cont_I K (fun v8 H => ?_) (fun r HX => XR_nc rfl HX)))
  exact r_iret dX1_hour_15 rfl H
theorem c_X1_hour_0 {g : PG} {d : Nat} {l0 : Nat} {l1 : Int32} {h : PH} {Q : Out → PH → Prop} (H : w_X1_hour_0 g d l0 l1 h Q) : C g (d + 1) m_X1_hour [.ref l0, .int l1] h Q := C_of_R rfl rfl (Nat.le_of_ble_eq_true rfl) rfl (v_X1_hour_0 H)
abbrev w_X1_plankOf_0 (g : PG) (d : Nat) (l0 : Nat) (l1 : Int32) (l2 : Int32) (h : PH) (Q : Out → PH → Prop) : Prop := hkd h l0 = 1 ∧ hkd h (hG h 500 l0) = 2 ∧ C g d m_X2_plank [.ref (hG h 500 l0), .int l1] h (oR (fun v4 h3 => C g d m_X1_inRange [.int l2, .int 0, .int 4] h3 (oI (fun v7 h6 => C g d m_X1_checkArgument [.int v7] h6 (oV (fun h9 => (l2 = 0 → hkd h9 v4 = 3 ∧ Q (.inl (some (.int (hF h9 4 v4)))) h9) ∧ (l2 = 1 → hkd h9 v4 = 3 ∧ Q (.inl (some (.int (hF h9 5 v4)))) h9) ∧ (l2 = 2 → hkd h9 v4 = 3 ∧ Q (.inl (some (.int (hF h9 6 v4)))) h9) ∧ (l2 = 3 → hkd h9 (hG h9 500 l0) = 2 ∧ C g d m_X2_hatsOn [.ref (hG h9 500 l0), .int l1] h9 (oI (fun v21 h20 => Q (.inl (some (.int v21))) h20) (fun r hx => Q (.inr r) hx))) ∧ (¬ l2 = 0 → ¬ l2 = 1 → ¬ l2 = 2 → ¬ l2 = 3 → C g d m_X1_standingOn [.ref l0, .int l1] h9 (oI (fun v24 h23 => Q (.inl (some (.int v24))) h23) (fun r hx => Q (.inr r) hx)))) (fun r hx => Q (.inr r) hx))) (fun r hx => Q (.inr r) hx))) (fun r hx => Q (.inr r) hx))
theorem v_X1_plankOf_0 {g : PG} {d : Nat} {l0 : Nat} {l1 : Int32} {l2 : Int32} {h : PH} {Q : Out → PH → Prop} (H : w_X1_plankOf_0 g d l0 l1 l2 h Q) : R g d m_X1_plankOf 0 [.ref l0, .int l1, .int l2, .null] [] h Q := by
  refine r_aload_n dX1_plankOf_0 rfl rfl ?_
  obtain ⟨k1, H⟩ := H
  refine r_getG fr_X1_37_1 (by decide) dX1_plankOf_1 k1 (by decide) ?_
  refine r_iload_n dX1_plankOf_4 rfl rfl ?_
  obtain ⟨k2, H⟩ := H
  refine r_invV (y := m_X2_plank) dX1_plankOf_5 rfl (lw_V q2685 q2562 q2563 q108 q2564) py_X2_plank (Nat.le_of_ble_eq_true rfl) (args := [_]) rfl rfl (Nat.le_of_ble_eq_true rfl) k2 (by decide) rfl (C.monoE H (fun o h3 _ x5 K => cont_R K (fun v4 H => ?_) (fun r HX => XR_nc rfl HX)))
  refine r_astore_n dX1_plankOf_8 rfl (Nat.le_of_ble_eq_true rfl) rfl (slS (slS (slS sl0))) ?_
  refine r_iload_n dX1_plankOf_9 rfl rfl ?_
  refine r_iconst dX1_plankOf_10 rfl ?_
  refine r_iconst dX1_plankOf_11 rfl ?_
  refine r_invS (y := m_X1_inRange) dX1_plankOf_12 rfl (lw_S q1610 q1611 q107 q1612) py_X1_inRange (Nat.le_of_ble_eq_true rfl) (args := [_, _, _]) rfl rfl (Nat.le_of_ble_eq_true rfl) (C.monoE H (fun o h6 _ x8 K => cont_I K (fun v7 H => ?_) (fun r HX => XR_nc rfl HX)))
  refine r_invS (y := m_X1_checkArgument) dX1_plankOf_15 rfl (lw_S q2406 q2407 q107 q2408) py_X1_checkArgument (Nat.le_of_ble_eq_true rfl) (args := [_]) rfl rfl (Nat.le_of_ble_eq_true rfl) (C.monoE H (fun o h9 _ x11 K => cont_V K (fun H => ?_) (fun r HX => XR_nc rfl HX)))
  refine r_iload_n dX1_plankOf_18 rfl rfl ?_
  refine R.tri (k9 := 0) (fun b12 => ?_) (fun b12 => ?_)
  · replace H := H.1 b12
    refine r_tableIn (tgt := 48) dX1_plankOf_19 (by rw [b12]; decide) (by rw [b12]; decide) (by rw [b12]; first | done | rfl) rfl ?_
    refine r_aload_n dX1_plankOf_48 rfl rfl ?_
    obtain ⟨k13, H⟩ := H
    refine r_getF fr_X1_150_3 (by decide) dX1_plankOf_49 k13 (by decide) ?_
    refine r_goto (tgt := 85) dX1_plankOf_52 rfl ?_
    exact r_iret dX1_plankOf_85 rfl H
  replace H := H.2
  refine R.tri (k9 := 1) (fun b14 => ?_) (fun b14 => ?_)
  · replace H := H.1 b14
    refine r_tableIn (tgt := 55) dX1_plankOf_19 (by rw [b14]; decide) (by rw [b14]; decide) (by rw [b14]; first | done | rfl) rfl ?_
    refine r_aload_n dX1_plankOf_55 rfl rfl ?_
    obtain ⟨k15, H⟩ := H
    refine r_getF fr_X1_155_3 (by decide) dX1_plankOf_56 k15 (by decide) ?_
    refine r_goto (tgt := 85) dX1_plankOf_59 rfl ?_
    exact r_iret dX1_plankOf_85 rfl H
  replace H := H.2
  refine R.tri (k9 := 2) (fun b16 => ?_) (fun b16 => ?_)
  · replace H := H.1 b16
    refine r_tableIn (tgt := 62) dX1_plankOf_19 (by rw [b16]; decide) (by rw [b16]; decide) (by rw [b16]; first | done | rfl) rfl ?_
    refine r_aload_n dX1_plankOf_62 rfl rfl ?_
    obtain ⟨k17, H⟩ := H
    refine r_getF fr_X1_158_3 (by decide) dX1_plankOf_63 k17 (by decide) ?_
    refine r_goto (tgt := 85) dX1_plankOf_66 rfl ?_
    exact r_iret dX1_plankOf_85 rfl H
  replace H := H.2
  refine R.tri (k9 := 3) (fun b18 => ?_) (fun b18 => ?_)
  · replace H := H.1 b18
    refine r_tableIn (tgt := 69) dX1_plankOf_19 (by rw [b18]; decide) (by rw [b18]; decide) (by rw [b18]; first | done | rfl) rfl ?_
    refine r_aload_n dX1_plankOf_69 rfl rfl ?_
    refine r_getG fr_X1_37_1 (by decide) dX1_plankOf_70 (x11.kd (x8.kd (x5.kd k1 (by decide)) (by decide)) (by decide)) (by decide) ?_
    refine r_iload_n dX1_plankOf_73 rfl rfl ?_
    obtain ⟨k19, H⟩ := H
    refine r_invV (y := m_X2_hatsOn) dX1_plankOf_74 rfl (lw_V q811 q812 q813 q108 q814) py_X2_hatsOn (Nat.le_of_ble_eq_true rfl) (args := [_]) rfl rfl (Nat.le_of_ble_eq_true rfl) k19 (by decide) rfl (C.monoE H (fun o h20 _ x22 K => cont_I K (fun v21 H => ?_) (fun r HX => XR_nc rfl HX)))
    refine r_goto (tgt := 85) dX1_plankOf_77 rfl ?_
    exact r_iret dX1_plankOf_85 rfl H
  replace H := H.2
  replace H := H b12 b14 b16 b18
  refine r_tableOut (tgt := 80) dX1_plankOf_19 (tabOut (lo := 0) (n := 4) rfl (fun i hi => match i, hi with | 0, _ => b12 | 1, _ => b14 | 2, _ => b16 | 3, _ => b18 | k + 4, hi => absurd hi (by omega))) rfl ?_
  refine r_aload_n dX1_plankOf_80 rfl rfl ?_
  refine r_iload_n dX1_plankOf_81 rfl rfl ?_
  refine r_invV (y := m_X1_standingOn) dX1_plankOf_82 rfl (lw_V q2686 q2688 qp44 q107 q2689) py_X1_standingOn (Nat.le_of_ble_eq_true rfl) (args := [_]) rfl rfl (Nat.le_of_ble_eq_true rfl) (x11.kd (x8.kd (x5.kd k1 (by decide)) (by decide)) (by decide)) (by decide) rfl (C.monoE H (fun o h23 _ x25 K => cont_I K (fun v24 H => ?_) (fun r HX => XR_nc rfl HX)))
  exact r_iret dX1_plankOf_85 rfl H
theorem c_X1_plankOf_0 {g : PG} {d : Nat} {l0 : Nat} {l1 : Int32} {l2 : Int32} {h : PH} {Q : Out → PH → Prop} (H : w_X1_plankOf_0 g d l0 l1 l2 h Q) : C g (d + 1) m_X1_plankOf [.ref l0, .int l1, .int l2] h Q := C_of_R rfl rfl (Nat.le_of_ble_eq_true rfl) rfl (v_X1_plankOf_0 H)
abbrev w_X1_standingOn_56 (g : PG) (d : Nat) (l1 : Int32) (l3 : Nat) (s0 : Int32) (s1 : Int32) (h : PH) (Q : Out → PH → Prop) : Prop := C g d m_X1_number [.int s1] h (oI (fun v2 h1 => R g d m_X1_standingOn 13 [.null, .int l1, .int (s0 + v2), .ref l3, .null] [] h1 Q) (fun r hx => Q (.inr r) hx))
theorem v_X1_standingOn_56 {g : PG} {d : Nat} {l1 : Int32} {l3 : Nat} {s0 : Int32} {s1 : Int32} {h : PH} {Q : Out → PH → Prop} (H : w_X1_standingOn_56 g d l1 l3 s0 s1 h Q) : R g d m_X1_standingOn 56 [.null, .int l1, .null, .ref l3, .null] [.int s1, .int s0] h Q := by
  refine r_invS (y := m_X1_number) dX1_standingOn_56 rfl (lw_S q1589 q1534 q107 q1535) py_X1_number (Nat.le_of_ble_eq_true rfl) (args := [_]) rfl rfl (Nat.le_of_ble_eq_true rfl) (C.monoE H (fun o h1 _ x3 K => cont_I K (fun v2 H => ?_) (fun r HX => XR_nc rfl HX)))
  refine r_iadd dX1_standingOn_59 ?_
  refine r_istore_n dX1_standingOn_60 rfl (Nat.le_of_ble_eq_true rfl) rfl (slS (slS sl0)) ?_
  refine r_goto (tgt := 13) dX1_standingOn_61 rfl ?_
  exact H
abbrev w_X1_standingOn_55 (g : PG) (d : Nat) (l1 : Int32) (l3 : Nat) (s0 : Int32) (h : PH) (Q : Out → PH → Prop) : Prop := w_X1_standingOn_56 g d l1 l3 s0 (0 : Int32) h Q
theorem v_X1_standingOn_55 {g : PG} {d : Nat} {l1 : Int32} {l3 : Nat} {s0 : Int32} {h : PH} {Q : Out → PH → Prop} (H : w_X1_standingOn_55 g d l1 l3 s0 h Q) : R g d m_X1_standingOn 55 [.null, .int l1, .null, .ref l3, .null] [.int s0] h Q := by
  refine r_iconst dX1_standingOn_55 rfl ?_
  exact v_X1_standingOn_56 H
abbrev w_X1_standingOn_13 (g : PG) (d : Nat) (l1 : Int32) (l2 : Int32) (l3 : Nat) (h : PH) (Q : Out → PH → Prop) : Prop := hkd h l3 = 14 ∧ C g d m_J18_hasNext [.ref l3] h (oI (fun v3 h2 => ((v3 = 0) → Q (.inl (some (.int l2))) h2) ∧ ((¬ v3 = 0) → C g d m_J18_next [.ref l3] h2 (oR (fun v7 h6 => (v7 = 0 ∨ hkd h6 v7 = 4) ∧ hkd h6 v7 = 4 ∧ ((¬ (hF h6 9 v7) = l1) → w_X1_standingOn_55 g d l1 l3 l2 h6 Q) ∧ (((hF h6 9 v7) = l1) → C g d m_X6_isGone [.ref v7] h6 (oI (fun v13 h12 => ((¬ v13 = 0) → w_X1_standingOn_55 g d l1 l3 l2 h12 Q) ∧ ((v13 = 0) → w_X1_standingOn_56 g d l1 l3 l2 (1 : Int32) h12 Q)) (fun r hx => Q (.inr r) hx)))) (fun r hx => Q (.inr r) hx)))) (fun r hx => Q (.inr r) hx))
theorem v_X1_standingOn_13 {g : PG} {d : Nat} {l1 : Int32} {l2 : Int32} {l3 : Nat} {h : PH} {Q : Out → PH → Prop} (H : w_X1_standingOn_13 g d l1 l2 l3 h Q) : R g d m_X1_standingOn 13 [.null, .int l1, .int l2, .ref l3, .null] [] h Q := by
  refine r_aload_n dX1_standingOn_13 rfl rfl ?_
  obtain ⟨k1, H⟩ := H
  refine r_invF (y := m_J18_hasNext) (Cn := "java/util/ArrayList$Itr") (x := ⟨"java/util/Iterator", "hasNext", "()Z"⟩) dX1_standingOn_14 rfl (lw_F q1577 q925 q927 q130 q929) fw_t2 (n := 0) (by decide +kernel) (Nat.le_of_ble_eq_true rfl) (args := []) rfl rfl (Nat.le_of_ble_eq_true rfl) k1 (by decide) rfl (C.monoE H (fun o h2 _ x4 K => cont_I K (fun v3 H => ?_) (fun r HX => XR_nc rfl HX)))
  refine r_if_eq (tgt := 64) dX1_standingOn_19 rfl (fun b5 => ?_) (fun b5 => ?_)
  · replace H := H.1 b5
    refine r_iload_n dX1_standingOn_64 rfl rfl ?_
    exact r_iret dX1_standingOn_65 rfl H
  · replace H := H.2 b5
    refine r_aload_n dX1_standingOn_22 rfl rfl ?_
    refine r_invF (y := m_J18_next) (Cn := "java/util/ArrayList$Itr") (x := ⟨"java/util/Iterator", "next", "()Ljava/lang/Object;"⟩) dX1_standingOn_23 rfl (lw_F q1579 q1167 q1169 q130 q1171) fw_t7 (n := 0) (by decide +kernel) (Nat.le_of_ble_eq_true rfl) (args := []) rfl rfl (Nat.le_of_ble_eq_true rfl) (x4.kd k1 (by decide)) (by decide) rfl (C.monoE H (fun o h6 _ x8 K => cont_R K (fun v7 H => ?_) (fun r HX => XR_nc rfl HX)))
    obtain ⟨k9, H⟩ := H
    refine r_castO (kv := 4) dX1_standingOn_28 q1580 (by decide) (Or.inr rfl) k9 ?_
    refine r_astore dX1_standingOn_31 (Nat.le_of_ble_eq_true rfl) rfl (slS (slS (slS (slS sl0)))) ?_
    refine r_iload_n dX1_standingOn_33 rfl rfl ?_
    refine r_aload dX1_standingOn_34 rfl ?_
    obtain ⟨k10, H⟩ := H
    refine r_getF fr_X1_136_4 (by decide) dX1_standingOn_36 k10 (by decide) ?_
    refine r_iload_n dX1_standingOn_39 rfl rfl ?_
    refine r_icmp_ne (tgt := 55) dX1_standingOn_40 rfl (fun b11 => ?_) (fun b11 => ?_)
    · replace H := H.1 b11
      exact R.forget (v_X1_standingOn_55 H) ⟨Or.inl rfl, ⟨Or.inl rfl, ⟨Or.inr rfl, ⟨Or.inl rfl, ⟨Or.inr rfl, trivial⟩⟩⟩⟩⟩
    · replace H := H.2 b11
      refine r_aload dX1_standingOn_43 rfl ?_
      refine r_invV (y := m_X6_isGone) dX1_standingOn_45 rfl (lw_V q2690 q2474 q2475 q142 q2476) py_X6_isGone (Nat.le_of_ble_eq_true rfl) (args := []) rfl rfl (Nat.le_of_ble_eq_true rfl) k10 (by decide) rfl (C.monoE H (fun o h12 _ x14 K => cont_I K (fun v13 H => ?_) (fun r HX => XR_nc rfl HX)))
      refine r_if_ne (tgt := 55) dX1_standingOn_48 rfl (fun b15 => ?_) (fun b15 => ?_)
      · replace H := H.1 b15
        exact R.forget (v_X1_standingOn_55 H) ⟨Or.inl rfl, ⟨Or.inl rfl, ⟨Or.inr rfl, ⟨Or.inl rfl, ⟨Or.inr rfl, trivial⟩⟩⟩⟩⟩
      · replace H := H.2 b15
        refine r_iconst dX1_standingOn_51 rfl ?_
        refine r_goto (tgt := 56) dX1_standingOn_52 rfl ?_
        exact R.forget (v_X1_standingOn_56 H) ⟨Or.inl rfl, ⟨Or.inl rfl, ⟨Or.inr rfl, ⟨Or.inl rfl, ⟨Or.inr rfl, trivial⟩⟩⟩⟩⟩
abbrev w_X1_standingOn_0 (g : PG) (d : Nat) (l0 : Nat) (l1 : Int32) (h : PH) (Q : Out → PH → Prop) : Prop := hkd h l0 = 1 ∧ hkd h (hG h 500 l0) = 2 ∧ hkd h (hG h 507 (hG h 500 l0)) = 13 ∧ C g d m_J2_iterator [.ref (hG h 507 (hG h 500 l0))] h (oR (fun v5 h4 => R g d m_X1_standingOn 13 [.null, .int l1, .int 0, .ref v5, .null] [] h4 Q) (fun r hx => Q (.inr r) hx))
theorem v_X1_standingOn_0 {g : PG} {d : Nat} {l0 : Nat} {l1 : Int32} {h : PH} {Q : Out → PH → Prop} (H : w_X1_standingOn_0 g d l0 l1 h Q) : R g d m_X1_standingOn 0 [.ref l0, .int l1, .null, .null, .null] [] h Q := by
  refine r_iconst dX1_standingOn_0 rfl ?_
  refine r_istore_n dX1_standingOn_1 rfl (Nat.le_of_ble_eq_true rfl) rfl (slS (slS sl0)) ?_
  refine r_aload_n dX1_standingOn_2 rfl rfl ?_
  obtain ⟨k1, H⟩ := H
  refine r_getG fr_X1_37_1 (by decide) dX1_standingOn_3 k1 (by decide) ?_
  obtain ⟨k2, H⟩ := H
  refine r_getG fr_X1_115_2 (by decide) dX1_standingOn_6 k2 (by decide) ?_
  obtain ⟨k3, H⟩ := H
  refine r_invV (y := m_J2_iterator) dX1_standingOn_9 rfl (lw_V q1551 q1552 q1553 q111 q1554) py_J2_iterator (Nat.le_of_ble_eq_true rfl) (args := []) rfl rfl (Nat.le_of_ble_eq_true rfl) k3 (by decide) rfl (C.monoE H (fun o h4 _ x6 K => cont_R K (fun v5 H => ?_) (fun r HX => XR_nc rfl HX)))
  refine r_astore_n dX1_standingOn_12 rfl (Nat.le_of_ble_eq_true rfl) rfl (slS (slS (slS sl0))) ?_
  exact R.forget H ⟨Or.inr rfl, ⟨Or.inl rfl, ⟨Or.inl rfl, ⟨Or.inl rfl, ⟨Or.inl rfl, trivial⟩⟩⟩⟩⟩
theorem c_X1_standingOn_0 {g : PG} {d : Nat} {l0 : Nat} {l1 : Int32} {h : PH} {Q : Out → PH → Prop} (H : w_X1_standingOn_0 g d l0 l1 h Q) : C g (d + 1) m_X1_standingOn [.ref l0, .int l1] h Q := C_of_R rfl rfl (Nat.le_of_ble_eq_true rfl) rfl (v_X1_standingOn_0 H)
abbrev w_X1_snowmanOf_0 (g : PG) (d : Nat) (l0 : Nat) (l1 : Int32) (l2 : Int32) (h : PH) (Q : Out → PH → Prop) : Prop := hkd h l0 = 1 ∧ hkd h (hG h 500 l0) = 2 ∧ C g d m_X2_snowman [.ref (hG h 500 l0), .int l1] h (oR (fun v4 h3 => C g d m_X1_inRange [.int l2, .int 0, .int 6] h3 (oI (fun v7 h6 => C g d m_X1_checkArgument [.int v7] h6 (oV (fun h9 => (l2 = 0 → hkd h9 v4 = 4 ∧ Q (.inl (some (.int (hF h9 8 v4)))) h9) ∧ (l2 = 1 → hkd h9 v4 = 4 ∧ Q (.inl (some (.int (hF h9 9 v4)))) h9) ∧ (l2 = 2 → hkd h9 v4 = 4 ∧ Q (.inl (some (.int (hF h9 10 v4)))) h9) ∧ (l2 = 3 → hkd h9 v4 = 4 ∧ C g d m_X1_number [.int (hF h9 11 v4)] h9 (oI (fun v21 h20 => Q (.inl (some (.int v21))) h20) (fun r hx => Q (.inr r) hx))) ∧ (l2 = 4 → hkd h9 (hG h9 500 l0) = 2 ∧ C g d m_X2_hasHat [.ref (hG h9 500 l0), .ref v4] h9 (oI (fun v26 h25 => C g d m_X1_number [.int v26] h25 (oI (fun v29 h28 => Q (.inl (some (.int v29))) h28) (fun r hx => Q (.inr r) hx))) (fun r hx => Q (.inr r) hx))) ∧ (l2 = 5 → hkd h9 v4 = 4 ∧ Q (.inl (some (.int (hF h9 12 v4)))) h9) ∧ (¬ l2 = 0 → ¬ l2 = 1 → ¬ l2 = 2 → ¬ l2 = 3 → ¬ l2 = 4 → ¬ l2 = 5 → hkd h9 v4 = 4 ∧ Q (.inl (some (.int (hF h9 13 v4)))) h9)) (fun r hx => Q (.inr r) hx))) (fun r hx => Q (.inr r) hx))) (fun r hx => Q (.inr r) hx))
theorem v_X1_snowmanOf_0 {g : PG} {d : Nat} {l0 : Nat} {l1 : Int32} {l2 : Int32} {h : PH} {Q : Out → PH → Prop} (H : w_X1_snowmanOf_0 g d l0 l1 l2 h Q) : R g d m_X1_snowmanOf 0 [.ref l0, .int l1, .int l2, .null] [] h Q := by
  refine r_aload_n dX1_snowmanOf_0 rfl rfl ?_
  obtain ⟨k1, H⟩ := H
  refine r_getG fr_X1_37_1 (by decide) dX1_snowmanOf_1 k1 (by decide) ?_
  refine r_iload_n dX1_snowmanOf_4 rfl rfl ?_
  obtain ⟨k2, H⟩ := H
  refine r_invV (y := m_X2_snowman) dX1_snowmanOf_5 rfl (lw_V q2698 q2699 q2700 q108 q2701) py_X2_snowman (Nat.le_of_ble_eq_true rfl) (args := [_]) rfl rfl (Nat.le_of_ble_eq_true rfl) k2 (by decide) rfl (C.monoE H (fun o h3 _ x5 K => cont_R K (fun v4 H => ?_) (fun r HX => XR_nc rfl HX)))
  refine r_astore_n dX1_snowmanOf_8 rfl (Nat.le_of_ble_eq_true rfl) rfl (slS (slS (slS sl0))) ?_
  refine r_iload_n dX1_snowmanOf_9 rfl rfl ?_
  refine r_iconst dX1_snowmanOf_10 rfl ?_
  refine r_bipush dX1_snowmanOf_11 rfl ?_
  refine r_invS (y := m_X1_inRange) dX1_snowmanOf_13 rfl (lw_S q1610 q1611 q107 q1612) py_X1_inRange (Nat.le_of_ble_eq_true rfl) (args := [_, _, _]) rfl rfl (Nat.le_of_ble_eq_true rfl) (C.monoE H (fun o h6 _ x8 K => cont_I K (fun v7 H => ?_) (fun r HX => XR_nc rfl HX)))
  refine r_invS (y := m_X1_checkArgument) dX1_snowmanOf_16 rfl (lw_S q2406 q2407 q107 q2408) py_X1_checkArgument (Nat.le_of_ble_eq_true rfl) (args := [_]) rfl rfl (Nat.le_of_ble_eq_true rfl) (C.monoE H (fun o h9 _ x11 K => cont_V K (fun H => ?_) (fun r HX => XR_nc rfl HX)))
  refine r_iload_n dX1_snowmanOf_19 rfl rfl ?_
  refine R.tri (k9 := 0) (fun b12 => ?_) (fun b12 => ?_)
  · replace H := H.1 b12
    refine r_tableIn (tgt := 60) dX1_snowmanOf_20 (by rw [b12]; decide) (by rw [b12]; decide) (by rw [b12]; first | done | rfl) rfl ?_
    refine r_aload_n dX1_snowmanOf_60 rfl rfl ?_
    obtain ⟨k13, H⟩ := H
    refine r_getF fr_X1_172_4 (by decide) dX1_snowmanOf_61 k13 (by decide) ?_
    refine r_goto (tgt := 116) dX1_snowmanOf_64 rfl ?_
    exact r_iret dX1_snowmanOf_116 rfl H
  replace H := H.2
  refine R.tri (k9 := 1) (fun b14 => ?_) (fun b14 => ?_)
  · replace H := H.1 b14
    refine r_tableIn (tgt := 67) dX1_snowmanOf_20 (by rw [b14]; decide) (by rw [b14]; decide) (by rw [b14]; first | done | rfl) rfl ?_
    refine r_aload_n dX1_snowmanOf_67 rfl rfl ?_
    obtain ⟨k15, H⟩ := H
    refine r_getF fr_X1_136_4 (by decide) dX1_snowmanOf_68 k15 (by decide) ?_
    refine r_goto (tgt := 116) dX1_snowmanOf_71 rfl ?_
    exact r_iret dX1_snowmanOf_116 rfl H
  replace H := H.2
  refine R.tri (k9 := 2) (fun b16 => ?_) (fun b16 => ?_)
  · replace H := H.1 b16
    refine r_tableIn (tgt := 74) dX1_snowmanOf_20 (by rw [b16]; decide) (by rw [b16]; decide) (by rw [b16]; first | done | rfl) rfl ?_
    refine r_aload_n dX1_snowmanOf_74 rfl rfl ?_
    obtain ⟨k17, H⟩ := H
    refine r_getF fr_X1_175_4 (by decide) dX1_snowmanOf_75 k17 (by decide) ?_
    refine r_goto (tgt := 116) dX1_snowmanOf_78 rfl ?_
    exact r_iret dX1_snowmanOf_116 rfl H
  replace H := H.2
  refine R.tri (k9 := 3) (fun b18 => ?_) (fun b18 => ?_)
  · replace H := H.1 b18
    refine r_tableIn (tgt := 81) dX1_snowmanOf_20 (by rw [b18]; decide) (by rw [b18]; decide) (by rw [b18]; first | done | rfl) rfl ?_
    refine r_aload_n dX1_snowmanOf_81 rfl rfl ?_
    obtain ⟨k19, H⟩ := H
    refine r_getF fr_X1_178_4 (by decide) dX1_snowmanOf_82 k19 (by decide) ?_
    refine r_invS (y := m_X1_number) dX1_snowmanOf_85 rfl (lw_S q1589 q1534 q107 q1535) py_X1_number (Nat.le_of_ble_eq_true rfl) (args := [_]) rfl rfl (Nat.le_of_ble_eq_true rfl) (C.monoE H (fun o h20 _ x22 K => cont_I K (fun v21 H => ?_) (fun r HX => XR_nc rfl HX)))
    refine r_goto (tgt := 116) dX1_snowmanOf_88 rfl ?_
    exact r_iret dX1_snowmanOf_116 rfl H
  replace H := H.2
  refine R.tri (k9 := 4) (fun b23 => ?_) (fun b23 => ?_)
  · replace H := H.1 b23
    refine r_tableIn (tgt := 91) dX1_snowmanOf_20 (by rw [b23]; decide) (by rw [b23]; decide) (by rw [b23]; first | done | rfl) rfl ?_
    refine r_aload_n dX1_snowmanOf_91 rfl rfl ?_
    refine r_getG fr_X1_37_1 (by decide) dX1_snowmanOf_92 (x11.kd (x8.kd (x5.kd k1 (by decide)) (by decide)) (by decide)) (by decide) ?_
    refine r_aload_n dX1_snowmanOf_95 rfl rfl ?_
    obtain ⟨k24, H⟩ := H
    refine r_invV (y := m_X2_hasHat) dX1_snowmanOf_96 rfl (lw_V q2702 q2469 q2470 q108 q2471) py_X2_hasHat (Nat.le_of_ble_eq_true rfl) (args := [_]) rfl rfl (Nat.le_of_ble_eq_true rfl) k24 (by decide) rfl (C.monoE H (fun o h25 _ x27 K => cont_I K (fun v26 H => ?_) (fun r HX => XR_nc rfl HX)))
    refine r_invS (y := m_X1_number) dX1_snowmanOf_99 rfl (lw_S q1589 q1534 q107 q1535) py_X1_number (Nat.le_of_ble_eq_true rfl) (args := [_]) rfl rfl (Nat.le_of_ble_eq_true rfl) (C.monoE H (fun o h28 _ x30 K => cont_I K (fun v29 H => ?_) (fun r HX => XR_nc rfl HX)))
    refine r_goto (tgt := 116) dX1_snowmanOf_102 rfl ?_
    exact r_iret dX1_snowmanOf_116 rfl H
  replace H := H.2
  refine R.tri (k9 := 5) (fun b31 => ?_) (fun b31 => ?_)
  · replace H := H.1 b31
    refine r_tableIn (tgt := 105) dX1_snowmanOf_20 (by rw [b31]; decide) (by rw [b31]; decide) (by rw [b31]; first | done | rfl) rfl ?_
    refine r_aload_n dX1_snowmanOf_105 rfl rfl ?_
    obtain ⟨k32, H⟩ := H
    refine r_getF fr_X1_186_4 (by decide) dX1_snowmanOf_106 k32 (by decide) ?_
    refine r_goto (tgt := 116) dX1_snowmanOf_109 rfl ?_
    exact r_iret dX1_snowmanOf_116 rfl H
  replace H := H.2
  replace H := H b12 b14 b16 b18 b23 b31
  refine r_tableOut (tgt := 112) dX1_snowmanOf_20 (tabOut (lo := 0) (n := 6) rfl (fun i hi => match i, hi with | 0, _ => b12 | 1, _ => b14 | 2, _ => b16 | 3, _ => b18 | 4, _ => b23 | 5, _ => b31 | k + 6, hi => absurd hi (by omega))) rfl ?_
  refine r_aload_n dX1_snowmanOf_112 rfl rfl ?_
  obtain ⟨k33, H⟩ := H
  refine r_getF fr_X1_189_4 (by decide) dX1_snowmanOf_113 k33 (by decide) ?_
  exact r_iret dX1_snowmanOf_116 rfl H
theorem c_X1_snowmanOf_0 {g : PG} {d : Nat} {l0 : Nat} {l1 : Int32} {l2 : Int32} {h : PH} {Q : Out → PH → Prop} (H : w_X1_snowmanOf_0 g d l0 l1 l2 h Q) : C g (d + 1) m_X1_snowmanOf [.ref l0, .int l1, .int l2] h Q := C_of_R rfl rfl (Nat.le_of_ble_eq_true rfl) rfl (v_X1_snowmanOf_0 H)
abbrev w_X1_teamOf_0 (g : PG) (d : Nat) (l0 : Nat) (l1 : Int32) (l2 : Int32) (h : PH) (Q : Out → PH → Prop) : Prop := C g d m_X1_checkTeam [.int l1] h (oV (fun h1 => C g d m_X1_inRange [.int l2, .int 0, .int 5] h1 (oI (fun v5 h4 => C g d m_X1_checkArgument [.int v5] h4 (oV (fun h7 => (l2 = 0 → hkd h7 l0 = 1 ∧ C g d m_X1_runnersOf [.ref l0, .int l1] h7 (oI (fun v13 h12 => Q (.inl (some (.int v13))) h12) (fun r hx => Q (.inr r) hx))) ∧ (l2 = 1 → hkd h7 l0 = 1 ∧ hkd h7 (hG h7 500 l0) = 2 ∧ hkd h7 (hG h7 508 (hG h7 500 l0)) / 100 = 1 ∧ vp_in l1 (hln h7 (hG h7 508 (hG h7 500 l0))) ∧ Q (.inl (some (.int (hA h7 (hG h7 508 (hG h7 500 l0)) l1.toNatClampNeg)))) h7) ∧ (l2 = 2 → hkd h7 l0 = 1 ∧ hkd h7 (hG h7 500 l0) = 2 ∧ C g d m_X2_hatPlank [.ref (hG h7 500 l0), .int l1] h7 (oI (fun v24 h23 => Q (.inl (some (.int v24))) h23) (fun r hx => Q (.inr r) hx))) ∧ (l2 = 3 → hkd h7 l0 = 1 ∧ hkd h7 (hG h7 500 l0) = 2 ∧ hkd h7 (hG h7 509 (hG h7 500 l0)) / 100 = 1 ∧ vp_in l1 (hln h7 (hG h7 509 (hG h7 500 l0))) ∧ Q (.inl (some (.int (hA h7 (hG h7 509 (hG h7 500 l0)) l1.toNatClampNeg)))) h7) ∧ (l2 = 4 → hkd h7 l0 = 1 ∧ C g d m_X1_massOf [.ref l0, .int l1] h7 (oI (fun v34 h33 => Q (.inl (some (.int v34))) h33) (fun r hx => Q (.inr r) hx))) ∧ (¬ l2 = 0 → ¬ l2 = 1 → ¬ l2 = 2 → ¬ l2 = 3 → ¬ l2 = 4 → hkd h7 l0 = 1 ∧ hkd h7 (hG h7 500 l0) = 2 ∧ hkd h7 (hG h7 510 (hG h7 500 l0)) / 100 = 1 ∧ vp_in l1 (hln h7 (hG h7 510 (hG h7 500 l0))) ∧ Q (.inl (some (.int (hA h7 (hG h7 510 (hG h7 500 l0)) l1.toNatClampNeg)))) h7)) (fun r hx => Q (.inr r) hx))) (fun r hx => Q (.inr r) hx))) (fun r hx => Q (.inr r) hx))
theorem v_X1_teamOf_0 {g : PG} {d : Nat} {l0 : Nat} {l1 : Int32} {l2 : Int32} {h : PH} {Q : Out → PH → Prop} (H : w_X1_teamOf_0 g d l0 l1 l2 h Q) : R g d m_X1_teamOf 0 [.ref l0, .int l1, .int l2] [] h Q := by
  refine r_iload_n dX1_teamOf_0 rfl rfl ?_
  refine r_invS (y := m_X1_checkTeam) dX1_teamOf_1 rfl (lw_S q2710 q2404 q107 q2405) py_X1_checkTeam (Nat.le_of_ble_eq_true rfl) (args := [_]) rfl rfl (Nat.le_of_ble_eq_true rfl) (C.monoE H (fun o h1 _ x3 K => cont_V K (fun H => ?_) (fun r HX => XR_nc rfl HX)))
  refine r_iload_n dX1_teamOf_4 rfl rfl ?_
  refine r_iconst dX1_teamOf_5 rfl ?_
  refine r_iconst dX1_teamOf_6 rfl ?_
  refine r_invS (y := m_X1_inRange) dX1_teamOf_7 rfl (lw_S q1610 q1611 q107 q1612) py_X1_inRange (Nat.le_of_ble_eq_true rfl) (args := [_, _, _]) rfl rfl (Nat.le_of_ble_eq_true rfl) (C.monoE H (fun o h4 _ x6 K => cont_I K (fun v5 H => ?_) (fun r HX => XR_nc rfl HX)))
  refine r_invS (y := m_X1_checkArgument) dX1_teamOf_10 rfl (lw_S q2406 q2407 q107 q2408) py_X1_checkArgument (Nat.le_of_ble_eq_true rfl) (args := [_]) rfl rfl (Nat.le_of_ble_eq_true rfl) (C.monoE H (fun o h7 _ x9 K => cont_V K (fun H => ?_) (fun r HX => XR_nc rfl HX)))
  refine r_iload_n dX1_teamOf_13 rfl rfl ?_
  refine R.tri (k9 := 0) (fun b10 => ?_) (fun b10 => ?_)
  · replace H := H.1 b10
    refine r_tableIn (tgt := 48) dX1_teamOf_14 (by rw [b10]; decide) (by rw [b10]; decide) (by rw [b10]; first | done | rfl) rfl ?_
    refine r_aload_n dX1_teamOf_48 rfl rfl ?_
    refine r_iload_n dX1_teamOf_49 rfl rfl ?_
    obtain ⟨k11, H⟩ := H
    refine r_invV (y := m_X1_runnersOf) dX1_teamOf_50 rfl (lw_V q2711 q2713 qp45 q107 q2714) py_X1_runnersOf (Nat.le_of_ble_eq_true rfl) (args := [_]) rfl rfl (Nat.le_of_ble_eq_true rfl) k11 (by decide) rfl (C.monoE H (fun o h12 _ x14 K => cont_I K (fun v13 H => ?_) (fun r HX => XR_nc rfl HX)))
    refine r_goto (tgt := 108) dX1_teamOf_53 rfl ?_
    exact r_iret dX1_teamOf_108 rfl H
  replace H := H.2
  refine R.tri (k9 := 1) (fun b15 => ?_) (fun b15 => ?_)
  · replace H := H.1 b15
    refine r_tableIn (tgt := 56) dX1_teamOf_14 (by rw [b15]; decide) (by rw [b15]; decide) (by rw [b15]; first | done | rfl) rfl ?_
    refine r_aload_n dX1_teamOf_56 rfl rfl ?_
    obtain ⟨k16, H⟩ := H
    refine r_getG fr_X1_37_1 (by decide) dX1_teamOf_57 k16 (by decide) ?_
    obtain ⟨k17, H⟩ := H
    refine r_getG fr_X1_199_2 (by decide) dX1_teamOf_60 k17 (by decide) ?_
    refine r_iload_n dX1_teamOf_63 rfl rfl ?_
    obtain ⟨k18, H⟩ := H
    obtain ⟨k19, H⟩ := H
    refine r_iald dX1_teamOf_64 k18 k19 ?_
    refine r_goto (tgt := 108) dX1_teamOf_65 rfl ?_
    exact r_iret dX1_teamOf_108 rfl H
  replace H := H.2
  refine R.tri (k9 := 2) (fun b20 => ?_) (fun b20 => ?_)
  · replace H := H.1 b20
    refine r_tableIn (tgt := 68) dX1_teamOf_14 (by rw [b20]; decide) (by rw [b20]; decide) (by rw [b20]; first | done | rfl) rfl ?_
    refine r_aload_n dX1_teamOf_68 rfl rfl ?_
    obtain ⟨k21, H⟩ := H
    refine r_getG fr_X1_37_1 (by decide) dX1_teamOf_69 k21 (by decide) ?_
    refine r_iload_n dX1_teamOf_72 rfl rfl ?_
    obtain ⟨k22, H⟩ := H
    refine r_invV (y := m_X2_hatPlank) dX1_teamOf_73 rfl (lw_V q1625 q1626 q1627 q108 q1628) py_X2_hatPlank (Nat.le_of_ble_eq_true rfl) (args := [_]) rfl rfl (Nat.le_of_ble_eq_true rfl) k22 (by decide) rfl (C.monoE H (fun o h23 _ x25 K => cont_I K (fun v24 H => ?_) (fun r HX => XR_nc rfl HX)))
    refine r_goto (tgt := 108) dX1_teamOf_76 rfl ?_
    exact r_iret dX1_teamOf_108 rfl H
  replace H := H.2
  refine R.tri (k9 := 3) (fun b26 => ?_) (fun b26 => ?_)
  · replace H := H.1 b26
    refine r_tableIn (tgt := 79) dX1_teamOf_14 (by rw [b26]; decide) (by rw [b26]; decide) (by rw [b26]; first | done | rfl) rfl ?_
    refine r_aload_n dX1_teamOf_79 rfl rfl ?_
    obtain ⟨k27, H⟩ := H
    refine r_getG fr_X1_37_1 (by decide) dX1_teamOf_80 k27 (by decide) ?_
    obtain ⟨k28, H⟩ := H
    refine r_getG fr_X1_206_2 (by decide) dX1_teamOf_83 k28 (by decide) ?_
    refine r_iload_n dX1_teamOf_86 rfl rfl ?_
    obtain ⟨k29, H⟩ := H
    obtain ⟨k30, H⟩ := H
    refine r_iald dX1_teamOf_87 k29 k30 ?_
    refine r_goto (tgt := 108) dX1_teamOf_88 rfl ?_
    exact r_iret dX1_teamOf_108 rfl H
  replace H := H.2
  refine R.tri (k9 := 4) (fun b31 => ?_) (fun b31 => ?_)
  · replace H := H.1 b31
    refine r_tableIn (tgt := 91) dX1_teamOf_14 (by rw [b31]; decide) (by rw [b31]; decide) (by rw [b31]; first | done | rfl) rfl ?_
    refine r_aload_n dX1_teamOf_91 rfl rfl ?_
    refine r_iload_n dX1_teamOf_92 rfl rfl ?_
    obtain ⟨k32, H⟩ := H
    refine r_invV (y := m_X1_massOf) dX1_teamOf_93 rfl (lw_V q2715 q2717 qp46 q107 q2718) py_X1_massOf (Nat.le_of_ble_eq_true rfl) (args := [_]) rfl rfl (Nat.le_of_ble_eq_true rfl) k32 (by decide) rfl (C.monoE H (fun o h33 _ x35 K => cont_I K (fun v34 H => ?_) (fun r HX => XR_nc rfl HX)))
    refine r_goto (tgt := 108) dX1_teamOf_96 rfl ?_
    exact r_iret dX1_teamOf_108 rfl H
  replace H := H.2
  replace H := H b10 b15 b20 b26 b31
  refine r_tableOut (tgt := 99) dX1_teamOf_14 (tabOut (lo := 0) (n := 5) rfl (fun i hi => match i, hi with | 0, _ => b10 | 1, _ => b15 | 2, _ => b20 | 3, _ => b26 | 4, _ => b31 | k + 5, hi => absurd hi (by omega))) rfl ?_
  refine r_aload_n dX1_teamOf_99 rfl rfl ?_
  obtain ⟨k36, H⟩ := H
  refine r_getG fr_X1_37_1 (by decide) dX1_teamOf_100 k36 (by decide) ?_
  obtain ⟨k37, H⟩ := H
  refine r_getG fr_X1_212_2 (by decide) dX1_teamOf_103 k37 (by decide) ?_
  refine r_iload_n dX1_teamOf_106 rfl rfl ?_
  obtain ⟨k38, H⟩ := H
  obtain ⟨k39, H⟩ := H
  refine r_iald dX1_teamOf_107 k38 k39 ?_
  exact r_iret dX1_teamOf_108 rfl H
theorem c_X1_teamOf_0 {g : PG} {d : Nat} {l0 : Nat} {l1 : Int32} {l2 : Int32} {h : PH} {Q : Out → PH → Prop} (H : w_X1_teamOf_0 g d l0 l1 l2 h Q) : C g (d + 1) m_X1_teamOf [.ref l0, .int l1, .int l2] h Q := C_of_R rfl rfl (Nat.le_of_ble_eq_true rfl) rfl (v_X1_teamOf_0 H)
abbrev w_X1_runnersOf_56 (g : PG) (d : Nat) (l1 : Int32) (l3 : Nat) (s0 : Int32) (s1 : Int32) (h : PH) (Q : Out → PH → Prop) : Prop := C g d m_X1_number [.int s1] h (oI (fun v2 h1 => R g d m_X1_runnersOf 13 [.null, .int l1, .int (s0 + v2), .ref l3, .null] [] h1 Q) (fun r hx => Q (.inr r) hx))
theorem v_X1_runnersOf_56 {g : PG} {d : Nat} {l1 : Int32} {l3 : Nat} {s0 : Int32} {s1 : Int32} {h : PH} {Q : Out → PH → Prop} (H : w_X1_runnersOf_56 g d l1 l3 s0 s1 h Q) : R g d m_X1_runnersOf 56 [.null, .int l1, .null, .ref l3, .null] [.int s1, .int s0] h Q := by
  refine r_invS (y := m_X1_number) dX1_runnersOf_56 rfl (lw_S q1589 q1534 q107 q1535) py_X1_number (Nat.le_of_ble_eq_true rfl) (args := [_]) rfl rfl (Nat.le_of_ble_eq_true rfl) (C.monoE H (fun o h1 _ x3 K => cont_I K (fun v2 H => ?_) (fun r HX => XR_nc rfl HX)))
  refine r_iadd dX1_runnersOf_59 ?_
  refine r_istore_n dX1_runnersOf_60 rfl (Nat.le_of_ble_eq_true rfl) rfl (slS (slS sl0)) ?_
  refine r_goto (tgt := 13) dX1_runnersOf_61 rfl ?_
  exact H
abbrev w_X1_runnersOf_55 (g : PG) (d : Nat) (l1 : Int32) (l3 : Nat) (s0 : Int32) (h : PH) (Q : Out → PH → Prop) : Prop := w_X1_runnersOf_56 g d l1 l3 s0 (0 : Int32) h Q
theorem v_X1_runnersOf_55 {g : PG} {d : Nat} {l1 : Int32} {l3 : Nat} {s0 : Int32} {h : PH} {Q : Out → PH → Prop} (H : w_X1_runnersOf_55 g d l1 l3 s0 h Q) : R g d m_X1_runnersOf 55 [.null, .int l1, .null, .ref l3, .null] [.int s0] h Q := by
  refine r_iconst dX1_runnersOf_55 rfl ?_
  exact v_X1_runnersOf_56 H
abbrev w_X1_runnersOf_13 (g : PG) (d : Nat) (l1 : Int32) (l2 : Int32) (l3 : Nat) (h : PH) (Q : Out → PH → Prop) : Prop := hkd h l3 = 14 ∧ C g d m_J18_hasNext [.ref l3] h (oI (fun v3 h2 => ((v3 = 0) → Q (.inl (some (.int l2))) h2) ∧ ((¬ v3 = 0) → C g d m_J18_next [.ref l3] h2 (oR (fun v7 h6 => (v7 = 0 ∨ hkd h6 v7 = 4) ∧ hkd h6 v7 = 4 ∧ ((¬ (hF h6 8 v7) = l1) → w_X1_runnersOf_55 g d l1 l3 l2 h6 Q) ∧ (((hF h6 8 v7) = l1) → C g d m_X6_isGone [.ref v7] h6 (oI (fun v13 h12 => ((¬ v13 = 0) → w_X1_runnersOf_55 g d l1 l3 l2 h12 Q) ∧ ((v13 = 0) → w_X1_runnersOf_56 g d l1 l3 l2 (1 : Int32) h12 Q)) (fun r hx => Q (.inr r) hx)))) (fun r hx => Q (.inr r) hx)))) (fun r hx => Q (.inr r) hx))
theorem v_X1_runnersOf_13 {g : PG} {d : Nat} {l1 : Int32} {l2 : Int32} {l3 : Nat} {h : PH} {Q : Out → PH → Prop} (H : w_X1_runnersOf_13 g d l1 l2 l3 h Q) : R g d m_X1_runnersOf 13 [.null, .int l1, .int l2, .ref l3, .null] [] h Q := by
  refine r_aload_n dX1_runnersOf_13 rfl rfl ?_
  obtain ⟨k1, H⟩ := H
  refine r_invF (y := m_J18_hasNext) (Cn := "java/util/ArrayList$Itr") (x := ⟨"java/util/Iterator", "hasNext", "()Z"⟩) dX1_runnersOf_14 rfl (lw_F q1577 q925 q927 q130 q929) fw_t2 (n := 0) (by decide +kernel) (Nat.le_of_ble_eq_true rfl) (args := []) rfl rfl (Nat.le_of_ble_eq_true rfl) k1 (by decide) rfl (C.monoE H (fun o h2 _ x4 K => cont_I K (fun v3 H => ?_) (fun r HX => XR_nc rfl HX)))
  refine r_if_eq (tgt := 64) dX1_runnersOf_19 rfl (fun b5 => ?_) (fun b5 => ?_)
  · replace H := H.1 b5
    refine r_iload_n dX1_runnersOf_64 rfl rfl ?_
    exact r_iret dX1_runnersOf_65 rfl H
  · replace H := H.2 b5
    refine r_aload_n dX1_runnersOf_22 rfl rfl ?_
    refine r_invF (y := m_J18_next) (Cn := "java/util/ArrayList$Itr") (x := ⟨"java/util/Iterator", "next", "()Ljava/lang/Object;"⟩) dX1_runnersOf_23 rfl (lw_F q1579 q1167 q1169 q130 q1171) fw_t7 (n := 0) (by decide +kernel) (Nat.le_of_ble_eq_true rfl) (args := []) rfl rfl (Nat.le_of_ble_eq_true rfl) (x4.kd k1 (by decide)) (by decide) rfl (C.monoE H (fun o h6 _ x8 K => cont_R K (fun v7 H => ?_) (fun r HX => XR_nc rfl HX)))
    obtain ⟨k9, H⟩ := H
    refine r_castO (kv := 4) dX1_runnersOf_28 q1580 (by decide) (Or.inr rfl) k9 ?_
    refine r_astore dX1_runnersOf_31 (Nat.le_of_ble_eq_true rfl) rfl (slS (slS (slS (slS sl0)))) ?_
    refine r_iload_n dX1_runnersOf_33 rfl rfl ?_
    refine r_aload dX1_runnersOf_34 rfl ?_
    obtain ⟨k10, H⟩ := H
    refine r_getF fr_X1_172_4 (by decide) dX1_runnersOf_36 k10 (by decide) ?_
    refine r_iload_n dX1_runnersOf_39 rfl rfl ?_
    refine r_icmp_ne (tgt := 55) dX1_runnersOf_40 rfl (fun b11 => ?_) (fun b11 => ?_)
    · replace H := H.1 b11
      exact R.forget (v_X1_runnersOf_55 H) ⟨Or.inl rfl, ⟨Or.inl rfl, ⟨Or.inr rfl, ⟨Or.inl rfl, ⟨Or.inr rfl, trivial⟩⟩⟩⟩⟩
    · replace H := H.2 b11
      refine r_aload dX1_runnersOf_43 rfl ?_
      refine r_invV (y := m_X6_isGone) dX1_runnersOf_45 rfl (lw_V q2690 q2474 q2475 q142 q2476) py_X6_isGone (Nat.le_of_ble_eq_true rfl) (args := []) rfl rfl (Nat.le_of_ble_eq_true rfl) k10 (by decide) rfl (C.monoE H (fun o h12 _ x14 K => cont_I K (fun v13 H => ?_) (fun r HX => XR_nc rfl HX)))
      refine r_if_ne (tgt := 55) dX1_runnersOf_48 rfl (fun b15 => ?_) (fun b15 => ?_)
      · replace H := H.1 b15
        exact R.forget (v_X1_runnersOf_55 H) ⟨Or.inl rfl, ⟨Or.inl rfl, ⟨Or.inr rfl, ⟨Or.inl rfl, ⟨Or.inr rfl, trivial⟩⟩⟩⟩⟩
      · replace H := H.2 b15
        refine r_iconst dX1_runnersOf_51 rfl ?_
        refine r_goto (tgt := 56) dX1_runnersOf_52 rfl ?_
        exact R.forget (v_X1_runnersOf_56 H) ⟨Or.inl rfl, ⟨Or.inl rfl, ⟨Or.inr rfl, ⟨Or.inl rfl, ⟨Or.inr rfl, trivial⟩⟩⟩⟩⟩
abbrev w_X1_runnersOf_0 (g : PG) (d : Nat) (l0 : Nat) (l1 : Int32) (h : PH) (Q : Out → PH → Prop) : Prop := hkd h l0 = 1 ∧ hkd h (hG h 500 l0) = 2 ∧ hkd h (hG h 507 (hG h 500 l0)) = 13 ∧ C g d m_J2_iterator [.ref (hG h 507 (hG h 500 l0))] h (oR (fun v5 h4 => R g d m_X1_runnersOf 13 [.null, .int l1, .int 0, .ref v5, .null] [] h4 Q) (fun r hx => Q (.inr r) hx))
theorem v_X1_runnersOf_0 {g : PG} {d : Nat} {l0 : Nat} {l1 : Int32} {h : PH} {Q : Out → PH → Prop} (H : w_X1_runnersOf_0 g d l0 l1 h Q) : R g d m_X1_runnersOf 0 [.ref l0, .int l1, .null, .null, .null] [] h Q := by
  refine r_iconst dX1_runnersOf_0 rfl ?_
  refine r_istore_n dX1_runnersOf_1 rfl (Nat.le_of_ble_eq_true rfl) rfl (slS (slS sl0)) ?_
  refine r_aload_n dX1_runnersOf_2 rfl rfl ?_
  obtain ⟨k1, H⟩ := H
  refine r_getG fr_X1_37_1 (by decide) dX1_runnersOf_3 k1 (by decide) ?_
  obtain ⟨k2, H⟩ := H
  refine r_getG fr_X1_115_2 (by decide) dX1_runnersOf_6 k2 (by decide) ?_
  obtain ⟨k3, H⟩ := H
  refine r_invV (y := m_J2_iterator) dX1_runnersOf_9 rfl (lw_V q1551 q1552 q1553 q111 q1554) py_J2_iterator (Nat.le_of_ble_eq_true rfl) (args := []) rfl rfl (Nat.le_of_ble_eq_true rfl) k3 (by decide) rfl (C.monoE H (fun o h4 _ x6 K => cont_R K (fun v5 H => ?_) (fun r HX => XR_nc rfl HX)))
  refine r_astore_n dX1_runnersOf_12 rfl (Nat.le_of_ble_eq_true rfl) rfl (slS (slS (slS sl0))) ?_
  exact R.forget H ⟨Or.inr rfl, ⟨Or.inl rfl, ⟨Or.inl rfl, ⟨Or.inl rfl, ⟨Or.inl rfl, trivial⟩⟩⟩⟩⟩
theorem c_X1_runnersOf_0 {g : PG} {d : Nat} {l0 : Nat} {l1 : Int32} {h : PH} {Q : Out → PH → Prop} (H : w_X1_runnersOf_0 g d l0 l1 h Q) : C g (d + 1) m_X1_runnersOf [.ref l0, .int l1] h Q := C_of_R rfl rfl (Nat.le_of_ble_eq_true rfl) rfl (v_X1_runnersOf_0 H)
abbrev w_X1_massOf_52 (g : PG) (d : Nat) (l1 : Int32) (l3 : Nat) (s0 : Int32) (s1 : Int32) (h : PH) (Q : Out → PH → Prop) : Prop := R g d m_X1_massOf 13 [.null, .int l1, .int (s0 + s1), .ref l3, .null] [] h Q
theorem v_X1_massOf_52 {g : PG} {d : Nat} {l1 : Int32} {l3 : Nat} {s0 : Int32} {s1 : Int32} {h : PH} {Q : Out → PH → Prop} (H : w_X1_massOf_52 g d l1 l3 s0 s1 h Q) : R g d m_X1_massOf 52 [.null, .int l1, .null, .ref l3, .null] [.int s1, .int s0] h Q := by
  refine r_iadd dX1_massOf_52 ?_
  refine r_istore_n dX1_massOf_53 rfl (Nat.le_of_ble_eq_true rfl) rfl (slS (slS sl0)) ?_
  refine r_goto (tgt := 13) dX1_massOf_54 rfl ?_
  exact H
abbrev w_X1_massOf_13 (g : PG) (d : Nat) (l1 : Int32) (l2 : Int32) (l3 : Nat) (h : PH) (Q : Out → PH → Prop) : Prop := hkd h l3 = 14 ∧ C g d m_J18_hasNext [.ref l3] h (oI (fun v3 h2 => ((v3 = 0) → Q (.inl (some (.int l2))) h2) ∧ ((¬ v3 = 0) → C g d m_J18_next [.ref l3] h2 (oR (fun v7 h6 => (v7 = 0 ∨ hkd h6 v7 = 4) ∧ hkd h6 v7 = 4 ∧ ((¬ (hF h6 8 v7) = l1) → w_X1_massOf_52 g d l1 l3 l2 (0 : Int32) h6 Q) ∧ (((hF h6 8 v7) = l1) → w_X1_massOf_52 g d l1 l3 l2 (hF h6 10 v7) h6 Q)) (fun r hx => Q (.inr r) hx)))) (fun r hx => Q (.inr r) hx))
theorem v_X1_massOf_13 {g : PG} {d : Nat} {l1 : Int32} {l2 : Int32} {l3 : Nat} {h : PH} {Q : Out → PH → Prop} (H : w_X1_massOf_13 g d l1 l2 l3 h Q) : R g d m_X1_massOf 13 [.null, .int l1, .int l2, .ref l3, .null] [] h Q := by
  refine r_aload_n dX1_massOf_13 rfl rfl ?_
  obtain ⟨k1, H⟩ := H
  refine r_invF (y := m_J18_hasNext) (Cn := "java/util/ArrayList$Itr") (x := ⟨"java/util/Iterator", "hasNext", "()Z"⟩) dX1_massOf_14 rfl (lw_F q1577 q925 q927 q130 q929) fw_t2 (n := 0) (by decide +kernel) (Nat.le_of_ble_eq_true rfl) (args := []) rfl rfl (Nat.le_of_ble_eq_true rfl) k1 (by decide) rfl (C.monoE H (fun o h2 _ x4 K => cont_I K (fun v3 H => ?_) (fun r HX => XR_nc rfl HX)))
  refine r_if_eq (tgt := 57) dX1_massOf_19 rfl (fun b5 => ?_) (fun b5 => ?_)
  · replace H := H.1 b5
    refine r_iload_n dX1_massOf_57 rfl rfl ?_
    exact r_iret dX1_massOf_58 rfl H
  · replace H := H.2 b5
    refine r_aload_n dX1_massOf_22 rfl rfl ?_
    refine r_invF (y := m_J18_next) (Cn := "java/util/ArrayList$Itr") (x := ⟨"java/util/Iterator", "next", "()Ljava/lang/Object;"⟩) dX1_massOf_23 rfl (lw_F q1579 q1167 q1169 q130 q1171) fw_t7 (n := 0) (by decide +kernel) (Nat.le_of_ble_eq_true rfl) (args := []) rfl rfl (Nat.le_of_ble_eq_true rfl) (x4.kd k1 (by decide)) (by decide) rfl (C.monoE H (fun o h6 _ x8 K => cont_R K (fun v7 H => ?_) (fun r HX => XR_nc rfl HX)))
    obtain ⟨k9, H⟩ := H
    refine r_castO (kv := 4) dX1_massOf_28 q1580 (by decide) (Or.inr rfl) k9 ?_
    refine r_astore dX1_massOf_31 (Nat.le_of_ble_eq_true rfl) rfl (slS (slS (slS (slS sl0)))) ?_
    refine r_iload_n dX1_massOf_33 rfl rfl ?_
    refine r_aload dX1_massOf_34 rfl ?_
    obtain ⟨k10, H⟩ := H
    refine r_getF fr_X1_172_4 (by decide) dX1_massOf_36 k10 (by decide) ?_
    refine r_iload_n dX1_massOf_39 rfl rfl ?_
    refine r_icmp_ne (tgt := 51) dX1_massOf_40 rfl (fun b11 => ?_) (fun b11 => ?_)
    · replace H := H.1 b11
      refine r_iconst dX1_massOf_51 rfl ?_
      exact R.forget (v_X1_massOf_52 H) ⟨Or.inl rfl, ⟨Or.inl rfl, ⟨Or.inr rfl, ⟨Or.inl rfl, ⟨Or.inr rfl, trivial⟩⟩⟩⟩⟩
    · replace H := H.2 b11
      refine r_aload dX1_massOf_43 rfl ?_
      refine r_getF fr_X1_175_4 (by decide) dX1_massOf_45 k10 (by decide) ?_
      refine r_goto (tgt := 52) dX1_massOf_48 rfl ?_
      exact R.forget (v_X1_massOf_52 H) ⟨Or.inl rfl, ⟨Or.inl rfl, ⟨Or.inr rfl, ⟨Or.inl rfl, ⟨Or.inr rfl, trivial⟩⟩⟩⟩⟩
abbrev w_X1_massOf_0 (g : PG) (d : Nat) (l0 : Nat) (l1 : Int32) (h : PH) (Q : Out → PH → Prop) : Prop := hkd h l0 = 1 ∧ hkd h (hG h 500 l0) = 2 ∧ hkd h (hG h 507 (hG h 500 l0)) = 13 ∧ C g d m_J2_iterator [.ref (hG h 507 (hG h 500 l0))] h (oR (fun v5 h4 => R g d m_X1_massOf 13 [.null, .int l1, .int 0, .ref v5, .null] [] h4 Q) (fun r hx => Q (.inr r) hx))
theorem v_X1_massOf_0 {g : PG} {d : Nat} {l0 : Nat} {l1 : Int32} {h : PH} {Q : Out → PH → Prop} (H : w_X1_massOf_0 g d l0 l1 h Q) : R g d m_X1_massOf 0 [.ref l0, .int l1, .null, .null, .null] [] h Q := by
  refine r_iconst dX1_massOf_0 rfl ?_
  refine r_istore_n dX1_massOf_1 rfl (Nat.le_of_ble_eq_true rfl) rfl (slS (slS sl0)) ?_
  refine r_aload_n dX1_massOf_2 rfl rfl ?_
  obtain ⟨k1, H⟩ := H
  refine r_getG fr_X1_37_1 (by decide) dX1_massOf_3 k1 (by decide) ?_
  obtain ⟨k2, H⟩ := H
  refine r_getG fr_X1_115_2 (by decide) dX1_massOf_6 k2 (by decide) ?_
  obtain ⟨k3, H⟩ := H
  refine r_invV (y := m_J2_iterator) dX1_massOf_9 rfl (lw_V q1551 q1552 q1553 q111 q1554) py_J2_iterator (Nat.le_of_ble_eq_true rfl) (args := []) rfl rfl (Nat.le_of_ble_eq_true rfl) k3 (by decide) rfl (C.monoE H (fun o h4 _ x6 K => cont_R K (fun v5 H => ?_) (fun r HX => XR_nc rfl HX)))
  refine r_astore_n dX1_massOf_12 rfl (Nat.le_of_ble_eq_true rfl) rfl (slS (slS (slS sl0))) ?_
  exact R.forget H ⟨Or.inr rfl, ⟨Or.inl rfl, ⟨Or.inl rfl, ⟨Or.inl rfl, ⟨Or.inl rfl, trivial⟩⟩⟩⟩⟩
theorem c_X1_massOf_0 {g : PG} {d : Nat} {l0 : Nat} {l1 : Int32} {h : PH} {Q : Out → PH → Prop} (H : w_X1_massOf_0 g d l0 l1 h Q) : C g (d + 1) m_X1_massOf [.ref l0, .int l1] h Q := C_of_R rfl rfl (Nat.le_of_ble_eq_true rfl) rfl (v_X1_massOf_0 H)
abbrev w_X1_massAt_0 (g : PG) (d : Nat) (l0 : Nat) (l1 : Int32) (l2 : Int32) (h : PH) (Q : Out → PH → Prop) : Prop := hkd h l0 = 1 ∧ C g d m_X1_runner [.ref l0, .int l1, .int l2] h (oR (fun v3 h2 => hkd h2 (hG h 500 l0) = 2 ∧ C g d m_X2_massBehind [.ref (hG h 500 l0), .ref v3, .int l2] h2 (oI (fun v7 h6 => Q (.inl (some (.int v7))) h6) (fun r hx => Q (.inr r) hx))) (fun r hx => Q (.inr r) hx))
theorem v_X1_massAt_0 {g : PG} {d : Nat} {l0 : Nat} {l1 : Int32} {l2 : Int32} {h : PH} {Q : Out → PH → Prop} (H : w_X1_massAt_0 g d l0 l1 l2 h Q) : R g d m_X1_massAt 0 [.ref l0, .int l1, .int l2] [] h Q := by
  refine r_aload_n dX1_massAt_0 rfl rfl ?_
  obtain ⟨k1, H⟩ := H
  refine r_getG fr_X1_37_1 (by decide) dX1_massAt_1 k1 (by decide) ?_
  refine r_aload_n dX1_massAt_4 rfl rfl ?_
  refine r_iload_n dX1_massAt_5 rfl rfl ?_
  refine r_iload_n dX1_massAt_6 rfl rfl ?_
  refine r_invV (y := m_X1_runner) dX1_massAt_7 rfl (lw_V q2727 q2729 qp47 q107 q2730) py_X1_runner (Nat.le_of_ble_eq_true rfl) (args := [_, _]) rfl rfl (Nat.le_of_ble_eq_true rfl) k1 (by decide) rfl (C.monoE H (fun o h2 _ x4 K => cont_R K (fun v3 H => ?_) (fun r HX => XR_nc rfl HX)))
  refine r_iload_n dX1_massAt_10 rfl rfl ?_
  obtain ⟨k5, H⟩ := H
  refine r_invV (y := m_X2_massBehind) dX1_massAt_11 rfl (lw_V q1600 q1307 q1308 q108 q1309) py_X2_massBehind (Nat.le_of_ble_eq_true rfl) (args := [_, _]) rfl rfl (Nat.le_of_ble_eq_true rfl) k5 (by decide) rfl (C.monoE H (fun o h6 _ x8 K => cont_I K (fun v7 H => ?_) (fun r HX => XR_nc rfl HX)))
  exact r_iret dX1_massAt_14 rfl H
theorem c_X1_massAt_0 {g : PG} {d : Nat} {l0 : Nat} {l1 : Int32} {l2 : Int32} {h : PH} {Q : Out → PH → Prop} (H : w_X1_massAt_0 g d l0 l1 l2 h Q) : C g (d + 1) m_X1_massAt [.ref l0, .int l1, .int l2] h Q := C_of_R rfl rfl (Nat.le_of_ble_eq_true rfl) rfl (v_X1_massAt_0 H)
abbrev w_X1_runner_35 (g : PG) (d : Nat) (l3 : Nat) (s0 : Int32) (h : PH) (Q : Out → PH → Prop) : Prop := C g d m_X1_checkFound [.int s0] h (oV (fun h1 => Q (.inl (some (.ref l3))) h1) (fun r hx => Q (.inr r) hx))
theorem v_X1_runner_35 {g : PG} {d : Nat} {l3 : Nat} {s0 : Int32} {h : PH} {Q : Out → PH → Prop} (H : w_X1_runner_35 g d l3 s0 h Q) : R g d m_X1_runner 35 [.null, .null, .null, .ref l3] [.int s0] h Q := by
  refine r_invS (y := m_X1_checkFound) dX1_runner_35 rfl (lw_S q1613 q1614 q107 q1615) py_X1_checkFound (Nat.le_of_ble_eq_true rfl) (args := [_]) rfl rfl (Nat.le_of_ble_eq_true rfl) (C.monoE H (fun o h1 _ x3 K => cont_V K (fun H => ?_) (fun r HX => XR_nc rfl HX)))
  refine r_aload_n dX1_runner_38 rfl rfl ?_
  exact r_aret dX1_runner_39 rfl H
abbrev w_X1_runner_0 (g : PG) (d : Nat) (l0 : Nat) (l1 : Int32) (l2 : Int32) (h : PH) (Q : Out → PH → Prop) : Prop := hkd h l0 = 1 ∧ hkd h (hG h 500 l0) = 2 ∧ C g d m_X2_snowman [.ref (hG h 500 l0), .int l1] h (oR (fun v4 h3 => C g d m_X1_inRange [.int l2, .int 0, .int 9] h3 (oI (fun v7 h6 => C g d m_X1_checkArgument [.int v7] h6 (oV (fun h9 => hkd h9 v4 = 4 ∧ (((11 : Int32) < ((hF h9 9 v4) + l2)) → w_X1_runner_35 g d v4 (0 : Int32) h9 Q) ∧ ((¬ (11 : Int32) < ((hF h9 9 v4) + l2)) → w_X1_runner_35 g d v4 (1 : Int32) h9 Q)) (fun r hx => Q (.inr r) hx))) (fun r hx => Q (.inr r) hx))) (fun r hx => Q (.inr r) hx))
theorem v_X1_runner_0 {g : PG} {d : Nat} {l0 : Nat} {l1 : Int32} {l2 : Int32} {h : PH} {Q : Out → PH → Prop} (H : w_X1_runner_0 g d l0 l1 l2 h Q) : R g d m_X1_runner 0 [.ref l0, .int l1, .int l2, .null] [] h Q := by
  refine r_aload_n dX1_runner_0 rfl rfl ?_
  obtain ⟨k1, H⟩ := H
  refine r_getG fr_X1_37_1 (by decide) dX1_runner_1 k1 (by decide) ?_
  refine r_iload_n dX1_runner_4 rfl rfl ?_
  obtain ⟨k2, H⟩ := H
  refine r_invV (y := m_X2_snowman) dX1_runner_5 rfl (lw_V q2698 q2699 q2700 q108 q2701) py_X2_snowman (Nat.le_of_ble_eq_true rfl) (args := [_]) rfl rfl (Nat.le_of_ble_eq_true rfl) k2 (by decide) rfl (C.monoE H (fun o h3 _ x5 K => cont_R K (fun v4 H => ?_) (fun r HX => XR_nc rfl HX)))
  refine r_astore_n dX1_runner_8 rfl (Nat.le_of_ble_eq_true rfl) rfl (slS (slS (slS sl0))) ?_
  refine r_iload_n dX1_runner_9 rfl rfl ?_
  refine r_iconst dX1_runner_10 rfl ?_
  refine r_bipush dX1_runner_11 rfl ?_
  refine r_invS (y := m_X1_inRange) dX1_runner_13 rfl (lw_S q1610 q1611 q107 q1612) py_X1_inRange (Nat.le_of_ble_eq_true rfl) (args := [_, _, _]) rfl rfl (Nat.le_of_ble_eq_true rfl) (C.monoE H (fun o h6 _ x8 K => cont_I K (fun v7 H => ?_) (fun r HX => XR_nc rfl HX)))
  refine r_invS (y := m_X1_checkArgument) dX1_runner_16 rfl (lw_S q2406 q2407 q107 q2408) py_X1_checkArgument (Nat.le_of_ble_eq_true rfl) (args := [_]) rfl rfl (Nat.le_of_ble_eq_true rfl) (C.monoE H (fun o h9 _ x11 K => cont_V K (fun H => ?_) (fun r HX => XR_nc rfl HX)))
  refine r_aload_n dX1_runner_19 rfl rfl ?_
  obtain ⟨k12, H⟩ := H
  refine r_getF fr_X1_136_4 (by decide) dX1_runner_20 k12 (by decide) ?_
  refine r_iload_n dX1_runner_23 rfl rfl ?_
  refine r_iadd dX1_runner_24 ?_
  refine r_bipush dX1_runner_25 rfl ?_
  refine r_icmp_gt (tgt := 34) dX1_runner_27 rfl (fun b13 => ?_) (fun b13 => ?_)
  · replace H := H.1 b13
    refine r_iconst dX1_runner_34 rfl ?_
    exact R.forget (v_X1_runner_35 H) ⟨Or.inr rfl, ⟨Or.inr rfl, ⟨Or.inr rfl, ⟨Or.inl rfl, trivial⟩⟩⟩⟩
  · replace H := H.2 b13
    refine r_iconst dX1_runner_30 rfl ?_
    refine r_goto (tgt := 35) dX1_runner_31 rfl ?_
    exact R.forget (v_X1_runner_35 H) ⟨Or.inr rfl, ⟨Or.inr rfl, ⟨Or.inr rfl, ⟨Or.inl rfl, trivial⟩⟩⟩⟩
theorem c_X1_runner_0 {g : PG} {d : Nat} {l0 : Nat} {l1 : Int32} {l2 : Int32} {h : PH} {Q : Out → PH → Prop} (H : w_X1_runner_0 g d l0 l1 l2 h Q) : C g (d + 1) m_X1_runner [.ref l0, .int l1, .int l2] h Q := C_of_R rfl rfl (Nat.le_of_ble_eq_true rfl) rfl (v_X1_runner_0 H)
abbrev w_X1_massAgain_0 (g : PG) (d : Nat) (l0 : Nat) (l1 : Int32) (l2 : Int32) (h : PH) (Q : Out → PH → Prop) : Prop := hkd h l0 = 1 ∧ C g d m_X1_runner [.ref l0, .int l1, .int l2] h (oR (fun v3 h2 => hkd h2 (hG h 500 l0) = 2 ∧ C g d m_X2_massBehindAgain [.ref (hG h 500 l0), .ref v3, .int l2] h2 (oI (fun v7 h6 => Q (.inl (some (.int v7))) h6) (fun r hx => Q (.inr r) hx))) (fun r hx => Q (.inr r) hx))
theorem v_X1_massAgain_0 {g : PG} {d : Nat} {l0 : Nat} {l1 : Int32} {l2 : Int32} {h : PH} {Q : Out → PH → Prop} (H : w_X1_massAgain_0 g d l0 l1 l2 h Q) : R g d m_X1_massAgain 0 [.ref l0, .int l1, .int l2] [] h Q := by
  refine r_aload_n dX1_massAgain_0 rfl rfl ?_
  obtain ⟨k1, H⟩ := H
  refine r_getG fr_X1_37_1 (by decide) dX1_massAgain_1 k1 (by decide) ?_
  refine r_aload_n dX1_massAgain_4 rfl rfl ?_
  refine r_iload_n dX1_massAgain_5 rfl rfl ?_
  refine r_iload_n dX1_massAgain_6 rfl rfl ?_
  refine r_invV (y := m_X1_runner) dX1_massAgain_7 rfl (lw_V q2727 q2729 qp47 q107 q2730) py_X1_runner (Nat.le_of_ble_eq_true rfl) (args := [_, _]) rfl rfl (Nat.le_of_ble_eq_true rfl) k1 (by decide) rfl (C.monoE H (fun o h2 _ x4 K => cont_R K (fun v3 H => ?_) (fun r HX => XR_nc rfl HX)))
  refine r_iload_n dX1_massAgain_10 rfl rfl ?_
  obtain ⟨k5, H⟩ := H
  refine r_invV (y := m_X2_massBehindAgain) dX1_massAgain_11 rfl (lw_V q1601 q1602 q1603 q108 q1604) py_X2_massBehindAgain (Nat.le_of_ble_eq_true rfl) (args := [_, _]) rfl rfl (Nat.le_of_ble_eq_true rfl) k5 (by decide) rfl (C.monoE H (fun o h6 _ x8 K => cont_I K (fun v7 H => ?_) (fun r HX => XR_nc rfl HX)))
  exact r_iret dX1_massAgain_14 rfl H
theorem c_X1_massAgain_0 {g : PG} {d : Nat} {l0 : Nat} {l1 : Int32} {l2 : Int32} {h : PH} {Q : Out → PH → Prop} (H : w_X1_massAgain_0 g d l0 l1 l2 h Q) : C g (d + 1) m_X1_massAgain [.ref l0, .int l1, .int l2] h Q := C_of_R rfl rfl (Nat.le_of_ble_eq_true rfl) rfl (v_X1_massAgain_0 H)
abbrev w_X1_far_0 (g : PG) (d : Nat) (l0 : Nat) (l1 : Int32) (h : PH) (Q : Out → PH → Prop) : Prop := hkd h l0 = 1 ∧ hkd h (hG h 500 l0) = 2 ∧ C g d m_X2_snowman [.ref (hG h 500 l0), .int l1] h (oR (fun v4 h3 => C g d m_X2_far [.ref (hG h 500 l0), .ref v4] h3 (oI (fun v7 h6 => Q (.inl (some (.int v7))) h6) (fun r hx => Q (.inr r) hx))) (fun r hx => Q (.inr r) hx))
theorem v_X1_far_0 {g : PG} {d : Nat} {l0 : Nat} {l1 : Int32} {h : PH} {Q : Out → PH → Prop} (H : w_X1_far_0 g d l0 l1 h Q) : R g d m_X1_far 0 [.ref l0, .int l1] [] h Q := by
  refine r_aload_n dX1_far_0 rfl rfl ?_
  obtain ⟨k1, H⟩ := H
  refine r_getG fr_X1_37_1 (by decide) dX1_far_1 k1 (by decide) ?_
  refine r_aload_n dX1_far_4 rfl rfl ?_
  refine r_getG fr_X1_37_1 (by decide) dX1_far_5 k1 (by decide) ?_
  refine r_iload_n dX1_far_8 rfl rfl ?_
  obtain ⟨k2, H⟩ := H
  refine r_invV (y := m_X2_snowman) dX1_far_9 rfl (lw_V q2698 q2699 q2700 q108 q2701) py_X2_snowman (Nat.le_of_ble_eq_true rfl) (args := [_]) rfl rfl (Nat.le_of_ble_eq_true rfl) k2 (by decide) rfl (C.monoE H (fun o h3 _ x5 K => cont_R K (fun v4 H => ?_) (fun r HX => XR_nc rfl HX)))
  refine r_invV (y := m_X2_far) dX1_far_12 rfl (lw_V q2745 q1302 q1303 q108 q1304) py_X2_far (Nat.le_of_ble_eq_true rfl) (args := [_]) rfl rfl (Nat.le_of_ble_eq_true rfl) (x5.kd k2 (by decide)) (by decide) rfl (C.monoE H (fun o h6 _ x8 K => cont_I K (fun v7 H => ?_) (fun r HX => XR_nc rfl HX)))
  exact r_iret dX1_far_15 rfl H
theorem c_X1_far_0 {g : PG} {d : Nat} {l0 : Nat} {l1 : Int32} {h : PH} {Q : Out → PH → Prop} (H : w_X1_far_0 g d l0 l1 h Q) : C g (d + 1) m_X1_far [.ref l0, .int l1] h Q := C_of_R rfl rfl (Nat.le_of_ble_eq_true rfl) rfl (v_X1_far_0 H)
abbrev w_X1_best_101 (g : PG) (d : Nat) (l2 : Nat) (s0 : Int32) (h : PH) (Q : Out → PH → Prop) : Prop := C g d m_X1_checkFound [.int s0] h (oV (fun h1 => hkd h1 l2 = 27 ∧ C g d m_J48_peek [.ref l2] h1 (oR (fun v6 h5 => (v6 = 0 ∨ hkd h5 v6 = 4) ∧ hkd h5 v6 = 4 ∧ Q (.inl (some (.int (hF h5 7 v6)))) h5) (fun r hx => Q (.inr r) hx))) (fun r hx => Q (.inr r) hx))
theorem v_X1_best_101 {g : PG} {d : Nat} {l2 : Nat} {s0 : Int32} {h : PH} {Q : Out → PH → Prop} (H : w_X1_best_101 g d l2 s0 h Q) : R g d m_X1_best 101 [.null, .null, .ref l2, .null, .null, .null] [.int s0] h Q := by
  refine r_invS (y := m_X1_checkFound) dX1_best_101 rfl (lw_S q1613 q1614 q107 q1615) py_X1_checkFound (Nat.le_of_ble_eq_true rfl) (args := [_]) rfl rfl (Nat.le_of_ble_eq_true rfl) (C.monoE H (fun o h1 _ x3 K => cont_V K (fun H => ?_) (fun r HX => XR_nc rfl HX)))
  refine r_aload_n dX1_best_104 rfl rfl ?_
  obtain ⟨k4, H⟩ := H
  refine r_invV (y := m_J48_peek) dX1_best_105 rfl (lw_V q2828 q2829 q2830 q167 q2831) py_J48_peek (Nat.le_of_ble_eq_true rfl) (args := []) rfl rfl (Nat.le_of_ble_eq_true rfl) k4 (by decide) rfl (C.monoE H (fun o h5 _ x7 K => cont_R K (fun v6 H => ?_) (fun r HX => XR_nc rfl HX)))
  obtain ⟨k8, H⟩ := H
  refine r_castO (kv := 4) dX1_best_108 q1580 (by decide) (Or.inr rfl) k8 ?_
  obtain ⟨k9, H⟩ := H
  refine r_getF fr_X1_253_4 (by decide) dX1_best_111 k9 (by decide) ?_
  exact r_iret dX1_best_114 rfl H
abbrev w_X1_best_85 (g : PG) (d : Nat) (l1 : Int32) (l2 : Nat) (l4 : Nat) (s0 : Int32) (h : PH) (Q : Out → PH → Prop) : Prop := R g d m_X1_best 32 [.null, .int l1, .ref l2, .null, .ref l4, .null] [] h Q
theorem v_X1_best_85 {g : PG} {d : Nat} {l1 : Int32} {l2 : Nat} {l4 : Nat} {s0 : Int32} {h : PH} {Q : Out → PH → Prop} (H : w_X1_best_85 g d l1 l2 l4 s0 h Q) : R g d m_X1_best 85 [.null, .int l1, .ref l2, .null, .ref l4, .null] [.int s0] h Q := by
  refine r_istore_n dX1_best_85 rfl (Nat.le_of_ble_eq_true rfl) rfl (slS (slS (slS sl0))) ?_
  refine r_goto (tgt := 32) dX1_best_86 rfl ?_
  exact R.forget H ⟨Or.inl rfl, ⟨Or.inl rfl, ⟨Or.inl rfl, ⟨Or.inr rfl, ⟨Or.inl rfl, ⟨Or.inl rfl, trivial⟩⟩⟩⟩⟩⟩
abbrev w_X1_best_84 (g : PG) (d : Nat) (l1 : Int32) (l2 : Nat) (l4 : Nat) (h : PH) (Q : Out → PH → Prop) : Prop := w_X1_best_85 g d l1 l2 l4 (0 : Int32) h Q
theorem v_X1_best_84 {g : PG} {d : Nat} {l1 : Int32} {l2 : Nat} {l4 : Nat} {h : PH} {Q : Out → PH → Prop} (H : w_X1_best_84 g d l1 l2 l4 h Q) : R g d m_X1_best 84 [.null, .int l1, .ref l2, .null, .ref l4, .null] [] h Q := by
  refine r_iconst dX1_best_84 rfl ?_
  exact v_X1_best_85 H
abbrev w_X1_best_32 (g : PG) (d : Nat) (l1 : Int32) (l2 : Nat) (l4 : Nat) (h : PH) (Q : Out → PH → Prop) : Prop := hkd h l4 = 14 ∧ C g d m_J18_hasNext [.ref l4] h (oI (fun v3 h2 => ((v3 = 0) → hkd h2 l2 = 27 ∧ C g d m_J0_isEmpty [.ref l2] h2 (oI (fun v8 h7 => ((¬ v8 = 0) → w_X1_best_101 g d l2 (0 : Int32) h7 Q) ∧ ((v8 = 0) → w_X1_best_101 g d l2 (1 : Int32) h7 Q)) (fun r hx => Q (.inr r) hx))) ∧ ((¬ v3 = 0) → C g d m_J18_next [.ref l4] h2 (oR (fun v12 h11 => (v12 = 0 ∨ hkd h11 v12 = 4) ∧ hkd h11 v12 = 4 ∧ ((¬ (hF h11 8 v12) = l1) → w_X1_best_84 g d l1 l2 l4 h11 Q) ∧ (((hF h11 8 v12) = l1) → C g d m_X6_isGone [.ref v12] h11 (oI (fun v18 h17 => ((¬ v18 = 0) → w_X1_best_84 g d l1 l2 l4 h17 Q) ∧ ((v18 = 0) → hkd h17 l2 = 27 ∧ C g d m_J48_add [.ref l2, .ref v12] h17 (oI (fun v23 h22 => ((v23 = 0) → w_X1_best_84 g d l1 l2 l4 h22 Q) ∧ ((¬ v23 = 0) → w_X1_best_85 g d l1 l2 l4 (1 : Int32) h22 Q)) (fun r hx => Q (.inr r) hx)))) (fun r hx => Q (.inr r) hx)))) (fun r hx => Q (.inr r) hx)))) (fun r hx => Q (.inr r) hx))
theorem v_X1_best_32 {g : PG} {d : Nat} {l1 : Int32} {l2 : Nat} {l4 : Nat} {h : PH} {Q : Out → PH → Prop} (H : w_X1_best_32 g d l1 l2 l4 h Q) : R g d m_X1_best 32 [.null, .int l1, .ref l2, .null, .ref l4, .null] [] h Q := by
  refine r_aload dX1_best_32 rfl ?_
  obtain ⟨k1, H⟩ := H
  refine r_invF (y := m_J18_hasNext) (Cn := "java/util/ArrayList$Itr") (x := ⟨"java/util/Iterator", "hasNext", "()Z"⟩) dX1_best_34 rfl (lw_F q1577 q925 q927 q130 q929) fw_t2 (n := 0) (by decide +kernel) (Nat.le_of_ble_eq_true rfl) (args := []) rfl rfl (Nat.le_of_ble_eq_true rfl) k1 (by decide) rfl (C.monoE H (fun o h2 _ x4 K => cont_I K (fun v3 H => ?_) (fun r HX => XR_nc rfl HX)))
  refine r_if_eq (tgt := 89) dX1_best_39 rfl (fun b5 => ?_) (fun b5 => ?_)
  · replace H := H.1 b5
    refine r_aload_n dX1_best_89 rfl rfl ?_
    obtain ⟨k6, H⟩ := H
    refine r_invU (y := m_J0_isEmpty) (owner := "java/util/AbstractCollection") (Cn := "java/util/PriorityQueue") (x := ⟨"java/util/PriorityQueue", "isEmpty", "()Z"⟩) dX1_best_90 (n := 0) ⟨rfl, by decide +kernel, by decide, by decide, Or.inl ⟨lw_U q2822 q2823 q2825 q2826 q109 q2827, Or.inl rfl⟩⟩ (Nat.le_of_ble_eq_true rfl) (args := []) rfl rfl (Nat.le_of_ble_eq_true rfl) k6 (by decide) rfl (C.monoE H (fun o h7 _ x9 K => cont_I K (fun v8 H => ?_) (fun r HX => XR_nc rfl HX)))
    refine r_if_ne (tgt := 100) dX1_best_93 rfl (fun b10 => ?_) (fun b10 => ?_)
    · replace H := H.1 b10
      refine r_iconst dX1_best_100 rfl ?_
      exact R.forget (v_X1_best_101 H) ⟨Or.inl rfl, ⟨Or.inr rfl, ⟨Or.inl rfl, ⟨Or.inl rfl, ⟨Or.inr rfl, ⟨Or.inl rfl, trivial⟩⟩⟩⟩⟩⟩
    · replace H := H.2 b10
      refine r_iconst dX1_best_96 rfl ?_
      refine r_goto (tgt := 101) dX1_best_97 rfl ?_
      exact R.forget (v_X1_best_101 H) ⟨Or.inl rfl, ⟨Or.inr rfl, ⟨Or.inl rfl, ⟨Or.inl rfl, ⟨Or.inr rfl, ⟨Or.inl rfl, trivial⟩⟩⟩⟩⟩⟩
  · replace H := H.2 b5
    refine r_aload dX1_best_42 rfl ?_
    refine r_invF (y := m_J18_next) (Cn := "java/util/ArrayList$Itr") (x := ⟨"java/util/Iterator", "next", "()Ljava/lang/Object;"⟩) dX1_best_44 rfl (lw_F q1579 q1167 q1169 q130 q1171) fw_t7 (n := 0) (by decide +kernel) (Nat.le_of_ble_eq_true rfl) (args := []) rfl rfl (Nat.le_of_ble_eq_true rfl) (x4.kd k1 (by decide)) (by decide) rfl (C.monoE H (fun o h11 _ x13 K => cont_R K (fun v12 H => ?_) (fun r HX => XR_nc rfl HX)))
    obtain ⟨k14, H⟩ := H
    refine r_castO (kv := 4) dX1_best_49 q1580 (by decide) (Or.inr rfl) k14 ?_
    refine r_astore dX1_best_52 (Nat.le_of_ble_eq_true rfl) rfl (slS (slS (slS (slS (slS sl0))))) ?_
    refine r_aload dX1_best_54 rfl ?_
    obtain ⟨k15, H⟩ := H
    refine r_getF fr_X1_172_4 (by decide) dX1_best_56 k15 (by decide) ?_
    refine r_iload_n dX1_best_59 rfl rfl ?_
    refine r_icmp_ne (tgt := 84) dX1_best_60 rfl (fun b16 => ?_) (fun b16 => ?_)
    · replace H := H.1 b16
      exact R.forget (v_X1_best_84 H) ⟨Or.inl rfl, ⟨Or.inl rfl, ⟨Or.inl rfl, ⟨Or.inl rfl, ⟨Or.inl rfl, ⟨Or.inr rfl, trivial⟩⟩⟩⟩⟩⟩
    · replace H := H.2 b16
      refine r_aload dX1_best_63 rfl ?_
      refine r_invV (y := m_X6_isGone) dX1_best_65 rfl (lw_V q2690 q2474 q2475 q142 q2476) py_X6_isGone (Nat.le_of_ble_eq_true rfl) (args := []) rfl rfl (Nat.le_of_ble_eq_true rfl) k15 (by decide) rfl (C.monoE H (fun o h17 _ x19 K => cont_I K (fun v18 H => ?_) (fun r HX => XR_nc rfl HX)))
      refine r_if_ne (tgt := 84) dX1_best_68 rfl (fun b20 => ?_) (fun b20 => ?_)
      · replace H := H.1 b20
        exact R.forget (v_X1_best_84 H) ⟨Or.inl rfl, ⟨Or.inl rfl, ⟨Or.inl rfl, ⟨Or.inl rfl, ⟨Or.inl rfl, ⟨Or.inr rfl, trivial⟩⟩⟩⟩⟩⟩
      · replace H := H.2 b20
        refine r_aload_n dX1_best_71 rfl rfl ?_
        refine r_aload dX1_best_72 rfl ?_
        obtain ⟨k21, H⟩ := H
        refine r_invV (y := m_J48_add) dX1_best_74 rfl (lw_V q2794 q2795 q2796 q167 q2797) py_J48_add (Nat.le_of_ble_eq_true rfl) (args := [_]) rfl rfl (Nat.le_of_ble_eq_true rfl) k21 (by decide) rfl (C.monoE H (fun o h22 _ x24 K => cont_I K (fun v23 H => ?_) (fun r HX => XR_nc rfl HX)))
        refine r_if_eq (tgt := 84) dX1_best_77 rfl (fun b25 => ?_) (fun b25 => ?_)
        · replace H := H.1 b25
          exact R.forget (v_X1_best_84 H) ⟨Or.inl rfl, ⟨Or.inl rfl, ⟨Or.inl rfl, ⟨Or.inl rfl, ⟨Or.inl rfl, ⟨Or.inr rfl, trivial⟩⟩⟩⟩⟩⟩
        · replace H := H.2 b25
          refine r_iconst dX1_best_80 rfl ?_
          refine r_goto (tgt := 85) dX1_best_81 rfl ?_
          exact R.forget (v_X1_best_85 H) ⟨Or.inl rfl, ⟨Or.inl rfl, ⟨Or.inl rfl, ⟨Or.inl rfl, ⟨Or.inl rfl, ⟨Or.inr rfl, trivial⟩⟩⟩⟩⟩⟩
abbrev w_X1_best_0 (g : PG) (d : Nat) (l0 : Nat) (l1 : Int32) (h : PH) (Q : Out → PH → Prop) : Prop := C g d m_X1_checkTeam [.int l1] h (oV (fun h1 => ∀ h4, h4 = hnew 27 0 5 h1 → ∀ h5, h5 = hnew 10 0 2 h4 → 0 < (hnx h4) ∧ C g d m_X9_init [.ref (hnx h4), .ref l0] h5 (oV (fun h7 => 0 < (hnx h1) ∧ C g d m_J48_init [.ref (hnx h1), .ref (hnx h4)] h7 (oV (fun h11 => hkd h11 l0 = 1 ∧ hkd h11 (hG h11 500 l0) = 2 ∧ hkd h11 (hG h11 507 (hG h11 500 l0)) = 13 ∧ C g d m_J2_iterator [.ref (hG h11 507 (hG h11 500 l0))] h11 (oR (fun v18 h17 => R g d m_X1_best 32 [.null, .int l1, .ref (hnx h1), .null, .ref v18, .null] [] h17 Q) (fun r hx => Q (.inr r) hx))) (fun r hx => Q (.inr r) hx))) (fun r hx => Q (.inr r) hx))) (fun r hx => Q (.inr r) hx))
theorem v_X1_best_0 {g : PG} {d : Nat} {l0 : Nat} {l1 : Int32} {h : PH} {Q : Out → PH → Prop} (H : w_X1_best_0 g d l0 l1 h Q) : R g d m_X1_best 0 [.ref l0, .int l1, .null, .null, .null, .null] [] h Q := by
  refine r_iload_n dX1_best_0 rfl rfl ?_
  refine r_invS (y := m_X1_checkTeam) dX1_best_1 rfl (lw_S q2710 q2404 q107 q2405) py_X1_checkTeam (Nat.le_of_ble_eq_true rfl) (args := [_]) rfl rfl (Nat.le_of_ble_eq_true rfl) (C.monoE H (fun o h1 _ x3 K => cont_V K (fun H => ?_) (fun r HX => XR_nc rfl HX)))
  replace H := H _ rfl
  refine r_new (ci := 27) dX1_best_4 rfl (by decide) q2753 q2754 q167 ?_
  refine r_dup dX1_best_7 rfl ?_
  replace H := H _ rfl
  refine r_new (ci := 10) dX1_best_8 rfl (by decide) q2755 q2756 q168 ?_
  refine r_dup dX1_best_11 rfl ?_
  refine r_aload_n dX1_best_12 rfl rfl ?_
  obtain ⟨k6, H⟩ := H
  refine r_invI (y := m_X9_init) dX1_best_13 rfl rfl q2759 q168 q2757 q2758 rfl py_X9_init (Nat.le_of_ble_eq_true rfl) (args := [_]) rfl rfl (Nat.le_of_ble_eq_true rfl) k6 (C.monoE H (fun o h7 _ x9 K => cont_V K (fun H => ?_) (fun r HX => XR_nc rfl HX)))
  obtain ⟨k10, H⟩ := H
  refine r_invI (y := m_J48_init) dX1_best_16 rfl rfl q2767 q167 q2765 q2766 rfl py_J48_init (Nat.le_of_ble_eq_true rfl) (args := [_]) rfl rfl (Nat.le_of_ble_eq_true rfl) k10 (C.monoE H (fun o h11 _ x13 K => cont_V K (fun H => ?_) (fun r HX => XR_nc rfl HX)))
  refine r_astore_n dX1_best_19 rfl (Nat.le_of_ble_eq_true rfl) rfl (slS (slS sl0)) ?_
  refine r_aload_n dX1_best_20 rfl rfl ?_
  obtain ⟨k14, H⟩ := H
  refine r_getG fr_X1_37_1 (by decide) dX1_best_21 k14 (by decide) ?_
  obtain ⟨k15, H⟩ := H
  refine r_getG fr_X1_115_2 (by decide) dX1_best_24 k15 (by decide) ?_
  obtain ⟨k16, H⟩ := H
  refine r_invV (y := m_J2_iterator) dX1_best_27 rfl (lw_V q1551 q1552 q1553 q111 q1554) py_J2_iterator (Nat.le_of_ble_eq_true rfl) (args := []) rfl rfl (Nat.le_of_ble_eq_true rfl) k16 (by decide) rfl (C.monoE H (fun o h17 _ x19 K => cont_R K (fun v18 H => ?_) (fun r HX => XR_nc rfl HX)))
  refine r_astore dX1_best_30 (Nat.le_of_ble_eq_true rfl) rfl (slS (slS (slS (slS sl0)))) ?_
  exact R.forget H ⟨Or.inr rfl, ⟨Or.inl rfl, ⟨Or.inl rfl, ⟨Or.inl rfl, ⟨Or.inl rfl, ⟨Or.inl rfl, trivial⟩⟩⟩⟩⟩⟩
theorem c_X1_best_0 {g : PG} {d : Nat} {l0 : Nat} {l1 : Int32} {h : PH} {Q : Out → PH → Prop} (H : w_X1_best_0 g d l0 l1 h Q) : C g (d + 1) m_X1_best [.ref l0, .int l1] h Q := C_of_R rfl rfl (Nat.le_of_ble_eq_true rfl) rfl (v_X1_best_0 H)
abbrev w_X1_meltsIn_69 (g : PG) (d : Nat) (l1 : Int32) (l2 : Nat) (l3 : Int32) (h : PH) (Q : Out → PH → Prop) : Prop := hkd h l2 = 2 ∧ hkd h (hG h 507 l2) = 13 ∧ C g d m_J2_get [.ref (hG h 507 l2), .int l1] h (oR (fun v4 h3 => (v4 = 0 ∨ hkd h3 v4 = 4) ∧ hkd h3 v4 = 4 ∧ C g d m_X6_isGone [.ref v4] h3 (oI (fun v9 h8 => C g d m_X1_checkFound [.int v9] h8 (oV (fun h11 => Q (.inl (some (.int l3))) h11) (fun r hx => Q (.inr r) hx))) (fun r hx => Q (.inr r) hx))) (fun r hx => Q (.inr r) hx))
theorem v_X1_meltsIn_69 {g : PG} {d : Nat} {l1 : Int32} {l2 : Nat} {l3 : Int32} {h : PH} {Q : Out → PH → Prop} (H : w_X1_meltsIn_69 g d l1 l2 l3 h Q) : R g d m_X1_meltsIn 69 [.null, .int l1, .ref l2, .int l3, .null] [] h Q := by
  refine r_aload_n dX1_meltsIn_69 rfl rfl ?_
  obtain ⟨k1, H⟩ := H
  refine r_getG fr_X1_115_2 (by decide) dX1_meltsIn_70 k1 (by decide) ?_
  refine r_iload_n dX1_meltsIn_73 rfl rfl ?_
  obtain ⟨k2, H⟩ := H
  refine r_invV (y := m_J2_get) dX1_meltsIn_74 rfl (lw_V q2840 q979 q3682 q111 q980) py_J2_get (Nat.le_of_ble_eq_true rfl) (args := [_]) rfl rfl (Nat.le_of_ble_eq_true rfl) k2 (by decide) rfl (C.monoE H (fun o h3 _ x5 K => cont_R K (fun v4 H => ?_) (fun r HX => XR_nc rfl HX)))
  obtain ⟨k6, H⟩ := H
  refine r_castO (kv := 4) dX1_meltsIn_77 q1580 (by decide) (Or.inr rfl) k6 ?_
  obtain ⟨k7, H⟩ := H
  refine r_invV (y := m_X6_isGone) dX1_meltsIn_80 rfl (lw_V q2690 q2474 q2475 q142 q2476) py_X6_isGone (Nat.le_of_ble_eq_true rfl) (args := []) rfl rfl (Nat.le_of_ble_eq_true rfl) k7 (by decide) rfl (C.monoE H (fun o h8 _ x10 K => cont_I K (fun v9 H => ?_) (fun r HX => XR_nc rfl HX)))
  refine r_invS (y := m_X1_checkFound) dX1_meltsIn_83 rfl (lw_S q1613 q1614 q107 q1615) py_X1_checkFound (Nat.le_of_ble_eq_true rfl) (args := [_]) rfl rfl (Nat.le_of_ble_eq_true rfl) (C.monoE H (fun o h11 _ x13 K => cont_V K (fun H => ?_) (fun r HX => XR_nc rfl HX)))
  refine r_iload_n dX1_meltsIn_86 rfl rfl ?_
  exact r_iret dX1_meltsIn_87 rfl H
abbrev w_X1_meltsIn_31 (g : PG) (d : Nat) (l1 : Int32) (l2 : Nat) (l3 : Int32) (l4 : Int32) (h : PH) (Q : Out → PH → Prop) : Prop := hkd h l2 = 2 ∧ hkd h (hG h 507 l2) = 13 ∧ C g d m_J2_get [.ref (hG h 507 l2), .int l1] h (oR (fun v4 h3 => (v4 = 0 ∨ hkd h3 v4 = 4) ∧ hkd h3 v4 = 4 ∧ C g d m_X6_isGone [.ref v4] h3 (oI (fun v9 h8 => ((¬ v9 = 0) → w_X1_meltsIn_69 g d l1 l2 l3 h8 Q) ∧ ((v9 = 0) → (((48 : Int32) ≤ l3) → w_X1_meltsIn_69 g d l1 l2 l3 h8 Q) ∧ ((¬ (48 : Int32) ≤ l3) → C g d m_X2_passOne [.ref l2] h8 (oI (fun v14 h13 => R g d m_X1_meltsIn 31 [.null, .int l1, .ref l2, .int (l3 + 1), .int (l4 + v14)] [] h13 Q) (fun r hx => Q (.inr r) hx))))) (fun r hx => Q (.inr r) hx))) (fun r hx => Q (.inr r) hx))
theorem v_X1_meltsIn_31 {g : PG} {d : Nat} {l1 : Int32} {l2 : Nat} {l3 : Int32} {l4 : Int32} {h : PH} {Q : Out → PH → Prop} (H : w_X1_meltsIn_31 g d l1 l2 l3 l4 h Q) : R g d m_X1_meltsIn 31 [.null, .int l1, .ref l2, .int l3, .int l4] [] h Q := by
  refine r_aload_n dX1_meltsIn_31 rfl rfl ?_
  obtain ⟨k1, H⟩ := H
  refine r_getG fr_X1_115_2 (by decide) dX1_meltsIn_32 k1 (by decide) ?_
  refine r_iload_n dX1_meltsIn_35 rfl rfl ?_
  obtain ⟨k2, H⟩ := H
  refine r_invV (y := m_J2_get) dX1_meltsIn_36 rfl (lw_V q2840 q979 q3682 q111 q980) py_J2_get (Nat.le_of_ble_eq_true rfl) (args := [_]) rfl rfl (Nat.le_of_ble_eq_true rfl) k2 (by decide) rfl (C.monoE H (fun o h3 _ x5 K => cont_R K (fun v4 H => ?_) (fun r HX => XR_nc rfl HX)))
  obtain ⟨k6, H⟩ := H
  refine r_castO (kv := 4) dX1_meltsIn_39 q1580 (by decide) (Or.inr rfl) k6 ?_
  obtain ⟨k7, H⟩ := H
  refine r_invV (y := m_X6_isGone) dX1_meltsIn_42 rfl (lw_V q2690 q2474 q2475 q142 q2476) py_X6_isGone (Nat.le_of_ble_eq_true rfl) (args := []) rfl rfl (Nat.le_of_ble_eq_true rfl) k7 (by decide) rfl (C.monoE H (fun o h8 _ x10 K => cont_I K (fun v9 H => ?_) (fun r HX => XR_nc rfl HX)))
  refine r_if_ne (tgt := 69) dX1_meltsIn_45 rfl (fun b11 => ?_) (fun b11 => ?_)
  · replace H := H.1 b11
    exact R.forget (v_X1_meltsIn_69 H) ⟨Or.inl rfl, ⟨Or.inl rfl, ⟨Or.inl rfl, ⟨Or.inl rfl, ⟨Or.inr rfl, trivial⟩⟩⟩⟩⟩
  · replace H := H.2 b11
    refine r_iload_n dX1_meltsIn_48 rfl rfl ?_
    refine r_bipush dX1_meltsIn_49 rfl ?_
    refine r_icmp_ge (tgt := 69) dX1_meltsIn_51 rfl (fun b12 => ?_) (fun b12 => ?_)
    · replace H := H.1 b12
      exact R.forget (v_X1_meltsIn_69 H) ⟨Or.inl rfl, ⟨Or.inl rfl, ⟨Or.inl rfl, ⟨Or.inl rfl, ⟨Or.inr rfl, trivial⟩⟩⟩⟩⟩
    · replace H := H.2 b12
      refine r_iload dX1_meltsIn_54 rfl ?_
      refine r_aload_n dX1_meltsIn_56 rfl rfl ?_
      refine r_invV (y := m_X2_passOne) dX1_meltsIn_57 rfl (lw_V q2841 q2570 q2571 q108 q2572) py_X2_passOne (Nat.le_of_ble_eq_true rfl) (args := []) rfl rfl (Nat.le_of_ble_eq_true rfl) (x10.kd (x5.kd k1 (by decide)) (by decide)) (by decide) rfl (C.monoE H (fun o h13 _ x15 K => cont_I K (fun v14 H => ?_) (fun r HX => XR_nc rfl HX)))
      refine r_iadd dX1_meltsIn_60 ?_
      refine r_istore dX1_meltsIn_61 (Nat.le_of_ble_eq_true rfl) rfl (slS (slS (slS (slS sl0)))) ?_
      refine r_iinc dX1_meltsIn_63 rfl rfl (Nat.le_of_ble_eq_true rfl) rfl (slS (slS (slS sl0))) ?_
      refine r_goto (tgt := 31) dX1_meltsIn_66 rfl ?_
      exact H
abbrev w_X1_meltsIn_0 (g : PG) (d : Nat) (l0 : Nat) (l1 : Int32) (h : PH) (Q : Out → PH → Prop) : Prop := hkd h l0 = 1 ∧ hkd h (hG h 500 l0) = 2 ∧ hkd h (hG h 507 (hG h 500 l0)) = 13 ∧ C g d m_J2_size [.ref (hG h 507 (hG h 500 l0))] h (oI (fun v5 h4 => C g d m_X1_checkIndex [.int l1, .int v5] h4 (oV (fun h7 => ∀ h10, h10 = hnew 2 0 11 h7 → hkd h10 l0 = 1 ∧ 0 < (hnx h7) ∧ C g d m_X2_init_2 [.ref (hnx h7), .ref (hG h10 500 l0)] h10 (oV (fun h13 => R g d m_X1_meltsIn 31 [.null, .int l1, .ref (hnx h7), .int 0, .int 0] [] h13 Q) (fun r hx => Q (.inr r) hx))) (fun r hx => Q (.inr r) hx))) (fun r hx => Q (.inr r) hx))
theorem v_X1_meltsIn_0 {g : PG} {d : Nat} {l0 : Nat} {l1 : Int32} {h : PH} {Q : Out → PH → Prop} (H : w_X1_meltsIn_0 g d l0 l1 h Q) : R g d m_X1_meltsIn 0 [.ref l0, .int l1, .null, .null, .null] [] h Q := by
  refine r_iload_n dX1_meltsIn_0 rfl rfl ?_
  refine r_aload_n dX1_meltsIn_1 rfl rfl ?_
  obtain ⟨k1, H⟩ := H
  refine r_getG fr_X1_37_1 (by decide) dX1_meltsIn_2 k1 (by decide) ?_
  obtain ⟨k2, H⟩ := H
  refine r_getG fr_X1_115_2 (by decide) dX1_meltsIn_5 k2 (by decide) ?_
  obtain ⟨k3, H⟩ := H
  refine r_invV (y := m_J2_size) dX1_meltsIn_8 rfl (lw_V q1594 q913 q3681 q111 q914) py_J2_size (Nat.le_of_ble_eq_true rfl) (args := []) rfl rfl (Nat.le_of_ble_eq_true rfl) k3 (by decide) rfl (C.monoE H (fun o h4 _ x6 K => cont_I K (fun v5 H => ?_) (fun r HX => XR_nc rfl HX)))
  refine r_invS (y := m_X1_checkIndex) dX1_meltsIn_11 rfl (lw_S q2839 q2396 q107 q2397) py_X1_checkIndex (Nat.le_of_ble_eq_true rfl) (args := [_, _]) rfl rfl (Nat.le_of_ble_eq_true rfl) (C.monoE H (fun o h7 _ x9 K => cont_V K (fun H => ?_) (fun r HX => XR_nc rfl HX)))
  replace H := H _ rfl
  refine r_new (ci := 2) dX1_meltsIn_14 rfl (by decide) q184 q185 q108 ?_
  refine r_dup dX1_meltsIn_17 rfl ?_
  refine r_aload_n dX1_meltsIn_18 rfl rfl ?_
  obtain ⟨k11, H⟩ := H
  refine r_getG fr_X1_37_1 (by decide) dX1_meltsIn_19 k11 (by decide) ?_
  obtain ⟨k12, H⟩ := H
  refine r_invI (y := m_X2_init_2) dX1_meltsIn_22 rfl rfl q2066 q108 q2064 q2065 rfl py_X2_init_2 (Nat.le_of_ble_eq_true rfl) (args := [_]) rfl rfl (Nat.le_of_ble_eq_true rfl) k12 (C.monoE H (fun o h13 _ x15 K => cont_V K (fun H => ?_) (fun r HX => XR_nc rfl HX)))
  refine r_astore_n dX1_meltsIn_25 rfl (Nat.le_of_ble_eq_true rfl) rfl (slS (slS sl0)) ?_
  refine r_iconst dX1_meltsIn_26 rfl ?_
  refine r_istore_n dX1_meltsIn_27 rfl (Nat.le_of_ble_eq_true rfl) rfl (slS (slS (slS sl0))) ?_
  refine r_iconst dX1_meltsIn_28 rfl ?_
  refine r_istore dX1_meltsIn_29 (Nat.le_of_ble_eq_true rfl) rfl (slS (slS (slS (slS sl0)))) ?_
  exact R.forget H ⟨Or.inr rfl, ⟨Or.inl rfl, ⟨Or.inl rfl, ⟨Or.inl rfl, ⟨Or.inl rfl, trivial⟩⟩⟩⟩⟩
theorem c_X1_meltsIn_0 {g : PG} {d : Nat} {l0 : Nat} {l1 : Int32} {h : PH} {Q : Out → PH → Prop} (H : w_X1_meltsIn_0 g d l0 l1 h Q) : C g (d + 1) m_X1_meltsIn [.ref l0, .int l1] h Q := C_of_R rfl rfl (Nat.le_of_ble_eq_true rfl) rfl (v_X1_meltsIn_0 H)
abbrev w_X1_ranked_50 (g : PG) (d : Nat) (l1 : Int32) (l2 : Nat) (l4 : Int32) (h : PH) (Q : Out → PH → Prop) : Prop := ((l1 ≤ l4) → hkd h l2 = 27 ∧ C g d m_J48_peek [.ref l2] h (oR (fun v4 h3 => (v4 = 0 ∨ hkd h3 v4 = 4) ∧ hkd h3 v4 = 4 ∧ Q (.inl (some (.int (hF h3 7 v4)))) h3) (fun r hx => Q (.inr r) hx))) ∧ ((¬ l1 ≤ l4) → hkd h l2 = 27 ∧ C g d m_J48_poll [.ref l2] h (oR (fun v10 h9 => (v10 = 0 ∨ hkd h9 v10 = 4) ∧ R g d m_X1_ranked 50 [.null, .int l1, .ref l2, .null, .int (l4 + 1), .null] [] h9 Q) (fun r hx => Q (.inr r) hx)))
theorem v_X1_ranked_50 {g : PG} {d : Nat} {l1 : Int32} {l2 : Nat} {l4 : Int32} {h : PH} {Q : Out → PH → Prop} (H : w_X1_ranked_50 g d l1 l2 l4 h Q) : R g d m_X1_ranked 50 [.null, .int l1, .ref l2, .null, .int l4, .null] [] h Q := by
  refine r_iload dX1_ranked_50 rfl ?_
  refine r_iload_n dX1_ranked_52 rfl rfl ?_
  refine r_icmp_ge (tgt := 71) dX1_ranked_53 rfl (fun b1 => ?_) (fun b1 => ?_)
  · replace H := H.1 b1
    refine r_aload_n dX1_ranked_71 rfl rfl ?_
    obtain ⟨k2, H⟩ := H
    refine r_invV (y := m_J48_peek) dX1_ranked_72 rfl (lw_V q2828 q2829 q2830 q167 q2831) py_J48_peek (Nat.le_of_ble_eq_true rfl) (args := []) rfl rfl (Nat.le_of_ble_eq_true rfl) k2 (by decide) rfl (C.monoE H (fun o h3 _ x5 K => cont_R K (fun v4 H => ?_) (fun r HX => XR_nc rfl HX)))
    obtain ⟨k6, H⟩ := H
    refine r_castO (kv := 4) dX1_ranked_75 q1580 (by decide) (Or.inr rfl) k6 ?_
    obtain ⟨k7, H⟩ := H
    refine r_getF fr_X1_253_4 (by decide) dX1_ranked_78 k7 (by decide) ?_
    exact r_iret dX1_ranked_81 rfl H
  · replace H := H.2 b1
    refine r_aload_n dX1_ranked_56 rfl rfl ?_
    obtain ⟨k8, H⟩ := H
    refine r_invV (y := m_J48_poll) dX1_ranked_57 rfl (lw_V q2883 q2884 q2885 q167 q2886) py_J48_poll (Nat.le_of_ble_eq_true rfl) (args := []) rfl rfl (Nat.le_of_ble_eq_true rfl) k8 (by decide) rfl (C.monoE H (fun o h9 _ x11 K => cont_R K (fun v10 H => ?_) (fun r HX => XR_nc rfl HX)))
    obtain ⟨k12, H⟩ := H
    refine r_castO (kv := 4) dX1_ranked_60 q1580 (by decide) (Or.inr rfl) k12 ?_
    refine r_astore dX1_ranked_63 (Nat.le_of_ble_eq_true rfl) rfl (slS (slS (slS (slS (slS sl0))))) ?_
    refine r_iinc dX1_ranked_65 rfl rfl (Nat.le_of_ble_eq_true rfl) rfl (slS (slS (slS (slS sl0)))) ?_
    refine r_goto (tgt := 50) dX1_ranked_68 rfl ?_
    exact R.forget H ⟨Or.inl rfl, ⟨Or.inl rfl, ⟨Or.inl rfl, ⟨Or.inl rfl, ⟨Or.inl rfl, ⟨Or.inr rfl, trivial⟩⟩⟩⟩⟩⟩
abbrev w_X1_ranked_0 (g : PG) (d : Nat) (l0 : Nat) (l1 : Int32) (h : PH) (Q : Out → PH → Prop) : Prop := hkd h l0 = 1 ∧ hkd h (hG h 500 l0) = 2 ∧ hkd h (hG h 507 (hG h 500 l0)) = 13 ∧ C g d m_J2_size [.ref (hG h 507 (hG h 500 l0))] h (oI (fun v5 h4 => C g d m_X1_inRange [.int l1, .int 0, .int (v5 - (1 : Int32))] h4 (oI (fun v8 h7 => C g d m_X1_checkFound [.int v8] h7 (oV (fun h10 => ∀ h13, h13 = hnew 27 0 5 h10 → ∀ h14, h14 = hnew 11 0 1 h13 → 0 < (hnx h13) ∧ C g d m_X10_init [.ref (hnx h13)] h14 (oV (fun h16 => 0 < (hnx h10) ∧ C g d m_J48_init [.ref (hnx h10), .ref (hnx h13)] h16 (oV (fun h20 => hkd h20 l0 = 1 ∧ hkd h20 (hG h20 500 l0) = 2 ∧ hkd h20 (hnx h10) = 27 ∧ C g d m_J47_addAll [.ref (hnx h10), .ref (hG h20 507 (hG h20 500 l0))] h20 (oI (fun v27 h26 => R g d m_X1_ranked 50 [.null, .int l1, .ref (hnx h10), .null, .int 0, .null] [] h26 Q) (fun r hx => Q (.inr r) hx))) (fun r hx => Q (.inr r) hx))) (fun r hx => Q (.inr r) hx))) (fun r hx => Q (.inr r) hx))) (fun r hx => Q (.inr r) hx))) (fun r hx => Q (.inr r) hx))
theorem v_X1_ranked_0 {g : PG} {d : Nat} {l0 : Nat} {l1 : Int32} {h : PH} {Q : Out → PH → Prop} (H : w_X1_ranked_0 g d l0 l1 h Q) : R g d m_X1_ranked 0 [.ref l0, .int l1, .null, .null, .null, .null] [] h Q := by
  refine r_iload_n dX1_ranked_0 rfl rfl ?_
  refine r_iconst dX1_ranked_1 rfl ?_
  refine r_aload_n dX1_ranked_2 rfl rfl ?_
  obtain ⟨k1, H⟩ := H
  refine r_getG fr_X1_37_1 (by decide) dX1_ranked_3 k1 (by decide) ?_
  obtain ⟨k2, H⟩ := H
  refine r_getG fr_X1_115_2 (by decide) dX1_ranked_6 k2 (by decide) ?_
  obtain ⟨k3, H⟩ := H
  refine r_invV (y := m_J2_size) dX1_ranked_9 rfl (lw_V q1594 q913 q3681 q111 q914) py_J2_size (Nat.le_of_ble_eq_true rfl) (args := []) rfl rfl (Nat.le_of_ble_eq_true rfl) k3 (by decide) rfl (C.monoE H (fun o h4 _ x6 K => cont_I K (fun v5 H => ?_) (fun r HX => XR_nc rfl HX)))
  refine r_iconst dX1_ranked_12 rfl ?_
  refine r_isub dX1_ranked_13 ?_
  refine r_invS (y := m_X1_inRange) dX1_ranked_14 rfl (lw_S q1610 q1611 q107 q1612) py_X1_inRange (Nat.le_of_ble_eq_true rfl) (args := [_, _, _]) rfl rfl (Nat.le_of_ble_eq_true rfl) (C.monoE H (fun o h7 _ x9 K => cont_I K (fun v8 H => ?_) (fun r HX => XR_nc rfl HX)))
  refine r_invS (y := m_X1_checkFound) dX1_ranked_17 rfl (lw_S q1613 q1614 q107 q1615) py_X1_checkFound (Nat.le_of_ble_eq_true rfl) (args := [_]) rfl rfl (Nat.le_of_ble_eq_true rfl) (C.monoE H (fun o h10 _ x12 K => cont_V K (fun H => ?_) (fun r HX => XR_nc rfl HX)))
  replace H := H _ rfl
  refine r_new (ci := 27) dX1_ranked_20 rfl (by decide) q2753 q2754 q167 ?_
  refine r_dup dX1_ranked_23 rfl ?_
  replace H := H _ rfl
  refine r_new (ci := 11) dX1_ranked_24 rfl (by decide) q2857 q2858 q170 ?_
  refine r_dup dX1_ranked_27 rfl ?_
  obtain ⟨k15, H⟩ := H
  refine r_invIN (y := m_X10_init) dX1_ranked_28 rfl rfl q2859 q2861 q170 q2860 rfl py_X10_init (Nat.le_of_ble_eq_true rfl) (args := []) rfl rfl (Nat.le_of_ble_eq_true rfl) k15 (C.monoE H (fun o h16 _ x18 K => cont_V K (fun H => ?_) (fun r HX => XR_nc rfl HX)))
  obtain ⟨k19, H⟩ := H
  refine r_invI (y := m_J48_init) dX1_ranked_31 rfl rfl q2767 q167 q2765 q2766 rfl py_J48_init (Nat.le_of_ble_eq_true rfl) (args := [_]) rfl rfl (Nat.le_of_ble_eq_true rfl) k19 (C.monoE H (fun o h20 _ x22 K => cont_V K (fun H => ?_) (fun r HX => XR_nc rfl HX)))
  refine r_astore_n dX1_ranked_34 rfl (Nat.le_of_ble_eq_true rfl) rfl (slS (slS sl0)) ?_
  refine r_aload_n dX1_ranked_35 rfl rfl ?_
  refine r_aload_n dX1_ranked_36 rfl rfl ?_
  obtain ⟨k23, H⟩ := H
  refine r_getG fr_X1_37_1 (by decide) dX1_ranked_37 k23 (by decide) ?_
  obtain ⟨k24, H⟩ := H
  refine r_getG fr_X1_115_2 (by decide) dX1_ranked_40 k24 (by decide) ?_
  obtain ⟨k25, H⟩ := H
  refine r_invU (y := m_J47_addAll) (owner := "java/util/AbstractQueue") (Cn := "java/util/PriorityQueue") (x := ⟨"java/util/PriorityQueue", "addAll", "(Ljava/util/Collection;)Z"⟩) dX1_ranked_43 (n := 1) ⟨rfl, by decide +kernel, by decide, by decide, Or.inl ⟨lw_U q2864 q2865 q2867 q2868 q166 q2869, Or.inl rfl⟩⟩ (Nat.le_of_ble_eq_true rfl) (args := [_]) rfl rfl (Nat.le_of_ble_eq_true rfl) k25 (by decide) rfl (C.monoE H (fun o h26 _ x28 K => cont_I K (fun v27 H => ?_) (fun r HX => XR_nc rfl HX)))
  refine r_istore_n dX1_ranked_46 rfl (Nat.le_of_ble_eq_true rfl) rfl (slS (slS (slS sl0))) ?_
  refine r_iconst dX1_ranked_47 rfl ?_
  refine r_istore dX1_ranked_48 (Nat.le_of_ble_eq_true rfl) rfl (slS (slS (slS (slS sl0)))) ?_
  exact R.forget H ⟨Or.inr rfl, ⟨Or.inl rfl, ⟨Or.inl rfl, ⟨Or.inr rfl, ⟨Or.inl rfl, ⟨Or.inl rfl, trivial⟩⟩⟩⟩⟩⟩
theorem c_X1_ranked_0 {g : PG} {d : Nat} {l0 : Nat} {l1 : Int32} {h : PH} {Q : Out → PH → Prop} (H : w_X1_ranked_0 g d l0 l1 h Q) : C g (d + 1) m_X1_ranked [.ref l0, .int l1] h Q := C_of_R rfl rfl (Nat.le_of_ble_eq_true rfl) rfl (v_X1_ranked_0 H)
abbrev w_X1_legOf_0 (g : PG) (d : Nat) (l0 : Nat) (l1 : Int32) (l2 : Int32) (h : PH) (Q : Out → PH → Prop) : Prop := hkd h l0 = 1 ∧ hkd h (hG h 500 l0) = 2 ∧ hkd h (hG h 512 (hG h 500 l0)) = 23 ∧ C g d m_J6_size [.ref (hG h 512 (hG h 500 l0))] h (oI (fun v5 h4 => C g d m_X1_inRange [.int l1, .int 0, .int (v5 - (1 : Int32))] h4 (oI (fun v8 h7 => C g d m_X1_checkFound [.int v8] h7 (oV (fun h10 => C g d m_X1_inRange [.int l2, .int 0, .int 4] h10 (oI (fun v14 h13 => C g d m_X1_checkArgument [.int v14] h13 (oV (fun h16 => hkd h16 (hG h16 500 l0) = 2 ∧ hkd h16 (hG h16 512 (hG h16 500 l0)) = 23 ∧ C g d m_J6_get [.ref (hG h16 512 (hG h16 500 l0)), .int l1] h16 (oR (fun v22 h21 => (v22 = 0 ∨ hkd h21 v22 = 5) ∧ (l2 = 0 → hkd h21 v22 = 5 ∧ C g d m_X8_snowman [.ref v22] h21 (oI (fun v28 h27 => Q (.inl (some (.int v28))) h27) (fun r hx => Q (.inr r) hx))) ∧ (l2 = 1 → hkd h21 v22 = 5 ∧ C g d m_X8_from [.ref v22] h21 (oI (fun v33 h32 => Q (.inl (some (.int v33))) h32) (fun r hx => Q (.inr r) hx))) ∧ (l2 = 2 → hkd h21 v22 = 5 ∧ C g d m_X8_to [.ref v22] h21 (oI (fun v38 h37 => Q (.inl (some (.int v38))) h37) (fun r hx => Q (.inr r) hx))) ∧ (l2 = 3 → hkd h21 v22 = 5 ∧ C g d m_X8_lost [.ref v22] h21 (oI (fun v43 h42 => Q (.inl (some (.int v43))) h42) (fun r hx => Q (.inr r) hx))) ∧ (¬ l2 = 0 → ¬ l2 = 1 → ¬ l2 = 2 → ¬ l2 = 3 → hkd h21 v22 = 5 ∧ C g d m_X8_hour [.ref v22] h21 (oI (fun v47 h46 => Q (.inl (some (.int v47))) h46) (fun r hx => Q (.inr r) hx)))) (fun r hx => Q (.inr r) hx))) (fun r hx => Q (.inr r) hx))) (fun r hx => Q (.inr r) hx))) (fun r hx => Q (.inr r) hx))) (fun r hx => Q (.inr r) hx))) (fun r hx => Q (.inr r) hx))
theorem v_X1_legOf_0 {g : PG} {d : Nat} {l0 : Nat} {l1 : Int32} {l2 : Int32} {h : PH} {Q : Out → PH → Prop} (H : w_X1_legOf_0 g d l0 l1 l2 h Q) : R g d m_X1_legOf 0 [.ref l0, .int l1, .int l2, .null] [] h Q := by
  refine r_iload_n dX1_legOf_0 rfl rfl ?_
  refine r_iconst dX1_legOf_1 rfl ?_
  refine r_aload_n dX1_legOf_2 rfl rfl ?_
  obtain ⟨k1, H⟩ := H
  refine r_getG fr_X1_37_1 (by decide) dX1_legOf_3 k1 (by decide) ?_
  obtain ⟨k2, H⟩ := H
  refine r_getG fr_X1_319_2 (by decide) dX1_legOf_6 k2 (by decide) ?_
  obtain ⟨k3, H⟩ := H
  refine r_invV (y := m_J6_size) dX1_legOf_9 rfl (lw_V q2900 q916 q3694 q115 q917) py_J6_size (Nat.le_of_ble_eq_true rfl) (args := []) rfl rfl (Nat.le_of_ble_eq_true rfl) k3 (by decide) rfl (C.monoE H (fun o h4 _ x6 K => cont_I K (fun v5 H => ?_) (fun r HX => XR_nc rfl HX)))
  refine r_iconst dX1_legOf_12 rfl ?_
  refine r_isub dX1_legOf_13 ?_
  refine r_invS (y := m_X1_inRange) dX1_legOf_14 rfl (lw_S q1610 q1611 q107 q1612) py_X1_inRange (Nat.le_of_ble_eq_true rfl) (args := [_, _, _]) rfl rfl (Nat.le_of_ble_eq_true rfl) (C.monoE H (fun o h7 _ x9 K => cont_I K (fun v8 H => ?_) (fun r HX => XR_nc rfl HX)))
  refine r_invS (y := m_X1_checkFound) dX1_legOf_17 rfl (lw_S q1613 q1614 q107 q1615) py_X1_checkFound (Nat.le_of_ble_eq_true rfl) (args := [_]) rfl rfl (Nat.le_of_ble_eq_true rfl) (C.monoE H (fun o h10 _ x12 K => cont_V K (fun H => ?_) (fun r HX => XR_nc rfl HX)))
  refine r_iload_n dX1_legOf_20 rfl rfl ?_
  refine r_iconst dX1_legOf_21 rfl ?_
  refine r_iconst dX1_legOf_22 rfl ?_
  refine r_invS (y := m_X1_inRange) dX1_legOf_23 rfl (lw_S q1610 q1611 q107 q1612) py_X1_inRange (Nat.le_of_ble_eq_true rfl) (args := [_, _, _]) rfl rfl (Nat.le_of_ble_eq_true rfl) (C.monoE H (fun o h13 _ x15 K => cont_I K (fun v14 H => ?_) (fun r HX => XR_nc rfl HX)))
  refine r_invS (y := m_X1_checkArgument) dX1_legOf_26 rfl (lw_S q2406 q2407 q107 q2408) py_X1_checkArgument (Nat.le_of_ble_eq_true rfl) (args := [_]) rfl rfl (Nat.le_of_ble_eq_true rfl) (C.monoE H (fun o h16 _ x18 K => cont_V K (fun H => ?_) (fun r HX => XR_nc rfl HX)))
  refine r_aload_n dX1_legOf_29 rfl rfl ?_
  refine r_getG fr_X1_37_1 (by decide) dX1_legOf_30 (x18.kd (x15.kd (x12.kd (x9.kd (x6.kd k1 (by decide)) (by decide)) (by decide)) (by decide)) (by decide)) (by decide) ?_
  obtain ⟨k19, H⟩ := H
  refine r_getG fr_X1_319_2 (by decide) dX1_legOf_33 k19 (by decide) ?_
  refine r_iload_n dX1_legOf_36 rfl rfl ?_
  obtain ⟨k20, H⟩ := H
  refine r_invV (y := m_J6_get) dX1_legOf_37 rfl (lw_V q2044 q990 q3691 q115 q991) py_J6_get (Nat.le_of_ble_eq_true rfl) (args := [_]) rfl rfl (Nat.le_of_ble_eq_true rfl) k20 (by decide) rfl (C.monoE H (fun o h21 _ x23 K => cont_R K (fun v22 H => ?_) (fun r HX => XR_nc rfl HX)))
  obtain ⟨k24, H⟩ := H
  refine r_castO (kv := 5) dX1_legOf_40 q2901 (by decide) (Or.inr rfl) k24 ?_
  refine r_astore_n dX1_legOf_43 rfl (Nat.le_of_ble_eq_true rfl) rfl (slS (slS (slS sl0))) ?_
  refine r_iload_n dX1_legOf_44 rfl rfl ?_
  refine R.tri (k9 := 0) (fun b25 => ?_) (fun b25 => ?_)
  · replace H := H.1 b25
    refine r_tableIn (tgt := 76) dX1_legOf_45 (by rw [b25]; decide) (by rw [b25]; decide) (by rw [b25]; first | done | rfl) rfl ?_
    refine r_aload_n dX1_legOf_76 rfl rfl ?_
    obtain ⟨k26, H⟩ := H
    refine r_invV (y := m_X8_snowman) dX1_legOf_77 rfl (lw_V q2902 q2903 q2904 q163 q2905) py_X8_snowman (Nat.le_of_ble_eq_true rfl) (args := []) rfl rfl (Nat.le_of_ble_eq_true rfl) k26 (by decide) rfl (C.monoE H (fun o h27 _ x29 K => cont_I K (fun v28 H => ?_) (fun r HX => XR_nc rfl HX)))
    refine r_goto (tgt := 108) dX1_legOf_80 rfl ?_
    exact r_iret dX1_legOf_108 rfl H
  replace H := H.2
  refine R.tri (k9 := 1) (fun b30 => ?_) (fun b30 => ?_)
  · replace H := H.1 b30
    refine r_tableIn (tgt := 83) dX1_legOf_45 (by rw [b30]; decide) (by rw [b30]; decide) (by rw [b30]; first | done | rfl) rfl ?_
    refine r_aload_n dX1_legOf_83 rfl rfl ?_
    obtain ⟨k31, H⟩ := H
    refine r_invV (y := m_X8_from) dX1_legOf_84 rfl (lw_V q2906 q2907 q2908 q163 q2909) py_X8_from (Nat.le_of_ble_eq_true rfl) (args := []) rfl rfl (Nat.le_of_ble_eq_true rfl) k31 (by decide) rfl (C.monoE H (fun o h32 _ x34 K => cont_I K (fun v33 H => ?_) (fun r HX => XR_nc rfl HX)))
    refine r_goto (tgt := 108) dX1_legOf_87 rfl ?_
    exact r_iret dX1_legOf_108 rfl H
  replace H := H.2
  refine R.tri (k9 := 2) (fun b35 => ?_) (fun b35 => ?_)
  · replace H := H.1 b35
    refine r_tableIn (tgt := 90) dX1_legOf_45 (by rw [b35]; decide) (by rw [b35]; decide) (by rw [b35]; first | done | rfl) rfl ?_
    refine r_aload_n dX1_legOf_90 rfl rfl ?_
    obtain ⟨k36, H⟩ := H
    refine r_invV (y := m_X8_to) dX1_legOf_91 rfl (lw_V q2910 q2911 q2912 q163 q2913) py_X8_to (Nat.le_of_ble_eq_true rfl) (args := []) rfl rfl (Nat.le_of_ble_eq_true rfl) k36 (by decide) rfl (C.monoE H (fun o h37 _ x39 K => cont_I K (fun v38 H => ?_) (fun r HX => XR_nc rfl HX)))
    refine r_goto (tgt := 108) dX1_legOf_94 rfl ?_
    exact r_iret dX1_legOf_108 rfl H
  replace H := H.2
  refine R.tri (k9 := 3) (fun b40 => ?_) (fun b40 => ?_)
  · replace H := H.1 b40
    refine r_tableIn (tgt := 97) dX1_legOf_45 (by rw [b40]; decide) (by rw [b40]; decide) (by rw [b40]; first | done | rfl) rfl ?_
    refine r_aload_n dX1_legOf_97 rfl rfl ?_
    obtain ⟨k41, H⟩ := H
    refine r_invV (y := m_X8_lost) dX1_legOf_98 rfl (lw_V q2914 q2915 q2916 q163 q2917) py_X8_lost (Nat.le_of_ble_eq_true rfl) (args := []) rfl rfl (Nat.le_of_ble_eq_true rfl) k41 (by decide) rfl (C.monoE H (fun o h42 _ x44 K => cont_I K (fun v43 H => ?_) (fun r HX => XR_nc rfl HX)))
    refine r_goto (tgt := 108) dX1_legOf_101 rfl ?_
    exact r_iret dX1_legOf_108 rfl H
  replace H := H.2
  replace H := H b25 b30 b35 b40
  refine r_tableOut (tgt := 104) dX1_legOf_45 (tabOut (lo := 0) (n := 4) rfl (fun i hi => match i, hi with | 0, _ => b25 | 1, _ => b30 | 2, _ => b35 | 3, _ => b40 | k + 4, hi => absurd hi (by omega))) rfl ?_
  refine r_aload_n dX1_legOf_104 rfl rfl ?_
  obtain ⟨k45, H⟩ := H
  refine r_invV (y := m_X8_hour) dX1_legOf_105 rfl (lw_V q2918 q2919 q2920 q163 q2921) py_X8_hour (Nat.le_of_ble_eq_true rfl) (args := []) rfl rfl (Nat.le_of_ble_eq_true rfl) k45 (by decide) rfl (C.monoE H (fun o h46 _ x48 K => cont_I K (fun v47 H => ?_) (fun r HX => XR_nc rfl HX)))
  exact r_iret dX1_legOf_108 rfl H
theorem c_X1_legOf_0 {g : PG} {d : Nat} {l0 : Nat} {l1 : Int32} {l2 : Int32} {h : PH} {Q : Out → PH → Prop} (H : w_X1_legOf_0 g d l0 l1 l2 h Q) : C g (d + 1) m_X1_legOf [.ref l0, .int l1, .int l2] h Q := C_of_R rfl rfl (Nat.le_of_ble_eq_true rfl) rfl (v_X1_legOf_0 H)
abbrev w_X1_tell_0 (g : PG) (d : Nat) (l0 : Nat) (l1 : Int32) (h : PH) (Q : Out → PH → Prop) : Prop := hkd h l0 = 1 ∧ hkd h (hG h 500 l0) = 2 ∧ C g d m_X2_snowman [.ref (hG h 500 l0), .int l1] h (oR (fun v4 h3 => hkd h3 (hG h3 504 l0) = 28 ∧ C g d m_J9_setLength [.ref (hG h3 504 l0), .int 0] h3 (oV (fun h7 => False) (fun r hx => Q (.inr r) hx))) (fun r hx => Q (.inr r) hx))
theorem v_X1_tell_0 {g : PG} {d : Nat} {l0 : Nat} {l1 : Int32} {h : PH} {Q : Out → PH → Prop} (H : w_X1_tell_0 g d l0 l1 h Q) : R g d m_X1_tell 0 [.ref l0, .int l1, .null, .null] [] h Q := by
  refine r_aload_n dX1_tell_0 rfl rfl ?_
  obtain ⟨k1, H⟩ := H
  refine r_getG fr_X1_37_1 (by decide) dX1_tell_1 k1 (by decide) ?_
  refine r_iload_n dX1_tell_4 rfl rfl ?_
  obtain ⟨k2, H⟩ := H
  refine r_invV (y := m_X2_snowman) dX1_tell_5 rfl (lw_V q2698 q2699 q2700 q108 q2701) py_X2_snowman (Nat.le_of_ble_eq_true rfl) (args := [_]) rfl rfl (Nat.le_of_ble_eq_true rfl) k2 (by decide) rfl (C.monoE H (fun o h3 _ x5 K => cont_R K (fun v4 H => ?_) (fun r HX => XR_nc rfl HX)))
  refine r_astore_n dX1_tell_8 rfl (Nat.le_of_ble_eq_true rfl) rfl (slS (slS sl0)) ?_
  refine r_aload_n dX1_tell_9 rfl rfl ?_
  refine r_getG fr_X1_51_1 (by decide) dX1_tell_10 (x5.kd k1 (by decide)) (by decide) ?_
  refine r_iconst dX1_tell_13 rfl ?_
  obtain ⟨k6, H⟩ := H
  refine r_invV (y := m_J9_setLength) dX1_tell_14 rfl (lw_V q429 q430 q431 q119 q432) py_J9_setLength (Nat.le_of_ble_eq_true rfl) (args := [_]) rfl rfl (Nat.le_of_ble_eq_true rfl) k6 (by decide) rfl (C.monoE H (fun o h7 _ x9 K => cont_V K (fun H => ?_) (fun r HX => XR_nc rfl HX)))
  refine r_aload_n dX1_tell_17 rfl rfl ?_
  refine r_getG fr_X1_51_1 (by decide) dX1_tell_18 (x9.kd (x5.kd k1 (by decide)) (by decide)) (by decide) ?_
  exact H.elim
theorem c_X1_tell_0 {g : PG} {d : Nat} {l0 : Nat} {l1 : Int32} {h : PH} {Q : Out → PH → Prop} (H : w_X1_tell_0 g d l0 l1 h Q) : C g (d + 1) m_X1_tell [.ref l0, .int l1] h Q := C_of_R rfl rfl (Nat.le_of_ble_eq_true rfl) rfl (v_X1_tell_0 H)
abbrev w_X1_character_0 (g : PG) (d : Nat) (l0 : Nat) (l1 : Int32) (h : PH) (Q : Out → PH → Prop) : Prop := hkd h l0 = 1 ∧ hkd h (hG h 504 l0) = 28 ∧ C g d m_J9_length [.ref (hG h 504 l0)] h (oI (fun v4 h3 => C g d m_X1_checkIndex [.int l1, .int v4] h3 (oV (fun h6 => hkd h6 (hG h6 504 l0) = 28 ∧ C g d m_J9_charAt [.ref (hG h6 504 l0), .int l1] h6 (oI (fun v11 h10 => narrow .char (.int v11) = .int v11 ∧ Q (.inl (some (.int v11))) h10) (fun r hx => Q (.inr r) hx))) (fun r hx => Q (.inr r) hx))) (fun r hx => Q (.inr r) hx))
theorem v_X1_character_0 {g : PG} {d : Nat} {l0 : Nat} {l1 : Int32} {h : PH} {Q : Out → PH → Prop} (H : w_X1_character_0 g d l0 l1 h Q) : R g d m_X1_character 0 [.ref l0, .int l1] [] h Q := by
  refine r_iload_n dX1_character_0 rfl rfl ?_
  refine r_aload_n dX1_character_1 rfl rfl ?_
  obtain ⟨k1, H⟩ := H
  refine r_getG fr_X1_51_1 (by decide) dX1_character_2 k1 (by decide) ?_
  obtain ⟨k2, H⟩ := H
  refine r_invV (y := m_J9_length) dX1_character_5 rfl (lw_V q1542 q611 q3680 q119 q612) py_J9_length (Nat.le_of_ble_eq_true rfl) (args := []) rfl rfl (Nat.le_of_ble_eq_true rfl) k2 (by decide) rfl (C.monoE H (fun o h3 _ x5 K => cont_I K (fun v4 H => ?_) (fun r HX => XR_nc rfl HX)))
  refine r_invS (y := m_X1_checkIndex) dX1_character_8 rfl (lw_S q2839 q2396 q107 q2397) py_X1_checkIndex (Nat.le_of_ble_eq_true rfl) (args := [_, _]) rfl rfl (Nat.le_of_ble_eq_true rfl) (C.monoE H (fun o h6 _ x8 K => cont_V K (fun H => ?_) (fun r HX => XR_nc rfl HX)))
  refine r_aload_n dX1_character_11 rfl rfl ?_
  refine r_getG fr_X1_51_1 (by decide) dX1_character_12 (x8.kd (x5.kd k1 (by decide)) (by decide)) (by decide) ?_
  refine r_iload_n dX1_character_15 rfl rfl ?_
  obtain ⟨k9, H⟩ := H
  refine r_invV (y := m_J9_charAt) dX1_character_16 rfl (lw_V q2950 q2951 q2952 q119 q2953) py_J9_charAt (Nat.le_of_ble_eq_true rfl) (args := [_]) rfl rfl (Nat.le_of_ble_eq_true rfl) k9 (by decide) rfl (C.monoE H (fun o h10 _ x12 K => cont_I K (fun v11 H => ?_) (fun r HX => XR_nc rfl HX)))
  exact r_zret dX1_character_19 rfl H.1 H.2
theorem c_X1_character_0 {g : PG} {d : Nat} {l0 : Nat} {l1 : Int32} {h : PH} {Q : Out → PH → Prop} (H : w_X1_character_0 g d l0 l1 h Q) : C g (d + 1) m_X1_character [.ref l0, .int l1] h Q := C_of_R rfl rfl (Nat.le_of_ble_eq_true rfl) rfl (v_X1_character_0 H)
abbrev w_X1_noseShare_0 (g : PG) (d : Nat) (l0 : Nat) (h : PH) (Q : Out → PH → Prop) : Prop := hkd h l0 = 1 ∧ hkd h (hG h 500 l0) = 2 ∧ hkd h (hG h 507 (hG h 500 l0)) = 13 ∧ C g d m_J2_isEmpty [.ref (hG h 507 (hG h 500 l0))] h (oI (fun v5 h4 => ((v5 = 0) → C g d m_X1_noses [.ref l0] h4 (oI (fun v9 h8 => hkd h8 (hG h8 500 l0) = 2 ∧ hkd h8 (hG h8 507 (hG h8 500 l0)) = 13 ∧ C g d m_J2_size [.ref (hG h8 507 (hG h8 500 l0))] h8 (oI (fun v14 h13 => vf_n32 (FP.fdiv (FP.i2f v9) (FP.i2f v14)) ∧ Q (.inl (some (.float (FP.fdiv (FP.i2f v9) (FP.i2f v14))))) h13) (fun r hx => Q (.inr r) hx))) (fun r hx => Q (.inr r) hx))) ∧ ((¬ v5 = 0) → 5 ≤ d ∧ Q (.inr (hnx h4)) (hnew 35 0 7 h4))) (fun r hx => Q (.inr r) hx))
theorem v_X1_noseShare_0 {g : PG} {d : Nat} {l0 : Nat} {h : PH} {Q : Out → PH → Prop} (H : w_X1_noseShare_0 g d l0 h Q) : R g d m_X1_noseShare 0 [.ref l0] [] h Q := by
  refine r_aload_n dX1_noseShare_0 rfl rfl ?_
  obtain ⟨k1, H⟩ := H
  refine r_getG fr_X1_37_1 (by decide) dX1_noseShare_1 k1 (by decide) ?_
  obtain ⟨k2, H⟩ := H
  refine r_getG fr_X1_115_2 (by decide) dX1_noseShare_4 k2 (by decide) ?_
  obtain ⟨k3, H⟩ := H
  refine r_invV (y := m_J2_isEmpty) dX1_noseShare_7 rfl (lw_V q2981 q2982 q2983 q111 q2984) py_J2_isEmpty (Nat.le_of_ble_eq_true rfl) (args := []) rfl rfl (Nat.le_of_ble_eq_true rfl) k3 (by decide) rfl (C.monoE H (fun o h4 _ x6 K => cont_I K (fun v5 H => ?_) (fun r HX => XR_nc rfl HX)))
  refine r_if_eq (tgt := 21) dX1_noseShare_10 rfl (fun b7 => ?_) (fun b7 => ?_)
  · replace H := H.1 b7
    refine r_aload_n dX1_noseShare_21 rfl rfl ?_
    refine r_invV (y := m_X1_noses) dX1_noseShare_22 rfl (lw_V q1585 q1587 qp7 q107 q1588) py_X1_noses (Nat.le_of_ble_eq_true rfl) (args := []) rfl rfl (Nat.le_of_ble_eq_true rfl) (x6.kd k1 (by decide)) (by decide) rfl (C.monoE H (fun o h8 _ x10 K => cont_I K (fun v9 H => ?_) (fun r HX => XR_nc rfl HX)))
    refine r_i2f dX1_noseShare_25 ?_
    refine r_aload_n dX1_noseShare_26 rfl rfl ?_
    refine r_getG fr_X1_37_1 (by decide) dX1_noseShare_27 (x10.kd (x6.kd k1 (by decide)) (by decide)) (by decide) ?_
    obtain ⟨k11, H⟩ := H
    refine r_getG fr_X1_115_2 (by decide) dX1_noseShare_30 k11 (by decide) ?_
    obtain ⟨k12, H⟩ := H
    refine r_invV (y := m_J2_size) dX1_noseShare_33 rfl (lw_V q1594 q913 q3681 q111 q914) py_J2_size (Nat.le_of_ble_eq_true rfl) (args := []) rfl rfl (Nat.le_of_ble_eq_true rfl) k12 (by decide) rfl (C.monoE H (fun o h13 _ x15 K => cont_I K (fun v14 H => ?_) (fun r HX => XR_nc rfl HX)))
    refine r_i2f dX1_noseShare_36 ?_
    obtain ⟨k16, H⟩ := H
    refine r_fdiv dX1_noseShare_37 k16 ?_
    exact r_fret dX1_noseShare_38 rfl H
  · replace H := H.2 b7
    exact r_throw0 (kE := 35) (names := ["java/lang/RuntimeException", "java/lang/Exception"]) (by decide) dX1_noseShare_13 dX1_noseShare_16 dX1_noseShare_17 dX1_noseShare_20 (by decide +kernel) (by decide +kernel) tw_X1_421_423 rfl H.1 (Nat.le_of_ble_eq_true rfl) H.2
theorem c_X1_noseShare_0 {g : PG} {d : Nat} {l0 : Nat} {h : PH} {Q : Out → PH → Prop} (H : w_X1_noseShare_0 g d l0 h Q) : C g (d + 1) m_X1_noseShare [.ref l0] h Q := C_of_R rfl rfl (Nat.le_of_ble_eq_true rfl) rfl (v_X1_noseShare_0 H)
abbrev w_X1_reason_41 (g : PG) (d : Nat) (l2 : Int32) (l3 : Nat) (h : PH) (Q : Out → PH → Prop) : Prop := (l3 = 0 → (((0 : Int32) = 0) → 5 ≤ d ∧ Q (.inr (hnx h)) (hnew 34 0 7 h)) ∧ ((¬ (0 : Int32) = 0) → (l3 = 0 ∨ hkd h l3 = 7) ∧ ((l2 = 0) → hkd h l3 = 7 ∧ Q (.inl (some (.int (hF h 23 l3)))) h) ∧ ((¬ l2 = 0) → hkd h l3 = 7 ∧ Q (.inl (some (.int (hF h 24 l3)))) h))) ∧ (¬ l3 = 0 → hkd h l3 = 7 ∧ (((1 : Int32) = 0) → 5 ≤ d ∧ Q (.inr (hnx h)) (hnew 34 0 7 h)) ∧ ((¬ (1 : Int32) = 0) → (l3 = 0 ∨ hkd h l3 = 7) ∧ ((l2 = 0) → hkd h l3 = 7 ∧ Q (.inl (some (.int (hF h 23 l3)))) h) ∧ ((¬ l2 = 0) → hkd h l3 = 7 ∧ Q (.inl (some (.int (hF h 24 l3)))) h)))
theorem v_X1_reason_41 {g : PG} {d : Nat} {l2 : Int32} {l3 : Nat} {h : PH} {Q : Out → PH → Prop} (H : w_X1_reason_41 g d l2 l3 h Q) : R g d m_X1_reason 41 [.null, .null, .int l2, .ref l3, .null] [] h Q := by
  refine r_aload_n dX1_reason_41 rfl rfl ?_
  refine r_instO (kv := 7) dX1_reason_42 q2319 (by decide) (Or.inr rfl) (fun k1 => ?_) (fun k1 => ⟨(H.2 k1).1, ?_⟩)
  · replace H := H.1 k1
    refine r_if_eq (tgt := 72) dX1_reason_45 rfl (fun b2 => ?_) (fun b2 => ?_)
    · replace H := H.1 b2
      exact r_throw0 (kE := 34) (names := ["java/lang/RuntimeException", "java/lang/Exception"]) (by decide) dX1_reason_72 dX1_reason_75 dX1_reason_76 dX1_reason_79 (by decide +kernel) (by decide +kernel) tw_X1_19_21 rfl H.1 (Nat.le_of_ble_eq_true rfl) H.2
    · replace H := H.2 b2
      refine r_aload_n dX1_reason_48 rfl rfl ?_
      obtain ⟨k4, H⟩ := H
      refine r_castO (kv := 7) dX1_reason_49 q2319 (by decide) (Or.inr rfl) k4 ?_
      refine r_astore dX1_reason_52 (Nat.le_of_ble_eq_true rfl) rfl (slS (slS (slS (slS sl0)))) ?_
      refine r_iload_n dX1_reason_54 rfl rfl ?_
      refine r_if_eq (tgt := 66) dX1_reason_55 rfl (fun b5 => ?_) (fun b5 => ?_)
      · replace H := H.1 b5
        refine r_aload dX1_reason_66 rfl ?_
        obtain ⟨k6, H⟩ := H
        refine r_getF fr_X1_433_7 (by decide) dX1_reason_68 k6 (by decide) ?_
        exact r_iret dX1_reason_71 rfl H
      · replace H := H.2 b5
        refine r_aload dX1_reason_58 rfl ?_
        obtain ⟨k7, H⟩ := H
        refine r_getF fr_X1_430_7 (by decide) dX1_reason_60 k7 (by decide) ?_
        refine r_goto (tgt := 71) dX1_reason_63 rfl ?_
        exact r_iret dX1_reason_71 rfl H
  · replace H := (H.2 k1).2
    refine r_if_eq (tgt := 72) dX1_reason_45 rfl (fun b8 => ?_) (fun b8 => ?_)
    · replace H := H.1 b8
      exact r_throw0 (kE := 34) (names := ["java/lang/RuntimeException", "java/lang/Exception"]) (by decide) dX1_reason_72 dX1_reason_75 dX1_reason_76 dX1_reason_79 (by decide +kernel) (by decide +kernel) tw_X1_19_21 rfl H.1 (Nat.le_of_ble_eq_true rfl) H.2
    · replace H := H.2 b8
      refine r_aload_n dX1_reason_48 rfl rfl ?_
      obtain ⟨k10, H⟩ := H
      refine r_castO (kv := 7) dX1_reason_49 q2319 (by decide) (Or.inr rfl) k10 ?_
      refine r_astore dX1_reason_52 (Nat.le_of_ble_eq_true rfl) rfl (slS (slS (slS (slS sl0)))) ?_
      refine r_iload_n dX1_reason_54 rfl rfl ?_
      refine r_if_eq (tgt := 66) dX1_reason_55 rfl (fun b11 => ?_) (fun b11 => ?_)
      · replace H := H.1 b11
        refine r_aload dX1_reason_66 rfl ?_
        obtain ⟨k12, H⟩ := H
        refine r_getF fr_X1_433_7 (by decide) dX1_reason_68 k12 (by decide) ?_
        exact r_iret dX1_reason_71 rfl H
      · replace H := H.2 b11
        refine r_aload dX1_reason_58 rfl ?_
        obtain ⟨k13, H⟩ := H
        refine r_getF fr_X1_430_7 (by decide) dX1_reason_60 k13 (by decide) ?_
        refine r_goto (tgt := 71) dX1_reason_63 rfl ?_
        exact r_iret dX1_reason_71 rfl H
abbrev w_X1_reason_20 (g : PG) (d : Nat) (l1 : Int32) (l2 : Int32) (l3 : Nat) (l4 : Int32) (h : PH) (Q : Out → PH → Prop) : Prop := ((l1 ≤ l4) → w_X1_reason_41 g d l2 l3 h Q) ∧ ((¬ l1 ≤ l4) → ((l3 = 0) → w_X1_reason_41 g d l2 l3 h Q) ∧ ((¬ l3 = 0) → hkd h l3 = 7 ∧ R g d m_X1_reason 20 [.null, .int l1, .int l2, .ref (causeOf h l3), .int (l4 + 1)] [] h Q))
theorem v_X1_reason_20 {g : PG} {d : Nat} {l1 : Int32} {l2 : Int32} {l3 : Nat} {l4 : Int32} {h : PH} {Q : Out → PH → Prop} (H : w_X1_reason_20 g d l1 l2 l3 l4 h Q) : R g d m_X1_reason 20 [.null, .int l1, .int l2, .ref l3, .int l4] [] h Q := by
  refine r_iload dX1_reason_20 rfl ?_
  refine r_iload_n dX1_reason_22 rfl rfl ?_
  refine r_icmp_ge (tgt := 41) dX1_reason_23 rfl (fun b1 => ?_) (fun b1 => ?_)
  · replace H := H.1 b1
    exact R.forget (v_X1_reason_41 H) ⟨Or.inl rfl, ⟨Or.inr rfl, ⟨Or.inl rfl, ⟨Or.inl rfl, ⟨Or.inr rfl, trivial⟩⟩⟩⟩⟩
  · replace H := H.2 b1
    refine r_aload_n dX1_reason_26 rfl rfl ?_
    refine r_ifnull (tgt := 41) dX1_reason_27 rfl (fun b2 => ?_) (fun b2 => ?_)
    · replace H := H.1 b2
      exact R.forget (v_X1_reason_41 H) ⟨Or.inl rfl, ⟨Or.inr rfl, ⟨Or.inl rfl, ⟨Or.inl rfl, ⟨Or.inr rfl, trivial⟩⟩⟩⟩⟩
    · replace H := H.2 b2
      refine r_aload_n dX1_reason_30 rfl rfl ?_
      obtain ⟨k3, H⟩ := H
      refine r_getCause dX1_reason_31 q2997 k3 (Nat.le_of_ble_eq_true rfl) ?_
      refine r_astore_n dX1_reason_34 rfl (Nat.le_of_ble_eq_true rfl) rfl (slS (slS (slS sl0))) ?_
      refine r_iinc dX1_reason_35 rfl rfl (Nat.le_of_ble_eq_true rfl) rfl (slS (slS (slS (slS sl0)))) ?_
      refine r_goto (tgt := 20) dX1_reason_38 rfl ?_
      exact H
abbrev w_X1_reason_9 (g : PG) (d : Nat) (l0 : Nat) (l1 : Int32) (l2 : Int32) (s0 : Int32) (h : PH) (Q : Out → PH → Prop) : Prop := C g d m_X1_checkArgument [.int s0] h (oV (fun h1 => hkd h1 l0 = 1 ∧ R g d m_X1_reason 20 [.null, .int l1, .int l2, .ref (hG h1 503 l0), .int 0] [] h1 Q) (fun r hx => Q (.inr r) hx))
theorem v_X1_reason_9 {g : PG} {d : Nat} {l0 : Nat} {l1 : Int32} {l2 : Int32} {s0 : Int32} {h : PH} {Q : Out → PH → Prop} (H : w_X1_reason_9 g d l0 l1 l2 s0 h Q) : R g d m_X1_reason 9 [.ref l0, .int l1, .int l2, .null, .null] [.int s0] h Q := by
  refine r_invS (y := m_X1_checkArgument) dX1_reason_9 rfl (lw_S q2406 q2407 q107 q2408) py_X1_checkArgument (Nat.le_of_ble_eq_true rfl) (args := [_]) rfl rfl (Nat.le_of_ble_eq_true rfl) (C.monoE H (fun o h1 _ x3 K => cont_V K (fun H => ?_) (fun r HX => XR_nc rfl HX)))
  refine r_aload_n dX1_reason_12 rfl rfl ?_
  obtain ⟨k4, H⟩ := H
  refine r_getG fr_X1_71_1 (by decide) dX1_reason_13 k4 (by decide) ?_
  refine r_astore_n dX1_reason_16 rfl (Nat.le_of_ble_eq_true rfl) rfl (slS (slS (slS sl0))) ?_
  refine r_iconst dX1_reason_17 rfl ?_
  refine r_istore dX1_reason_18 (Nat.le_of_ble_eq_true rfl) rfl (slS (slS (slS (slS sl0)))) ?_
  exact R.forget H ⟨Or.inr rfl, ⟨Or.inl rfl, ⟨Or.inl rfl, ⟨Or.inl rfl, ⟨Or.inl rfl, trivial⟩⟩⟩⟩⟩
abbrev w_X1_reason_0 (g : PG) (d : Nat) (l0 : Nat) (l1 : Int32) (l2 : Int32) (h : PH) (Q : Out → PH → Prop) : Prop := ((l1 < 0) → w_X1_reason_9 g d l0 l1 l2 (0 : Int32) h Q) ∧ ((¬ l1 < 0) → w_X1_reason_9 g d l0 l1 l2 (1 : Int32) h Q)
theorem v_X1_reason_0 {g : PG} {d : Nat} {l0 : Nat} {l1 : Int32} {l2 : Int32} {h : PH} {Q : Out → PH → Prop} (H : w_X1_reason_0 g d l0 l1 l2 h Q) : R g d m_X1_reason 0 [.ref l0, .int l1, .int l2, .null, .null] [] h Q := by
  refine r_iload_n dX1_reason_0 rfl rfl ?_
  refine r_if_lt (tgt := 8) dX1_reason_1 rfl (fun b1 => ?_) (fun b1 => ?_)
  · replace H := H.1 b1
    refine r_iconst dX1_reason_8 rfl ?_
    exact v_X1_reason_9 H
  · replace H := H.2 b1
    refine r_iconst dX1_reason_4 rfl ?_
    refine r_goto (tgt := 9) dX1_reason_5 rfl ?_
    exact v_X1_reason_9 H
theorem c_X1_reason_0 {g : PG} {d : Nat} {l0 : Nat} {l1 : Int32} {l2 : Int32} {h : PH} {Q : Out → PH → Prop} (H : w_X1_reason_0 g d l0 l1 l2 h Q) : C g (d + 1) m_X1_reason [.ref l0, .int l1, .int l2] h Q := C_of_R rfl rfl (Nat.le_of_ble_eq_true rfl) rfl (v_X1_reason_0 H)
abbrev w_X1_account_0 (g : PG) (d : Nat) (l0 : Nat) (l1 : Int32) (h : PH) (Q : Out → PH → Prop) : Prop := C g d m_X1_inRange [.int l1, .int 0, .int 10] h (oI (fun v2 h1 => C g d m_X1_checkArgument [.int v2] h1 (oV (fun h4 => (l1 = 0 → hkd h4 l0 = 1 ∧ hkd h4 (hG h4 500 l0) = 2 ∧ hkd h4 (hG h4 507 (hG h4 500 l0)) = 13 ∧ C g d m_J2_size [.ref (hG h4 507 (hG h4 500 l0))] h4 (oI (fun v12 h11 => Q (.inl (some (.int v12))) h11) (fun r hx => Q (.inr r) hx))) ∧ (l1 = 1 → hkd h4 l0 = 1 ∧ C g d m_X1_gone [.ref l0] h4 (oI (fun v17 h16 => Q (.inl (some (.int v17))) h16) (fun r hx => Q (.inr r) hx))) ∧ (l1 = 2 → hkd h4 l0 = 1 ∧ hkd h4 (hG h4 500 l0) = 2 ∧ Q (.inl (some (.int (hF h4 1 (hG h4 500 l0))))) h4) ∧ (l1 = 3 → hkd h4 l0 = 1 ∧ C g d m_X1_allMass [.ref l0] h4 (oI (fun v25 h24 => Q (.inl (some (.int v25))) h24) (fun r hx => Q (.inr r) hx))) ∧ (l1 = 4 → hkd h4 l0 = 1 ∧ C g d m_X1_allDripped [.ref l0] h4 (oI (fun v30 h29 => Q (.inl (some (.int v30))) h29) (fun r hx => Q (.inr r) hx))) ∧ (l1 = 5 → hkd h4 l0 = 1 ∧ C g d m_X1_lyingNoses [.ref l0] h4 (oI (fun v35 h34 => Q (.inl (some (.int v35))) h34) (fun r hx => Q (.inr r) hx))) ∧ (l1 = 6 → hkd h4 l0 = 1 ∧ hkd h4 (hG h4 500 l0) = 2 ∧ hkd h4 (hG h4 511 (hG h4 500 l0)) = 15 ∧ C g d m_J4_size [.ref (hG h4 511 (hG h4 500 l0))] h4 (oI (fun v42 h41 => Q (.inl (some (.int v42))) h41) (fun r hx => Q (.inr r) hx))) ∧ (l1 = 7 → hkd h4 l0 = 1 ∧ C g d m_X1_arrived [.ref l0] h4 (oI (fun v47 h46 => Q (.inl (some (.int v47))) h46) (fun r hx => Q (.inr r) hx))) ∧ (l1 = 8 → hkd h4 l0 = 1 ∧ hkd h4 (hG h4 500 l0) = 2 ∧ Q (.inl (some (.int (hF h4 2 (hG h4 500 l0))))) h4) ∧ (l1 = 9 → hkd h4 l0 = 1 ∧ Q (.inl (some (.int (hF h4 0 l0)))) h4) ∧ (¬ l1 = 0 → ¬ l1 = 1 → ¬ l1 = 2 → ¬ l1 = 3 → ¬ l1 = 4 → ¬ l1 = 5 → ¬ l1 = 6 → ¬ l1 = 7 → ¬ l1 = 8 → ¬ l1 = 9 → hkd h4 l0 = 1 ∧ hkd h4 (hG h4 502 l0) = 26 ∧ C g d m_J7_size [.ref (hG h4 502 l0)] h4 (oI (fun v57 h56 => Q (.inl (some (.int v57))) h56) (fun r hx => Q (.inr r) hx)))) (fun r hx => Q (.inr r) hx))) (fun r hx => Q (.inr r) hx))
theorem v_X1_account_0 {g : PG} {d : Nat} {l0 : Nat} {l1 : Int32} {h : PH} {Q : Out → PH → Prop} (H : w_X1_account_0 g d l0 l1 h Q) : R g d m_X1_account 0 [.ref l0, .int l1] [] h Q := by
  refine r_iload_n dX1_account_0 rfl rfl ?_
  refine r_iconst dX1_account_1 rfl ?_
  refine r_bipush dX1_account_2 rfl ?_
  refine r_invS (y := m_X1_inRange) dX1_account_4 rfl (lw_S q1610 q1611 q107 q1612) py_X1_inRange (Nat.le_of_ble_eq_true rfl) (args := [_, _, _]) rfl rfl (Nat.le_of_ble_eq_true rfl) (C.monoE H (fun o h1 _ x3 K => cont_I K (fun v2 H => ?_) (fun r HX => XR_nc rfl HX)))
  refine r_invS (y := m_X1_checkArgument) dX1_account_7 rfl (lw_S q2406 q2407 q107 q2408) py_X1_checkArgument (Nat.le_of_ble_eq_true rfl) (args := [_]) rfl rfl (Nat.le_of_ble_eq_true rfl) (C.monoE H (fun o h4 _ x6 K => cont_V K (fun H => ?_) (fun r HX => XR_nc rfl HX)))
  refine r_iload_n dX1_account_10 rfl rfl ?_
  refine R.tri (k9 := 0) (fun b7 => ?_) (fun b7 => ?_)
  · replace H := H.1 b7
    refine r_tableIn (tgt := 64) dX1_account_11 (by rw [b7]; decide) (by rw [b7]; decide) (by rw [b7]; first | done | rfl) rfl ?_
    refine r_aload_n dX1_account_64 rfl rfl ?_
    obtain ⟨k8, H⟩ := H
    refine r_getG fr_X1_37_1 (by decide) dX1_account_65 k8 (by decide) ?_
    obtain ⟨k9, H⟩ := H
    refine r_getG fr_X1_115_2 (by decide) dX1_account_68 k9 (by decide) ?_
    obtain ⟨k10, H⟩ := H
    refine r_invV (y := m_J2_size) dX1_account_71 rfl (lw_V q1594 q913 q3681 q111 q914) py_J2_size (Nat.le_of_ble_eq_true rfl) (args := []) rfl rfl (Nat.le_of_ble_eq_true rfl) k10 (by decide) rfl (C.monoE H (fun o h11 _ x13 K => cont_I K (fun v12 H => ?_) (fun r HX => XR_nc rfl HX)))
    refine r_goto (tgt := 159) dX1_account_74 rfl ?_
    exact r_iret dX1_account_159 rfl H
  replace H := H.2
  refine R.tri (k9 := 1) (fun b14 => ?_) (fun b14 => ?_)
  · replace H := H.1 b14
    refine r_tableIn (tgt := 77) dX1_account_11 (by rw [b14]; decide) (by rw [b14]; decide) (by rw [b14]; first | done | rfl) rfl ?_
    refine r_aload_n dX1_account_77 rfl rfl ?_
    obtain ⟨k15, H⟩ := H
    refine r_invV (y := m_X1_gone) dX1_account_78 rfl (lw_V q3018 q3020 qp50 q107 q3021) py_X1_gone (Nat.le_of_ble_eq_true rfl) (args := []) rfl rfl (Nat.le_of_ble_eq_true rfl) k15 (by decide) rfl (C.monoE H (fun o h16 _ x18 K => cont_I K (fun v17 H => ?_) (fun r HX => XR_nc rfl HX)))
    refine r_goto (tgt := 159) dX1_account_81 rfl ?_
    exact r_iret dX1_account_159 rfl H
  replace H := H.2
  refine R.tri (k9 := 2) (fun b19 => ?_) (fun b19 => ?_)
  · replace H := H.1 b19
    refine r_tableIn (tgt := 84) dX1_account_11 (by rw [b19]; decide) (by rw [b19]; decide) (by rw [b19]; first | done | rfl) rfl ?_
    refine r_aload_n dX1_account_84 rfl rfl ?_
    obtain ⟨k20, H⟩ := H
    refine r_getG fr_X1_37_1 (by decide) dX1_account_85 k20 (by decide) ?_
    obtain ⟨k21, H⟩ := H
    refine r_getF fr_X1_438_2 (by decide) dX1_account_88 k21 (by decide) ?_
    refine r_goto (tgt := 159) dX1_account_91 rfl ?_
    exact r_iret dX1_account_159 rfl H
  replace H := H.2
  refine R.tri (k9 := 3) (fun b22 => ?_) (fun b22 => ?_)
  · replace H := H.1 b22
    refine r_tableIn (tgt := 94) dX1_account_11 (by rw [b22]; decide) (by rw [b22]; decide) (by rw [b22]; first | done | rfl) rfl ?_
    refine r_aload_n dX1_account_94 rfl rfl ?_
    obtain ⟨k23, H⟩ := H
    refine r_invV (y := m_X1_allMass) dX1_account_95 rfl (lw_V q1547 q1549 qp5 q107 q1550) py_X1_allMass (Nat.le_of_ble_eq_true rfl) (args := []) rfl rfl (Nat.le_of_ble_eq_true rfl) k23 (by decide) rfl (C.monoE H (fun o h24 _ x26 K => cont_I K (fun v25 H => ?_) (fun r HX => XR_nc rfl HX)))
    refine r_goto (tgt := 159) dX1_account_98 rfl ?_
    exact r_iret dX1_account_159 rfl H
  replace H := H.2
  refine R.tri (k9 := 4) (fun b27 => ?_) (fun b27 => ?_)
  · replace H := H.1 b27
    refine r_tableIn (tgt := 101) dX1_account_11 (by rw [b27]; decide) (by rw [b27]; decide) (by rw [b27]; first | done | rfl) rfl ?_
    refine r_aload_n dX1_account_101 rfl rfl ?_
    obtain ⟨k28, H⟩ := H
    refine r_invV (y := m_X1_allDripped) dX1_account_102 rfl (lw_V q1581 q1583 qp6 q107 q1584) py_X1_allDripped (Nat.le_of_ble_eq_true rfl) (args := []) rfl rfl (Nat.le_of_ble_eq_true rfl) k28 (by decide) rfl (C.monoE H (fun o h29 _ x31 K => cont_I K (fun v30 H => ?_) (fun r HX => XR_nc rfl HX)))
    refine r_goto (tgt := 159) dX1_account_105 rfl ?_
    exact r_iret dX1_account_159 rfl H
  replace H := H.2
  refine R.tri (k9 := 5) (fun b32 => ?_) (fun b32 => ?_)
  · replace H := H.1 b32
    refine r_tableIn (tgt := 108) dX1_account_11 (by rw [b32]; decide) (by rw [b32]; decide) (by rw [b32]; first | done | rfl) rfl ?_
    refine r_aload_n dX1_account_108 rfl rfl ?_
    obtain ⟨k33, H⟩ := H
    refine r_invV (y := m_X1_lyingNoses) dX1_account_109 rfl (lw_V q1590 q1592 qp8 q107 q1593) py_X1_lyingNoses (Nat.le_of_ble_eq_true rfl) (args := []) rfl rfl (Nat.le_of_ble_eq_true rfl) k33 (by decide) rfl (C.monoE H (fun o h34 _ x36 K => cont_I K (fun v35 H => ?_) (fun r HX => XR_nc rfl HX)))
    refine r_goto (tgt := 159) dX1_account_112 rfl ?_
    exact r_iret dX1_account_159 rfl H
  replace H := H.2
  refine R.tri (k9 := 6) (fun b37 => ?_) (fun b37 => ?_)
  · replace H := H.1 b37
    refine r_tableIn (tgt := 115) dX1_account_11 (by rw [b37]; decide) (by rw [b37]; decide) (by rw [b37]; first | done | rfl) rfl ?_
    refine r_aload_n dX1_account_115 rfl rfl ?_
    obtain ⟨k38, H⟩ := H
    refine r_getG fr_X1_37_1 (by decide) dX1_account_116 k38 (by decide) ?_
    obtain ⟨k39, H⟩ := H
    refine r_getG fr_X1_414_2 (by decide) dX1_account_119 k39 (by decide) ?_
    obtain ⟨k40, H⟩ := H
    refine r_invV (y := m_J4_size) dX1_account_122 rfl (lw_V q3022 q2005 q2006 q113 q2007) py_J4_size (Nat.le_of_ble_eq_true rfl) (args := []) rfl rfl (Nat.le_of_ble_eq_true rfl) k40 (by decide) rfl (C.monoE H (fun o h41 _ x43 K => cont_I K (fun v42 H => ?_) (fun r HX => XR_nc rfl HX)))
    refine r_goto (tgt := 159) dX1_account_125 rfl ?_
    exact r_iret dX1_account_159 rfl H
  replace H := H.2
  refine R.tri (k9 := 7) (fun b44 => ?_) (fun b44 => ?_)
  · replace H := H.1 b44
    refine r_tableIn (tgt := 128) dX1_account_11 (by rw [b44]; decide) (by rw [b44]; decide) (by rw [b44]; first | done | rfl) rfl ?_
    refine r_aload_n dX1_account_128 rfl rfl ?_
    obtain ⟨k45, H⟩ := H
    refine r_invV (y := m_X1_arrived) dX1_account_129 rfl (lw_V q3023 q3025 qp51 q107 q3026) py_X1_arrived (Nat.le_of_ble_eq_true rfl) (args := []) rfl rfl (Nat.le_of_ble_eq_true rfl) k45 (by decide) rfl (C.monoE H (fun o h46 _ x48 K => cont_I K (fun v47 H => ?_) (fun r HX => XR_nc rfl HX)))
    refine r_goto (tgt := 159) dX1_account_132 rfl ?_
    exact r_iret dX1_account_159 rfl H
  replace H := H.2
  refine R.tri (k9 := 8) (fun b49 => ?_) (fun b49 => ?_)
  · replace H := H.1 b49
    refine r_tableIn (tgt := 135) dX1_account_11 (by rw [b49]; decide) (by rw [b49]; decide) (by rw [b49]; first | done | rfl) rfl ?_
    refine r_aload_n dX1_account_135 rfl rfl ?_
    obtain ⟨k50, H⟩ := H
    refine r_getG fr_X1_37_1 (by decide) dX1_account_136 k50 (by decide) ?_
    obtain ⟨k51, H⟩ := H
    refine r_getF fr_X1_444_2 (by decide) dX1_account_139 k51 (by decide) ?_
    refine r_goto (tgt := 159) dX1_account_142 rfl ?_
    exact r_iret dX1_account_159 rfl H
  replace H := H.2
  refine R.tri (k9 := 9) (fun b52 => ?_) (fun b52 => ?_)
  · replace H := H.1 b52
    refine r_tableIn (tgt := 145) dX1_account_11 (by rw [b52]; decide) (by rw [b52]; decide) (by rw [b52]; first | done | rfl) rfl ?_
    refine r_aload_n dX1_account_145 rfl rfl ?_
    obtain ⟨k53, H⟩ := H
    refine r_getF fr_X1_447_1 (by decide) dX1_account_146 k53 (by decide) ?_
    refine r_goto (tgt := 159) dX1_account_149 rfl ?_
    exact r_iret dX1_account_159 rfl H
  replace H := H.2
  replace H := H b7 b14 b19 b22 b27 b32 b37 b44 b49 b52
  refine r_tableOut (tgt := 152) dX1_account_11 (tabOut (lo := 0) (n := 10) rfl (fun i hi => match i, hi with | 0, _ => b7 | 1, _ => b14 | 2, _ => b19 | 3, _ => b22 | 4, _ => b27 | 5, _ => b32 | 6, _ => b37 | 7, _ => b44 | 8, _ => b49 | 9, _ => b52 | k + 10, hi => absurd hi (by omega))) rfl ?_
  refine r_aload_n dX1_account_152 rfl rfl ?_
  obtain ⟨k54, H⟩ := H
  refine r_getG fr_X1_44_1 (by decide) dX1_account_153 k54 (by decide) ?_
  obtain ⟨k55, H⟩ := H
  refine r_invV (y := m_J7_size) dX1_account_156 rfl (lw_V q2577 q1782 q1783 q117 q1784) py_J7_size (Nat.le_of_ble_eq_true rfl) (args := []) rfl rfl (Nat.le_of_ble_eq_true rfl) k55 (by decide) rfl (C.monoE H (fun o h56 _ x58 K => cont_I K (fun v57 H => ?_) (fun r HX => XR_nc rfl HX)))
  exact r_iret dX1_account_159 rfl H
theorem c_X1_account_0 {g : PG} {d : Nat} {l0 : Nat} {l1 : Int32} {h : PH} {Q : Out → PH → Prop} (H : w_X1_account_0 g d l0 l1 h Q) : C g (d + 1) m_X1_account [.ref l0, .int l1] h Q := C_of_R rfl rfl (Nat.le_of_ble_eq_true rfl) rfl (v_X1_account_0 H)
abbrev w_X1_gone_13 (g : PG) (d : Nat) (l1 : Int32) (l2 : Nat) (h : PH) (Q : Out → PH → Prop) : Prop := hkd h l2 = 14 ∧ C g d m_J18_hasNext [.ref l2] h (oI (fun v3 h2 => ((v3 = 0) → Q (.inl (some (.int l1))) h2) ∧ ((¬ v3 = 0) → C g d m_J18_next [.ref l2] h2 (oR (fun v7 h6 => (v7 = 0 ∨ hkd h6 v7 = 4) ∧ hkd h6 v7 = 4 ∧ C g d m_X6_isGone [.ref v7] h6 (oI (fun v12 h11 => C g d m_X1_number [.int v12] h11 (oI (fun v15 h14 => R g d m_X1_gone 13 [.null, .int (l1 + v15), .ref l2, .null] [] h14 Q) (fun r hx => Q (.inr r) hx))) (fun r hx => Q (.inr r) hx))) (fun r hx => Q (.inr r) hx)))) (fun r hx => Q (.inr r) hx))
theorem v_X1_gone_13 {g : PG} {d : Nat} {l1 : Int32} {l2 : Nat} {h : PH} {Q : Out → PH → Prop} (H : w_X1_gone_13 g d l1 l2 h Q) : R g d m_X1_gone 13 [.null, .int l1, .ref l2, .null] [] h Q := by
  refine r_aload_n dX1_gone_13 rfl rfl ?_
  obtain ⟨k1, H⟩ := H
  refine r_invF (y := m_J18_hasNext) (Cn := "java/util/ArrayList$Itr") (x := ⟨"java/util/Iterator", "hasNext", "()Z"⟩) dX1_gone_14 rfl (lw_F q1577 q925 q927 q130 q929) fw_t2 (n := 0) (by decide +kernel) (Nat.le_of_ble_eq_true rfl) (args := []) rfl rfl (Nat.le_of_ble_eq_true rfl) k1 (by decide) rfl (C.monoE H (fun o h2 _ x4 K => cont_I K (fun v3 H => ?_) (fun r HX => XR_nc rfl HX)))
  refine r_if_eq (tgt := 45) dX1_gone_19 rfl (fun b5 => ?_) (fun b5 => ?_)
  · replace H := H.1 b5
    refine r_iload_n dX1_gone_45 rfl rfl ?_
    exact r_iret dX1_gone_46 rfl H
  · replace H := H.2 b5
    refine r_aload_n dX1_gone_22 rfl rfl ?_
    refine r_invF (y := m_J18_next) (Cn := "java/util/ArrayList$Itr") (x := ⟨"java/util/Iterator", "next", "()Ljava/lang/Object;"⟩) dX1_gone_23 rfl (lw_F q1579 q1167 q1169 q130 q1171) fw_t7 (n := 0) (by decide +kernel) (Nat.le_of_ble_eq_true rfl) (args := []) rfl rfl (Nat.le_of_ble_eq_true rfl) (x4.kd k1 (by decide)) (by decide) rfl (C.monoE H (fun o h6 _ x8 K => cont_R K (fun v7 H => ?_) (fun r HX => XR_nc rfl HX)))
    obtain ⟨k9, H⟩ := H
    refine r_castO (kv := 4) dX1_gone_28 q1580 (by decide) (Or.inr rfl) k9 ?_
    refine r_astore_n dX1_gone_31 rfl (Nat.le_of_ble_eq_true rfl) rfl (slS (slS (slS sl0))) ?_
    refine r_iload_n dX1_gone_32 rfl rfl ?_
    refine r_aload_n dX1_gone_33 rfl rfl ?_
    obtain ⟨k10, H⟩ := H
    refine r_invV (y := m_X6_isGone) dX1_gone_34 rfl (lw_V q2690 q2474 q2475 q142 q2476) py_X6_isGone (Nat.le_of_ble_eq_true rfl) (args := []) rfl rfl (Nat.le_of_ble_eq_true rfl) k10 (by decide) rfl (C.monoE H (fun o h11 _ x13 K => cont_I K (fun v12 H => ?_) (fun r HX => XR_nc rfl HX)))
    refine r_invS (y := m_X1_number) dX1_gone_37 rfl (lw_S q1589 q1534 q107 q1535) py_X1_number (Nat.le_of_ble_eq_true rfl) (args := [_]) rfl rfl (Nat.le_of_ble_eq_true rfl) (C.monoE H (fun o h14 _ x16 K => cont_I K (fun v15 H => ?_) (fun r HX => XR_nc rfl HX)))
    refine r_iadd dX1_gone_40 ?_
    refine r_istore_n dX1_gone_41 rfl (Nat.le_of_ble_eq_true rfl) rfl (slS sl0) ?_
    refine r_goto (tgt := 13) dX1_gone_42 rfl ?_
    exact R.forget H ⟨Or.inl rfl, ⟨Or.inl rfl, ⟨Or.inl rfl, ⟨Or.inr rfl, trivial⟩⟩⟩⟩
abbrev w_X1_gone_0 (g : PG) (d : Nat) (l0 : Nat) (h : PH) (Q : Out → PH → Prop) : Prop := hkd h l0 = 1 ∧ hkd h (hG h 500 l0) = 2 ∧ hkd h (hG h 507 (hG h 500 l0)) = 13 ∧ C g d m_J2_iterator [.ref (hG h 507 (hG h 500 l0))] h (oR (fun v5 h4 => R g d m_X1_gone 13 [.null, .int 0, .ref v5, .null] [] h4 Q) (fun r hx => Q (.inr r) hx))
theorem v_X1_gone_0 {g : PG} {d : Nat} {l0 : Nat} {h : PH} {Q : Out → PH → Prop} (H : w_X1_gone_0 g d l0 h Q) : R g d m_X1_gone 0 [.ref l0, .null, .null, .null] [] h Q := by
  refine r_iconst dX1_gone_0 rfl ?_
  refine r_istore_n dX1_gone_1 rfl (Nat.le_of_ble_eq_true rfl) rfl (slS sl0) ?_
  refine r_aload_n dX1_gone_2 rfl rfl ?_
  obtain ⟨k1, H⟩ := H
  refine r_getG fr_X1_37_1 (by decide) dX1_gone_3 k1 (by decide) ?_
  obtain ⟨k2, H⟩ := H
  refine r_getG fr_X1_115_2 (by decide) dX1_gone_6 k2 (by decide) ?_
  obtain ⟨k3, H⟩ := H
  refine r_invV (y := m_J2_iterator) dX1_gone_9 rfl (lw_V q1551 q1552 q1553 q111 q1554) py_J2_iterator (Nat.le_of_ble_eq_true rfl) (args := []) rfl rfl (Nat.le_of_ble_eq_true rfl) k3 (by decide) rfl (C.monoE H (fun o h4 _ x6 K => cont_R K (fun v5 H => ?_) (fun r HX => XR_nc rfl HX)))
  refine r_astore_n dX1_gone_12 rfl (Nat.le_of_ble_eq_true rfl) rfl (slS (slS sl0)) ?_
  exact R.forget H ⟨Or.inr rfl, ⟨Or.inl rfl, ⟨Or.inl rfl, ⟨Or.inl rfl, trivial⟩⟩⟩⟩
theorem c_X1_gone_0 {g : PG} {d : Nat} {l0 : Nat} {h : PH} {Q : Out → PH → Prop} (H : w_X1_gone_0 g d l0 h Q) : C g (d + 1) m_X1_gone [.ref l0] h Q := C_of_R rfl rfl (Nat.le_of_ble_eq_true rfl) rfl (v_X1_gone_0 H)
abbrev w_X1_arrived_40 (g : PG) (d : Nat) (l2 : Nat) (l3 : Int32) (l4 : Int32) (s0 : Int32) (s1 : Int32) (h : PH) (Q : Out → PH → Prop) : Prop := C g d m_X1_number [.int s1] h (oI (fun v2 h1 => R g d m_X1_arrived 16 [.null, .int (s0 + v2), .ref l2, .int l3, .int (l4 + 1), .null] [] h1 Q) (fun r hx => Q (.inr r) hx))
theorem v_X1_arrived_40 {g : PG} {d : Nat} {l2 : Nat} {l3 : Int32} {l4 : Int32} {s0 : Int32} {s1 : Int32} {h : PH} {Q : Out → PH → Prop} (H : w_X1_arrived_40 g d l2 l3 l4 s0 s1 h Q) : R g d m_X1_arrived 40 [.null, .null, .ref l2, .int l3, .int l4, .null] [.int s1, .int s0] h Q := by
  refine r_invS (y := m_X1_number) dX1_arrived_40 rfl (lw_S q1589 q1534 q107 q1535) py_X1_number (Nat.le_of_ble_eq_true rfl) (args := [_]) rfl rfl (Nat.le_of_ble_eq_true rfl) (C.monoE H (fun o h1 _ x3 K => cont_I K (fun v2 H => ?_) (fun r HX => XR_nc rfl HX)))
  refine r_iadd dX1_arrived_43 ?_
  refine r_istore_n dX1_arrived_44 rfl (Nat.le_of_ble_eq_true rfl) rfl (slS sl0) ?_
  refine r_iinc dX1_arrived_45 rfl rfl (Nat.le_of_ble_eq_true rfl) rfl (slS (slS (slS (slS sl0)))) ?_
  refine r_goto (tgt := 16) dX1_arrived_48 rfl ?_
  exact H
abbrev w_X1_arrived_16 (g : PG) (d : Nat) (l1 : Int32) (l2 : Nat) (l3 : Int32) (l4 : Int32) (h : PH) (Q : Out → PH → Prop) : Prop := ((l3 ≤ l4) → Q (.inl (some (.int l1))) h) ∧ ((¬ l3 ≤ l4) → hkd h l2 / 100 = 1 ∧ vp_in l4 (hln h l2) ∧ (((hA h l2 l4.toNatClampNeg) = (-1 : Int32)) → w_X1_arrived_40 g d l2 l3 l4 l1 (0 : Int32) h Q) ∧ ((¬ (hA h l2 l4.toNatClampNeg) = (-1 : Int32)) → w_X1_arrived_40 g d l2 l3 l4 l1 (1 : Int32) h Q))
theorem v_X1_arrived_16 {g : PG} {d : Nat} {l1 : Int32} {l2 : Nat} {l3 : Int32} {l4 : Int32} {h : PH} {Q : Out → PH → Prop} (H : w_X1_arrived_16 g d l1 l2 l3 l4 h Q) : R g d m_X1_arrived 16 [.null, .int l1, .ref l2, .int l3, .int l4, .null] [] h Q := by
  refine r_iload dX1_arrived_16 rfl ?_
  refine r_iload_n dX1_arrived_18 rfl rfl ?_
  refine r_icmp_ge (tgt := 51) dX1_arrived_19 rfl (fun b1 => ?_) (fun b1 => ?_)
  · replace H := H.1 b1
    refine r_iload_n dX1_arrived_51 rfl rfl ?_
    exact r_iret dX1_arrived_52 rfl H
  · replace H := H.2 b1
    refine r_aload_n dX1_arrived_22 rfl rfl ?_
    refine r_iload dX1_arrived_23 rfl ?_
    obtain ⟨k2, H⟩ := H
    obtain ⟨k3, H⟩ := H
    refine r_iald dX1_arrived_25 k2 k3 ?_
    refine r_istore dX1_arrived_26 (Nat.le_of_ble_eq_true rfl) rfl (slS (slS (slS (slS (slS sl0))))) ?_
    refine r_iload_n dX1_arrived_28 rfl rfl ?_
    refine r_iload dX1_arrived_29 rfl ?_
    refine r_iconst dX1_arrived_31 rfl ?_
    refine r_icmp_eq (tgt := 39) dX1_arrived_32 rfl (fun b4 => ?_) (fun b4 => ?_)
    · replace H := H.1 b4
      refine r_iconst dX1_arrived_39 rfl ?_
      exact R.forget (v_X1_arrived_40 H) ⟨Or.inl rfl, ⟨Or.inr rfl, ⟨Or.inl rfl, ⟨Or.inl rfl, ⟨Or.inl rfl, ⟨Or.inr rfl, trivial⟩⟩⟩⟩⟩⟩
    · replace H := H.2 b4
      refine r_iconst dX1_arrived_35 rfl ?_
      refine r_goto (tgt := 40) dX1_arrived_36 rfl ?_
      exact R.forget (v_X1_arrived_40 H) ⟨Or.inl rfl, ⟨Or.inr rfl, ⟨Or.inl rfl, ⟨Or.inl rfl, ⟨Or.inl rfl, ⟨Or.inr rfl, trivial⟩⟩⟩⟩⟩⟩
abbrev w_X1_arrived_0 (g : PG) (d : Nat) (l0 : Nat) (h : PH) (Q : Out → PH → Prop) : Prop := hkd h l0 = 1 ∧ hkd h (hG h 500 l0) = 2 ∧ hkd h (hG h 509 (hG h 500 l0)) / 100 = 1 ∧ R g d m_X1_arrived 16 [.null, .int 0, .ref (hG h 509 (hG h 500 l0)), .int (nI (hln h (hG h 509 (hG h 500 l0)))), .int 0, .null] [] h Q
theorem v_X1_arrived_0 {g : PG} {d : Nat} {l0 : Nat} {h : PH} {Q : Out → PH → Prop} (H : w_X1_arrived_0 g d l0 h Q) : R g d m_X1_arrived 0 [.ref l0, .null, .null, .null, .null, .null] [] h Q := by
  refine r_iconst dX1_arrived_0 rfl ?_
  refine r_istore_n dX1_arrived_1 rfl (Nat.le_of_ble_eq_true rfl) rfl (slS sl0) ?_
  refine r_aload_n dX1_arrived_2 rfl rfl ?_
  obtain ⟨k1, H⟩ := H
  refine r_getG fr_X1_37_1 (by decide) dX1_arrived_3 k1 (by decide) ?_
  obtain ⟨k2, H⟩ := H
  refine r_getG fr_X1_206_2 (by decide) dX1_arrived_6 k2 (by decide) ?_
  refine r_astore_n dX1_arrived_9 rfl (Nat.le_of_ble_eq_true rfl) rfl (slS (slS sl0)) ?_
  refine r_aload_n dX1_arrived_10 rfl rfl ?_
  obtain ⟨k3, H⟩ := H
  refine r_alen (m := 1) dX1_arrived_11 (by decide) k3 ?_
  refine r_istore_n dX1_arrived_12 rfl (Nat.le_of_ble_eq_true rfl) rfl (slS (slS (slS sl0))) ?_
  refine r_iconst dX1_arrived_13 rfl ?_
  refine r_istore dX1_arrived_14 (Nat.le_of_ble_eq_true rfl) rfl (slS (slS (slS (slS sl0)))) ?_
  exact R.forget H ⟨Or.inr rfl, ⟨Or.inl rfl, ⟨Or.inl rfl, ⟨Or.inl rfl, ⟨Or.inl rfl, ⟨Or.inl rfl, trivial⟩⟩⟩⟩⟩⟩
theorem c_X1_arrived_0 {g : PG} {d : Nat} {l0 : Nat} {h : PH} {Q : Out → PH → Prop} (H : w_X1_arrived_0 g d l0 h Q) : C g (d + 1) m_X1_arrived [.ref l0] h Q := C_of_R rfl rfl (Nat.le_of_ble_eq_true rfl) rfl (v_X1_arrived_0 H)
abbrev w_X1_feed_14 (g : PG) (d : Nat) (l0 : Nat) (l1 : Int32) (s0 : Int32) (h : PH) (Q : Out → PH → Prop) : Prop := C g d m_X1_checkState [.int s0] h (oV (fun h1 => hkd h1 l0 = 1 ∧ hkd h1 (hG h1 505 l0) / 100 = 2 ∧ hkd h1 (hG h1 505 l0) % 100 < 50 ∧ vp_in (hF h1 0 l0) (hln h1 (hG h1 505 l0)) ∧ narrow .char (.int l1) = .int l1 ∧ ∀ h8, h8 = setA (hG h1 505 l0) (hF h1 0 l0).toNatClampNeg l1 h1 → ∀ h9, h9 = setF 0 l0 ((hF h8 0 l0) + (1 : Int32)) h8 → Q (.inl (some (.int (hF h9 0 l0)))) h9) (fun r hx => Q (.inr r) hx))
theorem v_X1_feed_14 {g : PG} {d : Nat} {l0 : Nat} {l1 : Int32} {s0 : Int32} {h : PH} {Q : Out → PH → Prop} (H : w_X1_feed_14 g d l0 l1 s0 h Q) : R g d m_X1_feed 14 [.ref l0, .int l1] [.int s0] h Q := by
  refine r_invS (y := m_X1_checkState) dX1_feed_14 rfl (lw_S q3035 q3036 q107 q3037) py_X1_checkState (Nat.le_of_ble_eq_true rfl) (args := [_]) rfl rfl (Nat.le_of_ble_eq_true rfl) (C.monoE H (fun o h1 _ x3 K => cont_V K (fun H => ?_) (fun r HX => XR_nc rfl HX)))
  refine r_aload_n dX1_feed_17 rfl rfl ?_
  obtain ⟨k4, H⟩ := H
  refine r_getG fr_X1_55_1 (by decide) dX1_feed_18 k4 (by decide) ?_
  refine r_aload_n dX1_feed_21 rfl rfl ?_
  refine r_getF fr_X1_447_1 (by decide) dX1_feed_22 k4 (by decide) ?_
  refine r_iload_n dX1_feed_25 rfl rfl ?_
  obtain ⟨k5, H⟩ := H
  obtain ⟨k6, H⟩ := H
  obtain ⟨k7, H⟩ := H
  obtain ⟨k10, H⟩ := H
  replace H := H _ rfl
  refine r_cast dX1_feed_26 k5 k6 k7 k10 ?_
  refine r_aload_n dX1_feed_27 rfl rfl ?_
  refine r_dup dX1_feed_28 rfl ?_
  refine r_getF fr_X1_447_1 (by decide) dX1_feed_29 k4 (by decide) ?_
  refine r_iconst dX1_feed_32 rfl ?_
  refine r_iadd dX1_feed_33 ?_
  replace H := H _ rfl
  refine r_putF fw_X1_447_1 (by decide) dX1_feed_34 k4 (by decide) rfl rfl ?_
  refine r_aload_n dX1_feed_37 rfl rfl ?_
  refine r_getF fr_X1_447_1 (by decide) dX1_feed_38 k4 (by decide) ?_
  exact r_iret dX1_feed_41 rfl H
abbrev w_X1_feed_0 (g : PG) (d : Nat) (l0 : Nat) (l1 : Int32) (h : PH) (Q : Out → PH → Prop) : Prop := hkd h l0 = 1 ∧ (((50 : Int32) ≤ (hF h 0 l0)) → w_X1_feed_14 g d l0 l1 (0 : Int32) h Q) ∧ ((¬ (50 : Int32) ≤ (hF h 0 l0)) → w_X1_feed_14 g d l0 l1 (1 : Int32) h Q)
theorem v_X1_feed_0 {g : PG} {d : Nat} {l0 : Nat} {l1 : Int32} {h : PH} {Q : Out → PH → Prop} (H : w_X1_feed_0 g d l0 l1 h Q) : R g d m_X1_feed 0 [.ref l0, .int l1] [] h Q := by
  refine r_aload_n dX1_feed_0 rfl rfl ?_
  obtain ⟨k1, H⟩ := H
  refine r_getF fr_X1_447_1 (by decide) dX1_feed_1 k1 (by decide) ?_
  refine r_bipush dX1_feed_4 rfl ?_
  refine r_icmp_ge (tgt := 13) dX1_feed_6 rfl (fun b2 => ?_) (fun b2 => ?_)
  · replace H := H.1 b2
    refine r_iconst dX1_feed_13 rfl ?_
    exact v_X1_feed_14 H
  · replace H := H.2 b2
    refine r_iconst dX1_feed_9 rfl ?_
    refine r_goto (tgt := 14) dX1_feed_10 rfl ?_
    exact v_X1_feed_14 H
theorem c_X1_feed_0 {g : PG} {d : Nat} {l0 : Nat} {l1 : Int32} {h : PH} {Q : Out → PH → Prop} (H : w_X1_feed_0 g d l0 l1 h Q) : C g (d + 1) m_X1_feed [.ref l0, .int l1] h Q := C_of_R rfl rfl (Nat.le_of_ble_eq_true rfl) rfl (v_X1_feed_0 H)
abbrev w_X1_checkState_0 (g : PG) (d : Nat) (l0 : Int32) (h : PH) (Q : Out → PH → Prop) : Prop := ((¬ l0 = 0) → Q (.inl none) h) ∧ ((l0 = 0) → 5 ≤ d ∧ Q (.inr (hnx h)) (hnew 32 0 7 h))
theorem v_X1_checkState_0 {g : PG} {d : Nat} {l0 : Int32} {h : PH} {Q : Out → PH → Prop} (H : w_X1_checkState_0 g d l0 h Q) : R g d m_X1_checkState 0 [.int l0] [] h Q := by
  refine r_iload_n dX1_checkState_0 rfl rfl ?_
  refine r_if_ne (tgt := 12) dX1_checkState_1 rfl (fun b1 => ?_) (fun b1 => ?_)
  · replace H := H.1 b1
    exact r_vret dX1_checkState_12 rfl H
  · replace H := H.2 b1
    exact r_throw0 (kE := 32) (names := ["java/lang/RuntimeException", "java/lang/Exception"]) (by decide) dX1_checkState_4 dX1_checkState_7 dX1_checkState_8 dX1_checkState_11 (by decide +kernel) (by decide +kernel) tw_X1_7_9 rfl H.1 (Nat.le_of_ble_eq_true rfl) H.2
theorem c_X1_checkState_0 {g : PG} {d : Nat} {l0 : Int32} {h : PH} {Q : Out → PH → Prop} (H : w_X1_checkState_0 g d l0 h Q) : C g (d + 1) m_X1_checkState [.int l0] h Q := C_of_R rfl rfl (Nat.le_of_ble_eq_true rfl) rfl (v_X1_checkState_0 H)
abbrev w_X1_perform_53 (g : PG) (d : Nat) (l0 : Nat) (s0 : Nat) (h : PH) (Q : Out → PH → Prop) : Prop := hkd h l0 = 1 ∧ ∀ h2, h2 = setF 0 l0 (0 : Int32) h → (hkd h2 s0 ≠ 0 ∧ hkd h2 s0 < 100) ∧ Q (.inr s0) h2
theorem v_X1_perform_53 {g : PG} {d : Nat} {l0 : Nat} {s0 : Nat} {h : PH} {Q : Out → PH → Prop} (H : w_X1_perform_53 g d l0 s0 h Q) : R g d m_X1_perform 53 [.ref l0, .null, .null, .null] [.ref s0] h Q := by
  refine r_astore_n dX1_perform_53 rfl (Nat.le_of_ble_eq_true rfl) rfl (slS (slS (slS sl0))) ?_
  refine r_aload_n dX1_perform_54 rfl rfl ?_
  refine r_iconst dX1_perform_55 rfl ?_
  obtain ⟨k1, H⟩ := H
  replace H := H _ rfl
  refine r_putF fw_X1_447_1 (by decide) dX1_perform_56 k1 (by decide) rfl rfl ?_
  refine r_aload_n dX1_perform_59 rfl rfl ?_
  exact r_athrow dX1_perform_60 H.1 (XR_nc rfl H.2)
abbrev w_X1_perform_39 (g : PG) (d : Nat) (l0 : Nat) (s0 : Nat) (h : PH) (Q : Out → PH → Prop) : Prop := hkd h l0 = 1 ∧ C g d m_X1_refused [.ref l0, .ref s0] h (oI (fun v3 h2 => ∀ h5, h5 = setF 0 l0 (0 : Int32) h2 → Q (.inl (some (.int v3))) h5) (fun r hx => XR g d m_X1_perform 42 [.ref l0, .ref s0, .null, .null] r hx Q))
theorem v_X1_perform_39 {g : PG} {d : Nat} {l0 : Nat} {s0 : Nat} {h : PH} {Q : Out → PH → Prop} (H : w_X1_perform_39 g d l0 s0 h Q) : R g d m_X1_perform 39 [.ref l0, .null, .null, .null] [.ref s0] h Q := by
  refine r_astore_n dX1_perform_39 rfl (Nat.le_of_ble_eq_true rfl) rfl (slS sl0) ?_
  refine r_aload_n dX1_perform_40 rfl rfl ?_
  refine r_aload_n dX1_perform_41 rfl rfl ?_
  obtain ⟨k1, H⟩ := H
  refine r_invV (y := m_X1_refused) dX1_perform_42 rfl (lw_V q2615 q2617 qp43 q107 q2618) py_X1_refused (Nat.le_of_ble_eq_true rfl) (args := [_]) rfl rfl (Nat.le_of_ble_eq_true rfl) k1 (by decide) rfl (C.monoE H (fun o h2 _ x4 K => cont_I K (fun v3 H => ?_) (fun r HX => HX)))
  refine r_istore_n dX1_perform_45 rfl (Nat.le_of_ble_eq_true rfl) rfl (slS (slS sl0)) ?_
  refine r_aload_n dX1_perform_46 rfl rfl ?_
  refine r_iconst dX1_perform_47 rfl ?_
  replace H := H _ rfl
  refine r_putF fw_X1_447_1 (by decide) dX1_perform_48 (x4.kd k1 (by decide)) (by decide) rfl rfl ?_
  refine r_iload_n dX1_perform_51 rfl rfl ?_
  exact r_iret dX1_perform_52 rfl H
abbrev w_X1_perform_23 (g : PG) (d : Nat) (l0 : Nat) (s0 : Nat) (h : PH) (Q : Out → PH → Prop) : Prop := hkd h s0 = 8 ∧ hkd h l0 = 1 ∧ ∀ h3, h3 = setF 0 l0 (0 : Int32) h → Q (.inl (some (.int ((-100 : Int32) - (hF h 25 s0))))) h3
theorem v_X1_perform_23 {g : PG} {d : Nat} {l0 : Nat} {s0 : Nat} {h : PH} {Q : Out → PH → Prop} (H : w_X1_perform_23 g d l0 s0 h Q) : R g d m_X1_perform 23 [.ref l0, .null, .null, .null] [.ref s0] h Q := by
  refine r_astore_n dX1_perform_23 rfl (Nat.le_of_ble_eq_true rfl) rfl (slS sl0) ?_
  refine r_bipush dX1_perform_24 rfl ?_
  refine r_aload_n dX1_perform_26 rfl rfl ?_
  obtain ⟨k1, H⟩ := H
  refine r_getF fr_X1_471_8 (by decide) dX1_perform_27 k1 (by decide) ?_
  refine r_isub dX1_perform_30 ?_
  refine r_istore_n dX1_perform_31 rfl (Nat.le_of_ble_eq_true rfl) rfl (slS (slS sl0)) ?_
  refine r_aload_n dX1_perform_32 rfl rfl ?_
  refine r_iconst dX1_perform_33 rfl ?_
  obtain ⟨k2, H⟩ := H
  replace H := H _ rfl
  refine r_putF fw_X1_447_1 (by decide) dX1_perform_34 k2 (by decide) rfl rfl ?_
  refine r_iload_n dX1_perform_37 rfl rfl ?_
  exact r_iret dX1_perform_38 rfl H
abbrev w_X1_perform_0 (g : PG) (d : Nat) (l0 : Nat) (h : PH) (Q : Out → PH → Prop) : Prop := ∀ h1, h1 = hnew 9 0 3 h → 0 < (hnx h) ∧ C g d m_X11_init [.ref (hnx h), .ref l0] h1 (oV (fun h3 => C g d m_X11_all [.ref (hnx h)] h3 (oR (fun v7 h6 => hkd h6 l0 = 1 ∧ C g d m_X1_carryOutAll [.ref l0, .ref v7] h6 (oI (fun v11 h10 => ∀ h13, h13 = setF 0 l0 (0 : Int32) h10 → Q (.inl (some (.int v11))) h13) (fun r hx => XR g d m_X1_perform 12 [.ref l0, .null, .null, .null] r hx Q))) (fun r hx => XR g d m_X1_perform 9 [.ref l0, .null, .null, .null] r hx Q))) (fun r hx => XR g d m_X1_perform 6 [.ref l0, .null, .null, .null] r hx Q))
theorem v_X1_perform_0 {g : PG} {d : Nat} {l0 : Nat} {h : PH} {Q : Out → PH → Prop} (H : w_X1_perform_0 g d l0 h Q) : R g d m_X1_perform 0 [.ref l0, .null, .null, .null] [] h Q := by
  refine r_aload_n dX1_perform_0 rfl rfl ?_
  replace H := H _ rfl
  refine r_new (ci := 9) dX1_perform_1 rfl (by decide) q3051 q3052 q173 ?_
  refine r_dup dX1_perform_4 rfl ?_
  refine r_aload_n dX1_perform_5 rfl rfl ?_
  obtain ⟨k2, H⟩ := H
  refine r_invIN (y := m_X11_init) dX1_perform_6 rfl rfl q3053 q3055 q173 q3054 rfl py_X11_init (Nat.le_of_ble_eq_true rfl) (args := [_]) rfl rfl (Nat.le_of_ble_eq_true rfl) k2 (C.monoE H (fun o h3 _ x5 K => cont_V K (fun H => ?_) (fun r HX => HX)))
  refine r_invV (y := m_X11_all) dX1_perform_9 rfl (lw_V q3064 q3065 q3066 q173 q3067) py_X11_all (Nat.le_of_ble_eq_true rfl) (args := []) rfl rfl (Nat.le_of_ble_eq_true rfl) (x5.kd (kd_self _ _ _ _) (by decide)) (by decide) rfl (C.monoE H (fun o h6 _ x8 K => cont_R K (fun v7 H => ?_) (fun r HX => HX)))
  obtain ⟨k9, H⟩ := H
  refine r_invV (y := m_X1_carryOutAll) dX1_perform_12 rfl (lw_V q3189 q3191 qp66 q107 q3192) py_X1_carryOutAll (Nat.le_of_ble_eq_true rfl) (args := [_]) rfl rfl (Nat.le_of_ble_eq_true rfl) k9 (by decide) rfl (C.monoE H (fun o h10 _ x12 K => cont_I K (fun v11 H => ?_) (fun r HX => HX)))
  refine r_istore_n dX1_perform_15 rfl (Nat.le_of_ble_eq_true rfl) rfl (slS sl0) ?_
  refine r_aload_n dX1_perform_16 rfl rfl ?_
  refine r_iconst dX1_perform_17 rfl ?_
  replace H := H _ rfl
  refine r_putF fw_X1_447_1 (by decide) dX1_perform_18 (x12.kd k9 (by decide)) (by decide) rfl rfl ?_
  refine r_iload_n dX1_perform_21 rfl rfl ?_
  exact r_iret dX1_perform_22 rfl H
theorem c_X1_perform_0 {g : PG} {d : Nat} {l0 : Nat} {h : PH} {Q : Out → PH → Prop} (H : w_X1_perform_0 g d l0 h Q) : C g (d + 1) m_X1_perform [.ref l0] h Q := C_of_R rfl rfl (Nat.le_of_ble_eq_true rfl) rfl (v_X1_perform_0 H)
abbrev w_X1_carryOutAll_20 (g : PG) (d : Nat) (l0 : Nat) (l2 : Nat) (l3 : Int32) (l4 : Nat) (h : PH) (Q : Out → PH → Prop) : Prop := hkd h l4 = 25 ∧ C g d m_J41_hasNext [.ref l4] h (oI (fun v3 h2 => ((v3 = 0) → hkd h2 l0 = 1 ∧ C g d m_X1_change [.ref l0, .ref l2] h2 (oV (fun h7 => Q (.inl (some (.int l3))) h7) (fun r hx => Q (.inr r) hx))) ∧ ((¬ v3 = 0) → C g d m_J41_next [.ref l4] h2 (oR (fun v11 h10 => (v11 = 0 ∨ hkd h10 v11 = 6) ∧ hkd h10 v11 = 6 ∧ C g d m_X5_carryOutAs [.ref v11, .int l3, .ref l2] h10 (oV (fun h15 => R g d m_X1_carryOutAll 20 [.ref l0, .null, .ref l2, .int (l3 + 1), .ref l4, .null] [] h15 Q) (fun r hx => Q (.inr r) hx))) (fun r hx => Q (.inr r) hx)))) (fun r hx => Q (.inr r) hx))
theorem v_X1_carryOutAll_20 {g : PG} {d : Nat} {l0 : Nat} {l2 : Nat} {l3 : Int32} {l4 : Nat} {h : PH} {Q : Out → PH → Prop} (H : w_X1_carryOutAll_20 g d l0 l2 l3 l4 h Q) : R g d m_X1_carryOutAll 20 [.ref l0, .null, .ref l2, .int l3, .ref l4, .null] [] h Q := by
  refine r_aload dX1_carryOutAll_20 rfl ?_
  obtain ⟨k1, H⟩ := H
  refine r_invF (y := m_J41_hasNext) (Cn := "java/util/LinkedList$ListItr") (x := ⟨"java/util/Iterator", "hasNext", "()Z"⟩) dX1_carryOutAll_22 rfl (lw_F q1577 q934 q936 q157 q938) fw_t3 (n := 0) (by decide +kernel) (Nat.le_of_ble_eq_true rfl) (args := []) rfl rfl (Nat.le_of_ble_eq_true rfl) k1 (by decide) rfl (C.monoE H (fun o h2 _ x4 K => cont_I K (fun v3 H => ?_) (fun r HX => XR_nc rfl HX)))
  refine r_if_eq (tgt := 55) dX1_carryOutAll_27 rfl (fun b5 => ?_) (fun b5 => ?_)
  · replace H := H.1 b5
    refine r_aload_n dX1_carryOutAll_55 rfl rfl ?_
    refine r_aload_n dX1_carryOutAll_56 rfl rfl ?_
    obtain ⟨k6, H⟩ := H
    refine r_invV (y := m_X1_change) dX1_carryOutAll_57 rfl (lw_V q2573 q2575 qp40 q107 q2576) py_X1_change (Nat.le_of_ble_eq_true rfl) (args := [_]) rfl rfl (Nat.le_of_ble_eq_true rfl) k6 (by decide) rfl (C.monoE H (fun o h7 _ x9 K => cont_V K (fun H => ?_) (fun r HX => XR_nc rfl HX)))
    refine r_iload_n dX1_carryOutAll_60 rfl rfl ?_
    exact r_iret dX1_carryOutAll_61 rfl H
  · replace H := H.2 b5
    refine r_aload dX1_carryOutAll_30 rfl ?_
    refine r_invF (y := m_J41_next) (Cn := "java/util/LinkedList$ListItr") (x := ⟨"java/util/Iterator", "next", "()Ljava/lang/Object;"⟩) dX1_carryOutAll_32 rfl (lw_F q1579 q1182 q1184 q157 q1186) fw_t8 (n := 0) (by decide +kernel) (Nat.le_of_ble_eq_true rfl) (args := []) rfl rfl (Nat.le_of_ble_eq_true rfl) (x4.kd k1 (by decide)) (by decide) rfl (C.monoE H (fun o h10 _ x12 K => cont_R K (fun v11 H => ?_) (fun r HX => XR_nc rfl HX)))
    obtain ⟨k13, H⟩ := H
    refine r_castO (kv := 6) dX1_carryOutAll_37 q2292 (by decide) (Or.inr rfl) k13 ?_
    refine r_astore dX1_carryOutAll_40 (Nat.le_of_ble_eq_true rfl) rfl (slS (slS (slS (slS (slS sl0))))) ?_
    refine r_aload dX1_carryOutAll_42 rfl ?_
    refine r_iload_n dX1_carryOutAll_44 rfl rfl ?_
    refine r_aload_n dX1_carryOutAll_45 rfl rfl ?_
    obtain ⟨k14, H⟩ := H
    refine r_invVW (y := m_X5_carryOutAs) dX1_carryOutAll_46 (fun h => by cases h) (lw_VW q3197 q3198 q3199 q129 q3200) py_X5_carryOutAs (Nat.le_of_ble_eq_true rfl) (args := [_, _]) rfl rfl (Nat.le_of_ble_eq_true rfl) k14 (by decide) rfl (C.monoE H (fun o h15 _ x17 K => cont_V K (fun H => ?_) (fun r HX => XR_nc rfl HX)))
    refine r_iinc dX1_carryOutAll_49 rfl rfl (Nat.le_of_ble_eq_true rfl) rfl (slS (slS (slS sl0))) ?_
    refine r_goto (tgt := 20) dX1_carryOutAll_52 rfl ?_
    exact R.forget H ⟨Or.inl rfl, ⟨Or.inl rfl, ⟨Or.inl rfl, ⟨Or.inl rfl, ⟨Or.inl rfl, ⟨Or.inr rfl, trivial⟩⟩⟩⟩⟩⟩
abbrev w_X1_carryOutAll_0 (g : PG) (d : Nat) (l0 : Nat) (l1 : Nat) (h : PH) (Q : Out → PH → Prop) : Prop := ∀ h1, h1 = hnew 2 0 11 h → hkd h1 l0 = 1 ∧ 0 < (hnx h) ∧ C g d m_X2_init_2 [.ref (hnx h), .ref (hG h1 500 l0)] h1 (oV (fun h4 => hkd h4 l1 = 23 ∧ C g d m_J5_iterator [.ref l1] h4 (oR (fun v9 h8 => R g d m_X1_carryOutAll 20 [.ref l0, .null, .ref (hnx h), .int 0, .ref v9, .null] [] h8 Q) (fun r hx => Q (.inr r) hx))) (fun r hx => Q (.inr r) hx))
theorem v_X1_carryOutAll_0 {g : PG} {d : Nat} {l0 : Nat} {l1 : Nat} {h : PH} {Q : Out → PH → Prop} (H : w_X1_carryOutAll_0 g d l0 l1 h Q) : R g d m_X1_carryOutAll 0 [.ref l0, .ref l1, .null, .null, .null, .null] [] h Q := by
  replace H := H _ rfl
  refine r_new (ci := 2) dX1_carryOutAll_0 rfl (by decide) q184 q185 q108 ?_
  refine r_dup dX1_carryOutAll_3 rfl ?_
  refine r_aload_n dX1_carryOutAll_4 rfl rfl ?_
  obtain ⟨k2, H⟩ := H
  refine r_getG fr_X1_37_1 (by decide) dX1_carryOutAll_5 k2 (by decide) ?_
  obtain ⟨k3, H⟩ := H
  refine r_invI (y := m_X2_init_2) dX1_carryOutAll_8 rfl rfl q2066 q108 q2064 q2065 rfl py_X2_init_2 (Nat.le_of_ble_eq_true rfl) (args := [_]) rfl rfl (Nat.le_of_ble_eq_true rfl) k3 (C.monoE H (fun o h4 _ x6 K => cont_V K (fun H => ?_) (fun r HX => XR_nc rfl HX)))
  refine r_astore_n dX1_carryOutAll_11 rfl (Nat.le_of_ble_eq_true rfl) rfl (slS (slS sl0)) ?_
  refine r_iconst dX1_carryOutAll_12 rfl ?_
  refine r_istore_n dX1_carryOutAll_13 rfl (Nat.le_of_ble_eq_true rfl) rfl (slS (slS (slS sl0))) ?_
  refine r_aload_n dX1_carryOutAll_14 rfl rfl ?_
  obtain ⟨k7, H⟩ := H
  refine r_invU (y := m_J5_iterator) (owner := "java/util/AbstractSequentialList") (Cn := "java/util/LinkedList") (x := ⟨"java/util/LinkedList", "iterator", "()Ljava/util/Iterator;"⟩) dX1_carryOutAll_15 (n := 0) ⟨rfl, by decide +kernel, by decide, by decide, Or.inl ⟨lw_U q3193 q3194 q3196 q1808 q114 q1810, Or.inl rfl⟩⟩ (Nat.le_of_ble_eq_true rfl) (args := []) rfl rfl (Nat.le_of_ble_eq_true rfl) k7 (by decide) rfl (C.monoE H (fun o h8 _ x10 K => cont_R K (fun v9 H => ?_) (fun r HX => XR_nc rfl HX)))
  refine r_astore dX1_carryOutAll_18 (Nat.le_of_ble_eq_true rfl) rfl (slS (slS (slS (slS sl0)))) ?_
  exact R.forget H ⟨Or.inl rfl, ⟨Or.inr rfl, ⟨Or.inl rfl, ⟨Or.inl rfl, ⟨Or.inl rfl, ⟨Or.inl rfl, trivial⟩⟩⟩⟩⟩⟩
theorem c_X1_carryOutAll_0 {g : PG} {d : Nat} {l0 : Nat} {l1 : Nat} {h : PH} {Q : Out → PH → Prop} (H : w_X1_carryOutAll_0 g d l0 l1 h Q) : C g (d + 1) m_X1_carryOutAll [.ref l0, .ref l1] h Q := C_of_R rfl rfl (Nat.le_of_ble_eq_true rfl) rfl (v_X1_carryOutAll_0 H)
abbrev w_X1_undo_15 (g : PG) (d : Nat) (l0 : Nat) (s0 : Int32) (h : PH) (Q : Out → PH → Prop) : Prop := C g d m_X1_checkState [.int s0] h (oV (fun h1 => hkd h1 l0 = 1 ∧ hkd h1 (hG h1 502 l0) = 26 ∧ C g d m_J7_removeLast [.ref (hG h1 502 l0)] h1 (oR (fun v7 h6 => (v7 = 0 ∨ hkd h6 v7 = 2) ∧ ∀ h10, h10 = setG 500 l0 v7 h6 → hkd h10 (hG h10 502 l0) = 26 ∧ C g d m_J7_size [.ref (hG h10 502 l0)] h10 (oI (fun v13 h12 => Q (.inl (some (.int v13))) h12) (fun r hx => Q (.inr r) hx))) (fun r hx => Q (.inr r) hx))) (fun r hx => Q (.inr r) hx))
theorem v_X1_undo_15 {g : PG} {d : Nat} {l0 : Nat} {s0 : Int32} {h : PH} {Q : Out → PH → Prop} (H : w_X1_undo_15 g d l0 s0 h Q) : R g d m_X1_undo 15 [.ref l0] [.int s0] h Q := by
  refine r_invS (y := m_X1_checkState) dX1_undo_15 rfl (lw_S q3035 q3036 q107 q3037) py_X1_checkState (Nat.le_of_ble_eq_true rfl) (args := [_]) rfl rfl (Nat.le_of_ble_eq_true rfl) (C.monoE H (fun o h1 _ x3 K => cont_V K (fun H => ?_) (fun r HX => XR_nc rfl HX)))
  refine r_aload_n dX1_undo_18 rfl rfl ?_
  refine r_aload_n dX1_undo_19 rfl rfl ?_
  obtain ⟨k4, H⟩ := H
  refine r_getG fr_X1_44_1 (by decide) dX1_undo_20 k4 (by decide) ?_
  obtain ⟨k5, H⟩ := H
  refine r_invV (y := m_J7_removeLast) dX1_undo_23 rfl (lw_V q3215 q3216 q3217 q117 q3218) py_J7_removeLast (Nat.le_of_ble_eq_true rfl) (args := []) rfl rfl (Nat.le_of_ble_eq_true rfl) k5 (by decide) rfl (C.monoE H (fun o h6 _ x8 K => cont_R K (fun v7 H => ?_) (fun r HX => XR_nc rfl HX)))
  obtain ⟨k9, H⟩ := H
  refine r_castO (kv := 2) dX1_undo_26 q184 (by decide) (Or.inr rfl) k9 ?_
  replace H := H _ rfl
  refine r_putG fw_X1_37_1 (by decide) dX1_undo_29 (x8.kd k4 (by decide)) (by decide) rfl ?_
  refine r_aload_n dX1_undo_32 rfl rfl ?_
  refine r_getG fr_X1_44_1 (by decide) dX1_undo_33 (x8.kd k4 (by decide)) (by decide) ?_
  obtain ⟨k11, H⟩ := H
  refine r_invV (y := m_J7_size) dX1_undo_36 rfl (lw_V q2577 q1782 q1783 q117 q1784) py_J7_size (Nat.le_of_ble_eq_true rfl) (args := []) rfl rfl (Nat.le_of_ble_eq_true rfl) k11 (by decide) rfl (C.monoE H (fun o h12 _ x14 K => cont_I K (fun v13 H => ?_) (fun r HX => XR_nc rfl HX)))
  exact r_iret dX1_undo_39 rfl H
abbrev w_X1_undo_0 (g : PG) (d : Nat) (l0 : Nat) (h : PH) (Q : Out → PH → Prop) : Prop := hkd h l0 = 1 ∧ hkd h (hG h 502 l0) = 26 ∧ C g d m_J7_isEmpty [.ref (hG h 502 l0)] h (oI (fun v4 h3 => ((¬ v4 = 0) → w_X1_undo_15 g d l0 (0 : Int32) h3 Q) ∧ ((v4 = 0) → w_X1_undo_15 g d l0 (1 : Int32) h3 Q)) (fun r hx => Q (.inr r) hx))
theorem v_X1_undo_0 {g : PG} {d : Nat} {l0 : Nat} {h : PH} {Q : Out → PH → Prop} (H : w_X1_undo_0 g d l0 h Q) : R g d m_X1_undo 0 [.ref l0] [] h Q := by
  refine r_aload_n dX1_undo_0 rfl rfl ?_
  obtain ⟨k1, H⟩ := H
  refine r_getG fr_X1_44_1 (by decide) dX1_undo_1 k1 (by decide) ?_
  obtain ⟨k2, H⟩ := H
  refine r_invV (y := m_J7_isEmpty) dX1_undo_4 rfl (lw_V q3214 q946 q947 q117 q948) py_J7_isEmpty (Nat.le_of_ble_eq_true rfl) (args := []) rfl rfl (Nat.le_of_ble_eq_true rfl) k2 (by decide) rfl (C.monoE H (fun o h3 _ x5 K => cont_I K (fun v4 H => ?_) (fun r HX => XR_nc rfl HX)))
  refine r_if_ne (tgt := 14) dX1_undo_7 rfl (fun b6 => ?_) (fun b6 => ?_)
  · replace H := H.1 b6
    refine r_iconst dX1_undo_14 rfl ?_
    exact v_X1_undo_15 H
  · replace H := H.2 b6
    refine r_iconst dX1_undo_10 rfl ?_
    refine r_goto (tgt := 15) dX1_undo_11 rfl ?_
    exact v_X1_undo_15 H
theorem c_X1_undo_0 {g : PG} {d : Nat} {l0 : Nat} {h : PH} {Q : Out → PH → Prop} (H : w_X1_undo_0 g d l0 h Q) : C g (d + 1) m_X1_undo [.ref l0] h Q := C_of_R rfl rfl (Nat.le_of_ble_eq_true rfl) rfl (v_X1_undo_0 H)
abbrev w_X1_restore_12 (g : PG) (d : Nat) (l0 : Nat) (s0 : Int32) (h : PH) (Q : Out → PH → Prop) : Prop := C g d m_X1_checkState [.int s0] h (oV (fun h1 => ∀ h4, h4 = hnew 2 0 11 h1 → hkd h4 l0 = 1 ∧ 0 < (hnx h1) ∧ C g d m_X2_init_2 [.ref (hnx h1), .ref (hG h4 501 l0)] h4 (oV (fun h7 => ∀ h10, h10 = setG 500 l0 (hnx h1) h7 → hkd h10 (hG h10 502 l0) = 26 ∧ C g d m_J7_clear [.ref (hG h10 502 l0)] h10 (oV (fun h12 => hkd h12 (hG h12 500 l0) = 2 ∧ hkd h12 (hG h12 507 (hG h12 500 l0)) = 13 ∧ C g d m_J2_size [.ref (hG h12 507 (hG h12 500 l0))] h12 (oI (fun v18 h17 => Q (.inl (some (.int v18))) h17) (fun r hx => Q (.inr r) hx))) (fun r hx => Q (.inr r) hx))) (fun r hx => Q (.inr r) hx))) (fun r hx => Q (.inr r) hx))
theorem v_X1_restore_12 {g : PG} {d : Nat} {l0 : Nat} {s0 : Int32} {h : PH} {Q : Out → PH → Prop} (H : w_X1_restore_12 g d l0 s0 h Q) : R g d m_X1_restore 12 [.ref l0] [.int s0] h Q := by
  refine r_invS (y := m_X1_checkState) dX1_restore_12 rfl (lw_S q3035 q3036 q107 q3037) py_X1_checkState (Nat.le_of_ble_eq_true rfl) (args := [_]) rfl rfl (Nat.le_of_ble_eq_true rfl) (C.monoE H (fun o h1 _ x3 K => cont_V K (fun H => ?_) (fun r HX => XR_nc rfl HX)))
  refine r_aload_n dX1_restore_15 rfl rfl ?_
  replace H := H _ rfl
  refine r_new (ci := 2) dX1_restore_16 rfl (by decide) q184 q185 q108 ?_
  refine r_dup dX1_restore_19 rfl ?_
  refine r_aload_n dX1_restore_20 rfl rfl ?_
  obtain ⟨k5, H⟩ := H
  refine r_getG fr_X1_478_1 (by decide) dX1_restore_21 k5 (by decide) ?_
  obtain ⟨k6, H⟩ := H
  refine r_invI (y := m_X2_init_2) dX1_restore_24 rfl rfl q2066 q108 q2064 q2065 rfl py_X2_init_2 (Nat.le_of_ble_eq_true rfl) (args := [_]) rfl rfl (Nat.le_of_ble_eq_true rfl) k6 (C.monoE H (fun o h7 _ x9 K => cont_V K (fun H => ?_) (fun r HX => XR_nc rfl HX)))
  replace H := H _ rfl
  refine r_putG fw_X1_37_1 (by decide) dX1_restore_27 (x9.kd k5 (by decide)) (by decide) rfl ?_
  refine r_aload_n dX1_restore_30 rfl rfl ?_
  refine r_getG fr_X1_44_1 (by decide) dX1_restore_31 (x9.kd k5 (by decide)) (by decide) ?_
  obtain ⟨k11, H⟩ := H
  refine r_invV (y := m_J7_clear) dX1_restore_34 rfl (lw_V q3233 q3234 q3235 q117 q3236) py_J7_clear (Nat.le_of_ble_eq_true rfl) (args := []) rfl rfl (Nat.le_of_ble_eq_true rfl) k11 (by decide) rfl (C.monoE H (fun o h12 _ x14 K => cont_V K (fun H => ?_) (fun r HX => XR_nc rfl HX)))
  refine r_aload_n dX1_restore_37 rfl rfl ?_
  refine r_getG fr_X1_37_1 (by decide) dX1_restore_38 (x14.kd (x9.kd k5 (by decide)) (by decide)) (by decide) ?_
  obtain ⟨k15, H⟩ := H
  refine r_getG fr_X1_115_2 (by decide) dX1_restore_41 k15 (by decide) ?_
  obtain ⟨k16, H⟩ := H
  refine r_invV (y := m_J2_size) dX1_restore_44 rfl (lw_V q1594 q913 q3681 q111 q914) py_J2_size (Nat.le_of_ble_eq_true rfl) (args := []) rfl rfl (Nat.le_of_ble_eq_true rfl) k16 (by decide) rfl (C.monoE H (fun o h17 _ x19 K => cont_I K (fun v18 H => ?_) (fun r HX => XR_nc rfl HX)))
  exact r_iret dX1_restore_47 rfl H
abbrev w_X1_restore_0 (g : PG) (d : Nat) (l0 : Nat) (h : PH) (Q : Out → PH → Prop) : Prop := hkd h l0 = 1 ∧ (((hG h 501 l0) = 0) → w_X1_restore_12 g d l0 (0 : Int32) h Q) ∧ ((¬ (hG h 501 l0) = 0) → w_X1_restore_12 g d l0 (1 : Int32) h Q)
theorem v_X1_restore_0 {g : PG} {d : Nat} {l0 : Nat} {h : PH} {Q : Out → PH → Prop} (H : w_X1_restore_0 g d l0 h Q) : R g d m_X1_restore 0 [.ref l0] [] h Q := by
  refine r_aload_n dX1_restore_0 rfl rfl ?_
  obtain ⟨k1, H⟩ := H
  refine r_getG fr_X1_478_1 (by decide) dX1_restore_1 k1 (by decide) ?_
  refine r_ifnull (tgt := 11) dX1_restore_4 rfl (fun b2 => ?_) (fun b2 => ?_)
  · replace H := H.1 b2
    refine r_iconst dX1_restore_11 rfl ?_
    exact v_X1_restore_12 H
  · replace H := H.2 b2
    refine r_iconst dX1_restore_7 rfl ?_
    refine r_goto (tgt := 12) dX1_restore_8 rfl ?_
    exact v_X1_restore_12 H
theorem c_X1_restore_0 {g : PG} {d : Nat} {l0 : Nat} {h : PH} {Q : Out → PH → Prop} (H : w_X1_restore_0 g d l0 h Q) : C g (d + 1) m_X1_restore [.ref l0] h Q := C_of_R rfl rfl (Nat.le_of_ble_eq_true rfl) rfl (v_X1_restore_0 H)
abbrev w_X10_compare_0 (g : PG) (d : Nat) (l0 : Nat) (l1 : Nat) (l2 : Nat) (h : PH) (Q : Out → PH → Prop) : Prop := (l1 = 0 ∨ hkd h l1 = 4) ∧ (l2 = 0 ∨ hkd h l2 = 4) ∧ hkd h l0 = 11 ∧ C g d m_X10_compare_2 [.ref l0, .ref l1, .ref l2] h (oI (fun v5 h4 => Q (.inl (some (.int v5))) h4) (fun r hx => Q (.inr r) hx))
theorem v_X10_compare_0 {g : PG} {d : Nat} {l0 : Nat} {l1 : Nat} {l2 : Nat} {h : PH} {Q : Out → PH → Prop} (H : w_X10_compare_0 g d l0 l1 l2 h Q) : R g d m_X10_compare 0 [.ref l0, .ref l1, .ref l2] [] h Q := by
  refine r_aload_n dX10_compare_0 rfl rfl ?_
  refine r_aload_n dX10_compare_1 rfl rfl ?_
  obtain ⟨k1, H⟩ := H
  refine r_castO (kv := 4) dX10_compare_2 q1329 (by decide) (Or.inr rfl) k1 ?_
  refine r_aload_n dX10_compare_5 rfl rfl ?_
  obtain ⟨k2, H⟩ := H
  refine r_castO (kv := 4) dX10_compare_6 q1329 (by decide) (Or.inr rfl) k2 ?_
  obtain ⟨k3, H⟩ := H
  refine r_invV (y := m_X10_compare_2) dX10_compare_9 rfl (lw_V q1330 q1331 q1332 q170 q1333) py_X10_compare_2 (Nat.le_of_ble_eq_true rfl) (args := [_, _]) rfl rfl (Nat.le_of_ble_eq_true rfl) k3 (by decide) rfl (C.monoE H (fun o h4 _ x6 K => cont_I K (fun v5 H => ?_) (fun r HX => XR_nc rfl HX)))
  exact r_iret dX10_compare_12 rfl H
theorem c_X10_compare_0 {g : PG} {d : Nat} {l0 : Nat} {l1 : Nat} {l2 : Nat} {h : PH} {Q : Out → PH → Prop} (H : w_X10_compare_0 g d l0 l1 l2 h Q) : C g (d + 1) m_X10_compare [.ref l0, .ref l1, .ref l2] h Q := C_of_R rfl rfl (Nat.le_of_ble_eq_true rfl) rfl (v_X10_compare_0 H)
abbrev w_X10_compare_2_0 (g : PG) (d : Nat) (l0 : Nat) (l1 : Nat) (l2 : Nat) (h : PH) (Q : Out → PH → Prop) : Prop := hkd h l2 = 4 ∧ hkd h l1 = 4 ∧ C g d m_J26_compare [.int (hF h 10 l2), .int (hF h 10 l1)] h (oI (fun v4 h3 => C g d m_J26_compare [.int (hF h3 9 l2), .int (hF h3 9 l1)] h3 (oI (fun v7 h6 => ((v4 = 0) → ((v7 = 0) → C g d m_J26_compare [.int (hF h6 7 l1), .int (hF h6 7 l2)] h6 (oI (fun v12 h11 => Q (.inl (some (.int v12))) h11) (fun r hx => Q (.inr r) hx))) ∧ ((¬ v7 = 0) → Q (.inl (some (.int v7))) h6)) ∧ ((¬ v4 = 0) → Q (.inl (some (.int v4))) h6)) (fun r hx => Q (.inr r) hx))) (fun r hx => Q (.inr r) hx))
theorem v_X10_compare_2_0 {g : PG} {d : Nat} {l0 : Nat} {l1 : Nat} {l2 : Nat} {h : PH} {Q : Out → PH → Prop} (H : w_X10_compare_2_0 g d l0 l1 l2 h Q) : R g d m_X10_compare_2 0 [.ref l0, .ref l1, .ref l2, .null, .null] [] h Q := by
  refine r_aload_n dX10_compare_2_0 rfl rfl ?_
  obtain ⟨k1, H⟩ := H
  refine r_getF fr_X10_7_4 (by decide) dX10_compare_2_1 k1 (by decide) ?_
  refine r_aload_n dX10_compare_2_4 rfl rfl ?_
  obtain ⟨k2, H⟩ := H
  refine r_getF fr_X10_7_4 (by decide) dX10_compare_2_5 k2 (by decide) ?_
  refine r_invS (y := m_J26_compare) dX10_compare_2_8 rfl (lw_S q1334 q1320 q139 q1321) py_J26_compare (Nat.le_of_ble_eq_true rfl) (args := [_, _]) rfl rfl (Nat.le_of_ble_eq_true rfl) (C.monoE H (fun o h3 _ x5 K => cont_I K (fun v4 H => ?_) (fun r HX => XR_nc rfl HX)))
  refine r_istore_n dX10_compare_2_11 rfl (Nat.le_of_ble_eq_true rfl) rfl (slS (slS (slS sl0))) ?_
  refine r_aload_n dX10_compare_2_12 rfl rfl ?_
  refine r_getF fr_X10_19_4 (by decide) dX10_compare_2_13 (x5.kd k1 (by decide)) (by decide) ?_
  refine r_aload_n dX10_compare_2_16 rfl rfl ?_
  refine r_getF fr_X10_19_4 (by decide) dX10_compare_2_17 (x5.kd k2 (by decide)) (by decide) ?_
  refine r_invS (y := m_J26_compare) dX10_compare_2_20 rfl (lw_S q1334 q1320 q139 q1321) py_J26_compare (Nat.le_of_ble_eq_true rfl) (args := [_, _]) rfl rfl (Nat.le_of_ble_eq_true rfl) (C.monoE H (fun o h6 _ x8 K => cont_I K (fun v7 H => ?_) (fun r HX => XR_nc rfl HX)))
  refine r_istore dX10_compare_2_23 (Nat.le_of_ble_eq_true rfl) rfl (slS (slS (slS (slS sl0)))) ?_
  refine r_iload_n dX10_compare_2_25 rfl rfl ?_
  refine r_if_eq (tgt := 33) dX10_compare_2_26 rfl (fun b9 => ?_) (fun b9 => ?_)
  · replace H := H.1 b9
    refine r_iload dX10_compare_2_33 rfl ?_
    refine r_if_eq (tgt := 43) dX10_compare_2_35 rfl (fun b10 => ?_) (fun b10 => ?_)
    · replace H := H.1 b10
      refine r_aload_n dX10_compare_2_43 rfl rfl ?_
      refine r_getF fr_X10_22_4 (by decide) dX10_compare_2_44 (x8.kd (x5.kd k2 (by decide)) (by decide)) (by decide) ?_
      refine r_aload_n dX10_compare_2_47 rfl rfl ?_
      refine r_getF fr_X10_22_4 (by decide) dX10_compare_2_48 (x8.kd (x5.kd k1 (by decide)) (by decide)) (by decide) ?_
      refine r_invS (y := m_J26_compare) dX10_compare_2_51 rfl (lw_S q1334 q1320 q139 q1321) py_J26_compare (Nat.le_of_ble_eq_true rfl) (args := [_, _]) rfl rfl (Nat.le_of_ble_eq_true rfl) (C.monoE H (fun o h11 _ x13 K => cont_I K (fun v12 H => ?_) (fun r HX => XR_nc rfl HX)))
      exact r_iret dX10_compare_2_54 rfl H
    · replace H := H.2 b10
      refine r_iload dX10_compare_2_38 rfl ?_
      refine r_goto (tgt := 54) dX10_compare_2_40 rfl ?_
      exact r_iret dX10_compare_2_54 rfl H
  · replace H := H.2 b9
    refine r_iload_n dX10_compare_2_29 rfl rfl ?_
    refine r_goto (tgt := 54) dX10_compare_2_30 rfl ?_
    exact r_iret dX10_compare_2_54 rfl H
theorem c_X10_compare_2_0 {g : PG} {d : Nat} {l0 : Nat} {l1 : Nat} {l2 : Nat} {h : PH} {Q : Out → PH → Prop} (H : w_X10_compare_2_0 g d l0 l1 l2 h Q) : C g (d + 1) m_X10_compare_2 [.ref l0, .ref l1, .ref l2] h Q := C_of_R rfl rfl (Nat.le_of_ble_eq_true rfl) rfl (v_X10_compare_2_0 H)
abbrev w_X10_init_0 (g : PG) (d : Nat) (l0 : Nat) (h : PH) (Q : Out → PH → Prop) : Prop := 0 < l0 ∧ Q (.inl none) h
theorem v_X10_init_0 {g : PG} {d : Nat} {l0 : Nat} {h : PH} {Q : Out → PH → Prop} (H : w_X10_init_0 g d l0 h Q) : R g d m_X10_init 0 [.ref l0] [] h Q := by
  refine r_aload_n dX10_init_0 rfl rfl ?_
  obtain ⟨k1, H⟩ := H
  refine r_oinit dX10_init_1 q2862 q182 q183 k1 (Nat.le_of_ble_eq_true rfl) ?_
  exact r_vret dX10_init_4 rfl H
theorem c_X10_init_0 {g : PG} {d : Nat} {l0 : Nat} {h : PH} {Q : Out → PH → Prop} (H : w_X10_init_0 g d l0 h Q) : C g (d + 1) m_X10_init [.ref l0] h Q := C_of_R rfl rfl (Nat.le_of_ble_eq_true rfl) rfl (v_X10_init_0 H)
abbrev w_X11_init_0 (g : PG) (d : Nat) (l0 : Nat) (l1 : Nat) (h : PH) (Q : Out → PH → Prop) : Prop := hkd h l0 = 9 ∧ ∀ h2, h2 = setG 519 l0 l1 h → 0 < l0 ∧ Q (.inl none) h2
theorem v_X11_init_0 {g : PG} {d : Nat} {l0 : Nat} {l1 : Nat} {h : PH} {Q : Out → PH → Prop} (H : w_X11_init_0 g d l0 l1 h Q) : R g d m_X11_init 0 [.ref l0, .ref l1] [] h Q := by
  refine r_aload_n dX11_init_0 rfl rfl ?_
  refine r_aload_n dX11_init_1 rfl rfl ?_
  obtain ⟨k1, H⟩ := H
  replace H := H _ rfl
  refine r_putG fw_X11_3_9_i (by decide) dX11_init_2 k1 (by decide) rfl ?_
  refine r_aload_n dX11_init_5 rfl rfl ?_
  obtain ⟨k3, H⟩ := H
  refine r_oinit dX11_init_6 q3056 q182 q183 k3 (Nat.le_of_ble_eq_true rfl) ?_
  exact r_vret dX11_init_9 rfl H
theorem c_X11_init_0 {g : PG} {d : Nat} {l0 : Nat} {l1 : Nat} {h : PH} {Q : Out → PH → Prop} (H : w_X11_init_0 g d l0 l1 h Q) : C g (d + 1) m_X11_init [.ref l0, .ref l1] h Q := C_of_R rfl rfl (Nat.le_of_ble_eq_true rfl) rfl (v_X11_init_0 H)
abbrev w_X11_all_56 (g : PG) (d : Nat) (l1 : Nat) (s0 : Nat) (s1 : Int32) (h : PH) (Q : Out → PH → Prop) : Prop := hkd h s0 = 9 ∧ C g d m_X11_need [.ref s0, .int s1] h (oV (fun h2 => Q (.inl (some (.ref l1))) h2) (fun r hx => Q (.inr r) hx))
theorem v_X11_all_56 {g : PG} {d : Nat} {l1 : Nat} {s0 : Nat} {s1 : Int32} {h : PH} {Q : Out → PH → Prop} (H : w_X11_all_56 g d l1 s0 s1 h Q) : R g d m_X11_all 56 [.null, .ref l1] [.int s1, .ref s0] h Q := by
  obtain ⟨k1, H⟩ := H
  refine r_invV (y := m_X11_need) dX11_all_56 rfl (lw_V q3093 q3095 qp55 q173 q3096) py_X11_need (Nat.le_of_ble_eq_true rfl) (args := [_]) rfl rfl (Nat.le_of_ble_eq_true rfl) k1 (by decide) rfl (C.monoE H (fun o h2 _ x4 K => cont_V K (fun H => ?_) (fun r HX => XR_nc rfl HX)))
  refine r_aload_n dX11_all_59 rfl rfl ?_
  exact r_aret dX11_all_60 rfl H
abbrev w_X11_all_16 (g : PG) (d : Nat) (l0 : Nat) (l1 : Nat) (h : PH) (Q : Out → PH → Prop) : Prop := hkd h l0 = 9 ∧ C g d m_X11_takes [.ref l0, .int 59] h (oI (fun v3 h2 => ((v3 = 0) → hkd h2 (hG h2 519 l0) = 1 ∧ ((¬ (hF h2 26 l0) = (hF h2 0 (hG h2 519 l0))) → w_X11_all_56 g d l1 l0 (0 : Int32) h2 Q) ∧ (((hF h2 26 l0) = (hF h2 0 (hG h2 519 l0))) → w_X11_all_56 g d l1 l0 (1 : Int32) h2 Q)) ∧ ((¬ v3 = 0) → C g d m_X11_command [.ref l0] h2 (oR (fun v9 h8 => hkd h8 l1 = 23 ∧ C g d m_J6_addLast [.ref l1, .ref v9] h8 (oV (fun h12 => R g d m_X11_all 16 [.ref l0, .ref l1] [] h12 Q) (fun r hx => Q (.inr r) hx))) (fun r hx => Q (.inr r) hx)))) (fun r hx => Q (.inr r) hx))
theorem v_X11_all_16 {g : PG} {d : Nat} {l0 : Nat} {l1 : Nat} {h : PH} {Q : Out → PH → Prop} (H : w_X11_all_16 g d l0 l1 h Q) : R g d m_X11_all 16 [.ref l0, .ref l1] [] h Q := by
  refine r_aload_n dX11_all_16 rfl rfl ?_
  refine r_bipush dX11_all_17 rfl ?_
  obtain ⟨k1, H⟩ := H
  refine r_invV (y := m_X11_takes) dX11_all_19 rfl (lw_V q3142 q3144 qp57 q173 q3145) py_X11_takes (Nat.le_of_ble_eq_true rfl) (args := [_]) rfl rfl (Nat.le_of_ble_eq_true rfl) k1 (by decide) rfl (C.monoE H (fun o h2 _ x4 K => cont_I K (fun v3 H => ?_) (fun r HX => XR_nc rfl HX)))
  refine r_if_eq (tgt := 36) dX11_all_22 rfl (fun b5 => ?_) (fun b5 => ?_)
  · replace H := H.1 b5
    refine r_aload_n dX11_all_36 rfl rfl ?_
    refine r_aload_n dX11_all_37 rfl rfl ?_
    refine r_getF fr_X11_17_9 (by decide) dX11_all_38 (x4.kd k1 (by decide)) (by decide) ?_
    refine r_aload_n dX11_all_41 rfl rfl ?_
    refine r_getG fr_X11_3_9 (by decide) dX11_all_42 (x4.kd k1 (by decide)) (by decide) ?_
    obtain ⟨k6, H⟩ := H
    refine r_getF fr_X11_24_1 (by decide) dX11_all_45 k6 (by decide) ?_
    refine r_icmp_ne (tgt := 55) dX11_all_48 rfl (fun b7 => ?_) (fun b7 => ?_)
    · replace H := H.1 b7
      refine r_iconst dX11_all_55 rfl ?_
      exact R.forget (v_X11_all_56 H) ⟨Or.inr rfl, ⟨Or.inl rfl, trivial⟩⟩
    · replace H := H.2 b7
      refine r_iconst dX11_all_51 rfl ?_
      refine r_goto (tgt := 56) dX11_all_52 rfl ?_
      exact R.forget (v_X11_all_56 H) ⟨Or.inr rfl, ⟨Or.inl rfl, trivial⟩⟩
  · replace H := H.2 b5
    refine r_aload_n dX11_all_25 rfl rfl ?_
    refine r_aload_n dX11_all_26 rfl rfl ?_
    refine r_invV (y := m_X11_command) dX11_all_27 rfl (lw_V q3070 q3072 qp52 q173 q3073) py_X11_command (Nat.le_of_ble_eq_true rfl) (args := []) rfl rfl (Nat.le_of_ble_eq_true rfl) (x4.kd k1 (by decide)) (by decide) rfl (C.monoE H (fun o h8 _ x10 K => cont_R K (fun v9 H => ?_) (fun r HX => XR_nc rfl HX)))
    obtain ⟨k11, H⟩ := H
    refine r_invV (y := m_J6_addLast) dX11_all_30 rfl (lw_V q3188 q1645 q1646 q115 q1647) py_J6_addLast (Nat.le_of_ble_eq_true rfl) (args := [_]) rfl rfl (Nat.le_of_ble_eq_true rfl) k11 (by decide) rfl (C.monoE H (fun o h12 _ x14 K => cont_V K (fun H => ?_) (fun r HX => XR_nc rfl HX)))
    refine r_goto (tgt := 16) dX11_all_33 rfl ?_
    exact H
abbrev w_X11_all_0 (g : PG) (d : Nat) (l0 : Nat) (h : PH) (Q : Out → PH → Prop) : Prop := ∀ h1, h1 = hnew 23 0 5 h → 0 < (hnx h) ∧ C g d m_J6_init [.ref (hnx h)] h1 (oV (fun h3 => hkd h3 l0 = 9 ∧ C g d m_X11_command [.ref l0] h3 (oR (fun v8 h7 => C g d m_J6_addLast [.ref (hnx h), .ref v8] h7 (oV (fun h10 => R g d m_X11_all 16 [.ref l0, .ref (hnx h)] [] h10 Q) (fun r hx => Q (.inr r) hx))) (fun r hx => Q (.inr r) hx))) (fun r hx => Q (.inr r) hx))
theorem v_X11_all_0 {g : PG} {d : Nat} {l0 : Nat} {h : PH} {Q : Out → PH → Prop} (H : w_X11_all_0 g d l0 h Q) : R g d m_X11_all 0 [.ref l0, .null] [] h Q := by
  replace H := H _ rfl
  refine r_new (ci := 23) dX11_all_0 rfl (by decide) q3068 q264 q115 ?_
  refine r_dup dX11_all_3 rfl ?_
  obtain ⟨k2, H⟩ := H
  refine r_invI (y := m_J6_init) dX11_all_4 rfl rfl q267 q115 q3069 q266 rfl py_J6_init (Nat.le_of_ble_eq_true rfl) (args := []) rfl rfl (Nat.le_of_ble_eq_true rfl) k2 (C.monoE H (fun o h3 _ x5 K => cont_V K (fun H => ?_) (fun r HX => XR_nc rfl HX)))
  refine r_astore_n dX11_all_7 rfl (Nat.le_of_ble_eq_true rfl) rfl (slS sl0) ?_
  refine r_aload_n dX11_all_8 rfl rfl ?_
  refine r_aload_n dX11_all_9 rfl rfl ?_
  obtain ⟨k6, H⟩ := H
  refine r_invV (y := m_X11_command) dX11_all_10 rfl (lw_V q3070 q3072 qp52 q173 q3073) py_X11_command (Nat.le_of_ble_eq_true rfl) (args := []) rfl rfl (Nat.le_of_ble_eq_true rfl) k6 (by decide) rfl (C.monoE H (fun o h7 _ x9 K => cont_R K (fun v8 H => ?_) (fun r HX => XR_nc rfl HX)))
  refine r_invV (y := m_J6_addLast) dX11_all_13 rfl (lw_V q3188 q1645 q1646 q115 q1647) py_J6_addLast (Nat.le_of_ble_eq_true rfl) (args := [_]) rfl rfl (Nat.le_of_ble_eq_true rfl) (x9.kd (x5.kd (kd_self _ _ _ _) (by decide)) (by decide)) (by decide) rfl (C.monoE H (fun o h10 _ x12 K => cont_V K (fun H => ?_) (fun r HX => XR_nc rfl HX)))
  exact H
theorem c_X11_all_0 {g : PG} {d : Nat} {l0 : Nat} {h : PH} {Q : Out → PH → Prop} (H : w_X11_all_0 g d l0 h Q) : C g (d + 1) m_X11_all [.ref l0] h Q := C_of_R rfl rfl (Nat.le_of_ble_eq_true rfl) rfl (v_X11_all_0 H)
abbrev w_X11_command_53 (g : PG) (d : Nat) (l0 : Nat) (l1 : Nat) (s0 : Int32) (h : PH) (Q : Out → PH → Prop) : Prop := ((s0 = 0) → hkd h l0 = 9 ∧ C g d m_X11_told [.ref l0, .ref l1] h (oR (fun v4 h3 => Q (.inl (some (.ref v4))) h3) (fun r hx => Q (.inr r) hx))) ∧ ((¬ s0 = 0) → ∀ h6, h6 = hnew 6 0 5 h → 0 < (hnx h) ∧ C g d m_X5_init_2 [.ref (hnx h), .ref l1, .int 1, .int 0] h6 (oV (fun h8 => Q (.inl (some (.ref (hnx h)))) h8) (fun r hx => Q (.inr r) hx)))
theorem v_X11_command_53 {g : PG} {d : Nat} {l0 : Nat} {l1 : Nat} {s0 : Int32} {h : PH} {Q : Out → PH → Prop} (H : w_X11_command_53 g d l0 l1 s0 h Q) : R g d m_X11_command 53 [.ref l0, .ref l1, .null] [.int s0] h Q := by
  refine r_istore_n dX11_command_53 rfl (Nat.le_of_ble_eq_true rfl) rfl (slS (slS sl0)) ?_
  refine r_iload_n dX11_command_54 rfl rfl ?_
  refine r_if_eq (tgt := 71) dX11_command_55 rfl (fun b1 => ?_) (fun b1 => ?_)
  · replace H := H.1 b1
    refine r_aload_n dX11_command_71 rfl rfl ?_
    refine r_aload_n dX11_command_72 rfl rfl ?_
    obtain ⟨k2, H⟩ := H
    refine r_invV (y := m_X11_told) dX11_command_73 rfl (lw_V q3149 q3151 qp58 q173 q3152) py_X11_told (Nat.le_of_ble_eq_true rfl) (args := [_]) rfl rfl (Nat.le_of_ble_eq_true rfl) k2 (by decide) rfl (C.monoE H (fun o h3 _ x5 K => cont_R K (fun v4 H => ?_) (fun r HX => XR_nc rfl HX)))
    exact r_aret dX11_command_76 rfl H
  · replace H := H.2 b1
    replace H := H _ rfl
    refine r_new (ci := 6) dX11_command_58 rfl (by decide) q3147 q2293 q129 ?_
    refine r_dup dX11_command_61 rfl ?_
    refine r_aload_n dX11_command_62 rfl rfl ?_
    refine r_iconst dX11_command_63 rfl ?_
    refine r_iconst dX11_command_64 rfl ?_
    obtain ⟨k7, H⟩ := H
    refine r_invI (y := m_X5_init_2) dX11_command_65 rfl rfl q2644 q129 q3148 q2643 rfl py_X5_init_2 (Nat.le_of_ble_eq_true rfl) (args := [_, _, _]) rfl rfl (Nat.le_of_ble_eq_true rfl) k7 (C.monoE H (fun o h8 _ x10 K => cont_V K (fun H => ?_) (fun r HX => XR_nc rfl HX)))
    refine r_goto (tgt := 76) dX11_command_68 rfl ?_
    exact r_aret dX11_command_76 rfl H
abbrev w_X11_command_52 (g : PG) (d : Nat) (l0 : Nat) (l1 : Nat) (h : PH) (Q : Out → PH → Prop) : Prop := w_X11_command_53 g d l0 l1 (0 : Int32) h Q
theorem v_X11_command_52 {g : PG} {d : Nat} {l0 : Nat} {l1 : Nat} {h : PH} {Q : Out → PH → Prop} (H : w_X11_command_52 g d l0 l1 h Q) : R g d m_X11_command 52 [.ref l0, .ref l1, .null] [] h Q := by
  refine r_iconst dX11_command_52 rfl ?_
  exact v_X11_command_53 H
abbrev w_X11_command_18 (g : PG) (d : Nat) (l0 : Nat) (l1 : Nat) (s0 : Nat) (s1 : Int32) (h : PH) (Q : Out → PH → Prop) : Prop := hkd h s0 = 9 ∧ C g d m_X11_need [.ref s0, .int s1] h (oV (fun h2 => hkd h2 l0 = 9 ∧ C g d m_X11_needAll [.ref l0, .ref l1] h2 (oV (fun h6 => ko h6 l1 29 ∧ C g d m_J10_equals [.ref l1, .ref (gSr g 35 + 1)] h6 (oI (fun v12 h11 => ((v12 = 0) → w_X11_command_52 g d l0 l1 h11 Q) ∧ ((¬ v12 = 0) → C g d m_X11_at [.ref l0, .int (hF h11 26 l0)] h11 (oI (fun v16 h15 => ((v16 = (32 : Int32)) → w_X11_command_52 g d l0 l1 h15 Q) ∧ ((¬ v16 = (32 : Int32)) → w_X11_command_53 g d l0 l1 (1 : Int32) h15 Q)) (fun r hx => Q (.inr r) hx)))) (fun r hx => Q (.inr r) hx))) (fun r hx => Q (.inr r) hx))) (fun r hx => Q (.inr r) hx))
theorem v_X11_command_18 {g : PG} {d : Nat} {l0 : Nat} {l1 : Nat} {s0 : Nat} {s1 : Int32} {h : PH} {Q : Out → PH → Prop} (H : w_X11_command_18 g d l0 l1 s0 s1 h Q) : R g d m_X11_command 18 [.ref l0, .ref l1, .null] [.int s1, .ref s0] h Q := by
  obtain ⟨k1, H⟩ := H
  refine r_invV (y := m_X11_need) dX11_command_18 rfl (lw_V q3093 q3095 qp55 q173 q3096) py_X11_need (Nat.le_of_ble_eq_true rfl) (args := [_]) rfl rfl (Nat.le_of_ble_eq_true rfl) k1 (by decide) rfl (C.monoE H (fun o h2 _ x4 K => cont_V K (fun H => ?_) (fun r HX => XR_nc rfl HX)))
  refine r_aload_n dX11_command_21 rfl rfl ?_
  refine r_aload_n dX11_command_22 rfl rfl ?_
  obtain ⟨k5, H⟩ := H
  refine r_invV (y := m_X11_needAll) dX11_command_23 rfl (lw_V q3116 q3118 qp56 q173 q3119) py_X11_needAll (Nat.le_of_ble_eq_true rfl) (args := [_]) rfl rfl (Nat.le_of_ble_eq_true rfl) k5 (by decide) rfl (C.monoE H (fun o h6 _ x8 K => cont_V K (fun H => ?_) (fun r HX => XR_nc rfl HX)))
  refine r_aload_n dX11_command_26 rfl rfl ?_
  refine r_ldcS (n := 35) dX11_command_27 rfl ?_
  obtain ⟨k9, H⟩ := H
  obtain ⟨_, k10, k10a, k10b⟩ := ko_use (by decide) k9
  refine r_invV (y := m_J10_equals) dX11_command_29 rfl (lw_V q3146 q2192 q3693 q120 q2193) py_J10_equals (Nat.le_of_ble_eq_true rfl) (args := [_]) rfl rfl (Nat.le_of_ble_eq_true rfl) k10 k10a (k10b.trans rfl) (C.monoE H (fun o h11 _ x13 K => cont_I K (fun v12 H => ?_) (fun r HX => XR_nc rfl HX)))
  refine r_if_eq (tgt := 52) dX11_command_32 rfl (fun b14 => ?_) (fun b14 => ?_)
  · replace H := H.1 b14
    exact v_X11_command_52 H
  · replace H := H.2 b14
    refine r_aload_n dX11_command_35 rfl rfl ?_
    refine r_aload_n dX11_command_36 rfl rfl ?_
    refine r_getF fr_X11_17_9 (by decide) dX11_command_37 (x13.kd (x8.kd k5 (by decide)) (by decide)) (by decide) ?_
    refine r_invV (y := m_X11_at) dX11_command_40 rfl (lw_V q3078 q3080 qp54 q173 q3081) py_X11_at (Nat.le_of_ble_eq_true rfl) (args := [_]) rfl rfl (Nat.le_of_ble_eq_true rfl) (x13.kd (x8.kd k5 (by decide)) (by decide)) (by decide) rfl (C.monoE H (fun o h15 _ x17 K => cont_I K (fun v16 H => ?_) (fun r HX => XR_nc rfl HX)))
    refine r_bipush dX11_command_43 rfl ?_
    refine r_icmp_eq (tgt := 52) dX11_command_45 rfl (fun b18 => ?_) (fun b18 => ?_)
    · replace H := H.1 b18
      exact v_X11_command_52 H
    · replace H := H.2 b18
      refine r_iconst dX11_command_48 rfl ?_
      refine r_goto (tgt := 53) dX11_command_49 rfl ?_
      exact v_X11_command_53 H
abbrev w_X11_command_0 (g : PG) (d : Nat) (l0 : Nat) (h : PH) (Q : Out → PH → Prop) : Prop := hkd h l0 = 9 ∧ C g d m_X11_word [.ref l0] h (oR (fun v3 h2 => ko h2 v3 29 ∧ C g d m_J10_isEmpty [.ref v3] h2 (oI (fun v8 h7 => ((¬ v8 = 0) → w_X11_command_18 g d l0 v3 l0 (0 : Int32) h7 Q) ∧ ((v8 = 0) → w_X11_command_18 g d l0 v3 l0 (1 : Int32) h7 Q)) (fun r hx => Q (.inr r) hx))) (fun r hx => Q (.inr r) hx))
theorem v_X11_command_0 {g : PG} {d : Nat} {l0 : Nat} {h : PH} {Q : Out → PH → Prop} (H : w_X11_command_0 g d l0 h Q) : R g d m_X11_command 0 [.ref l0, .null, .null] [] h Q := by
  refine r_aload_n dX11_command_0 rfl rfl ?_
  obtain ⟨k1, H⟩ := H
  refine r_invV (y := m_X11_word) dX11_command_1 rfl (lw_V q3074 q3076 qp53 q173 q3077) py_X11_word (Nat.le_of_ble_eq_true rfl) (args := []) rfl rfl (Nat.le_of_ble_eq_true rfl) k1 (by decide) rfl (C.monoE H (fun o h2 _ x4 K => cont_R K (fun v3 H => ?_) (fun r HX => XR_nc rfl HX)))
  refine r_astore_n dX11_command_4 rfl (Nat.le_of_ble_eq_true rfl) rfl (slS sl0) ?_
  refine r_aload_n dX11_command_5 rfl rfl ?_
  refine r_aload_n dX11_command_6 rfl rfl ?_
  obtain ⟨k5, H⟩ := H
  obtain ⟨_, k6, k6a, k6b⟩ := ko_use (by decide) k5
  refine r_invV (y := m_J10_isEmpty) dX11_command_7 rfl (lw_V q3089 q3090 q3091 q120 q3092) py_J10_isEmpty (Nat.le_of_ble_eq_true rfl) (args := []) rfl rfl (Nat.le_of_ble_eq_true rfl) k6 k6a (k6b.trans rfl) (C.monoE H (fun o h7 _ x9 K => cont_I K (fun v8 H => ?_) (fun r HX => XR_nc rfl HX)))
  refine r_if_ne (tgt := 17) dX11_command_10 rfl (fun b10 => ?_) (fun b10 => ?_)
  · replace H := H.1 b10
    refine r_iconst dX11_command_17 rfl ?_
    exact v_X11_command_18 H
  · replace H := H.2 b10
    refine r_iconst dX11_command_13 rfl ?_
    refine r_goto (tgt := 18) dX11_command_14 rfl ?_
    exact v_X11_command_18 H
theorem c_X11_command_0 {g : PG} {d : Nat} {l0 : Nat} {h : PH} {Q : Out → PH → Prop} (H : w_X11_command_0 g d l0 h Q) : C g (d + 1) m_X11_command [.ref l0] h Q := C_of_R rfl rfl (Nat.le_of_ble_eq_true rfl) rfl (v_X11_command_0 H)
abbrev w_X11_word_0 (g : PG) (d : Nat) (l0 : Nat) (h : PH) (Q : Out → PH → Prop) : Prop := hkd h l0 = 9 ∧ C g d m_X11_at [.ref l0, .int (hF h 26 l0)] h (oI (fun v3 h2 => (v3 = 99 → Q (.inl (some (.ref (gSr g 30 + 1)))) h2) ∧ (v3 = 104 → Q (.inl (some (.ref (gSr g 35 + 1)))) h2) ∧ (v3 = 112 → C g d m_X11_at [.ref l0, .int ((hF h2 26 l0) + (1 : Int32))] h2 (oI (fun v9 h8 => ((¬ v9 = (105 : Int32)) → Q (.inl (some (.ref (gSr g 33 + 1)))) h8) ∧ ((v9 = (105 : Int32)) → Q (.inl (some (.ref (gSr g 32 + 1)))) h8)) (fun r hx => Q (.inr r) hx))) ∧ (v3 = 114 → Q (.inl (some (.ref (gSr g 31 + 1)))) h2) ∧ (v3 = 119 → Q (.inl (some (.ref (gSr g 34 + 1)))) h2) ∧ (¬ v3 = 99 → ¬ v3 = 104 → ¬ v3 = 112 → ¬ v3 = 114 → ¬ v3 = 119 → Q (.inl (some (.ref (gSr g 36 + 1)))) h2)) (fun r hx => Q (.inr r) hx))
theorem v_X11_word_0 {g : PG} {d : Nat} {l0 : Nat} {h : PH} {Q : Out → PH → Prop} (H : w_X11_word_0 g d l0 h Q) : R g d m_X11_word 0 [.ref l0] [] h Q := by
  refine r_aload_n dX11_word_0 rfl rfl ?_
  refine r_aload_n dX11_word_1 rfl rfl ?_
  obtain ⟨k1, H⟩ := H
  refine r_getF fr_X11_17_9 (by decide) dX11_word_2 k1 (by decide) ?_
  refine r_invV (y := m_X11_at) dX11_word_5 rfl (lw_V q3078 q3080 qp54 q173 q3081) py_X11_at (Nat.le_of_ble_eq_true rfl) (args := [_]) rfl rfl (Nat.le_of_ble_eq_true rfl) k1 (by decide) rfl (C.monoE H (fun o h2 _ x4 K => cont_I K (fun v3 H => ?_) (fun r HX => XR_nc rfl HX)))
  refine R.tri (k9 := 99) (fun b5 => ?_) (fun b5 => ?_)
  · replace H := H.1 b5
    refine r_lookup (tgt := 60) dX11_word_8 (by decide) (by rw [b5]; first | done | rfl) rfl ?_
    refine r_ldcS (n := 30) dX11_word_60 rfl ?_
    refine r_goto (tgt := 107) dX11_word_62 rfl ?_
    exact r_aret dX11_word_107 rfl H
  replace H := H.2
  refine R.tri (k9 := 104) (fun b6 => ?_) (fun b6 => ?_)
  · replace H := H.1 b6
    refine r_lookup (tgt := 100) dX11_word_8 (by decide) (by rw [b6]; first | done | rfl) rfl ?_
    refine r_ldcS (n := 35) dX11_word_100 rfl ?_
    refine r_goto (tgt := 107) dX11_word_102 rfl ?_
    exact r_aret dX11_word_107 rfl H
  replace H := H.2
  refine R.tri (k9 := 112) (fun b7 => ?_) (fun b7 => ?_)
  · replace H := H.1 b7
    refine r_lookup (tgt := 70) dX11_word_8 (by decide) (by rw [b7]; first | done | rfl) rfl ?_
    refine r_aload_n dX11_word_70 rfl rfl ?_
    refine r_aload_n dX11_word_71 rfl rfl ?_
    refine r_getF fr_X11_17_9 (by decide) dX11_word_72 (x4.kd k1 (by decide)) (by decide) ?_
    refine r_iconst dX11_word_75 rfl ?_
    refine r_iadd dX11_word_76 ?_
    refine r_invV (y := m_X11_at) dX11_word_77 rfl (lw_V q3078 q3080 qp54 q173 q3081) py_X11_at (Nat.le_of_ble_eq_true rfl) (args := [_]) rfl rfl (Nat.le_of_ble_eq_true rfl) (x4.kd k1 (by decide)) (by decide) rfl (C.monoE H (fun o h8 _ x10 K => cont_I K (fun v9 H => ?_) (fun r HX => XR_nc rfl HX)))
    refine r_bipush dX11_word_80 rfl ?_
    refine r_icmp_ne (tgt := 90) dX11_word_82 rfl (fun b11 => ?_) (fun b11 => ?_)
    · replace H := H.1 b11
      refine r_ldcS (n := 33) dX11_word_90 rfl ?_
      refine r_goto (tgt := 107) dX11_word_92 rfl ?_
      exact r_aret dX11_word_107 rfl H
    · replace H := H.2 b11
      refine r_ldcS (n := 32) dX11_word_85 rfl ?_
      refine r_goto (tgt := 107) dX11_word_87 rfl ?_
      exact r_aret dX11_word_107 rfl H
  replace H := H.2
  refine R.tri (k9 := 114) (fun b12 => ?_) (fun b12 => ?_)
  · replace H := H.1 b12
    refine r_lookup (tgt := 65) dX11_word_8 (by decide) (by rw [b12]; first | done | rfl) rfl ?_
    refine r_ldcS (n := 31) dX11_word_65 rfl ?_
    refine r_goto (tgt := 107) dX11_word_67 rfl ?_
    exact r_aret dX11_word_107 rfl H
  replace H := H.2
  refine R.tri (k9 := 119) (fun b13 => ?_) (fun b13 => ?_)
  · replace H := H.1 b13
    refine r_lookup (tgt := 95) dX11_word_8 (by decide) (by rw [b13]; first | done | rfl) rfl ?_
    refine r_ldcS (n := 34) dX11_word_95 rfl ?_
    refine r_goto (tgt := 107) dX11_word_97 rfl ?_
    exact r_aret dX11_word_107 rfl H
  replace H := H.2
  replace H := H b5 b6 b7 b12 b13
  refine r_lookup (tgt := 105) (off := 97) dX11_word_8 (by decide) (lookDef (List.forall_mem_cons.mpr ⟨b5, (List.forall_mem_cons.mpr ⟨b6, (List.forall_mem_cons.mpr ⟨b7, (List.forall_mem_cons.mpr ⟨b12, (List.forall_mem_cons.mpr ⟨b13, (fun _ h => absurd h List.not_mem_nil)⟩)⟩)⟩)⟩)⟩)) rfl ?_
  refine r_ldcS (n := 36) dX11_word_105 rfl ?_
  exact r_aret dX11_word_107 rfl H
theorem c_X11_word_0 {g : PG} {d : Nat} {l0 : Nat} {h : PH} {Q : Out → PH → Prop} (H : w_X11_word_0 g d l0 h Q) : C g (d + 1) m_X11_word [.ref l0] h Q := C_of_R rfl rfl (Nat.le_of_ble_eq_true rfl) rfl (v_X11_word_0 H)
abbrev w_X11_at_0 (g : PG) (d : Nat) (l0 : Nat) (l1 : Int32) (h : PH) (Q : Out → PH → Prop) : Prop := hkd h l0 = 9 ∧ hkd h (hG h 519 l0) = 1 ∧ (((hF h 0 (hG h 519 l0)) ≤ l1) → Q (.inl (some (.int (-1 : Int32)))) h) ∧ ((¬ (hF h 0 (hG h 519 l0)) ≤ l1) → hkd h (hG h 505 (hG h 519 l0)) / 100 = 2 ∧ vp_in l1 (hln h (hG h 505 (hG h 519 l0))) ∧ Q (.inl (some (.int (hA h (hG h 505 (hG h 519 l0)) l1.toNatClampNeg)))) h)
theorem v_X11_at_0 {g : PG} {d : Nat} {l0 : Nat} {l1 : Int32} {h : PH} {Q : Out → PH → Prop} (H : w_X11_at_0 g d l0 l1 h Q) : R g d m_X11_at 0 [.ref l0, .int l1] [] h Q := by
  refine r_iload_n dX11_at_0 rfl rfl ?_
  refine r_aload_n dX11_at_1 rfl rfl ?_
  obtain ⟨k1, H⟩ := H
  refine r_getG fr_X11_3_9 (by decide) dX11_at_2 k1 (by decide) ?_
  obtain ⟨k2, H⟩ := H
  refine r_getF fr_X11_24_1 (by decide) dX11_at_5 k2 (by decide) ?_
  refine r_icmp_ge (tgt := 23) dX11_at_8 rfl (fun b3 => ?_) (fun b3 => ?_)
  · replace H := H.1 b3
    refine r_iconst dX11_at_23 rfl ?_
    exact r_iret dX11_at_24 rfl H
  · replace H := H.2 b3
    refine r_aload_n dX11_at_11 rfl rfl ?_
    refine r_getG fr_X11_3_9 (by decide) dX11_at_12 k1 (by decide) ?_
    refine r_getG fr_X11_27_1 (by decide) dX11_at_15 k2 (by decide) ?_
    refine r_iload_n dX11_at_18 rfl rfl ?_
    obtain ⟨k4, H⟩ := H
    obtain ⟨k5, H⟩ := H
    refine r_cald dX11_at_19 k4 k5 ?_
    refine r_goto (tgt := 24) dX11_at_20 rfl ?_
    exact r_iret dX11_at_24 rfl H
theorem c_X11_at_0 {g : PG} {d : Nat} {l0 : Nat} {l1 : Int32} {h : PH} {Q : Out → PH → Prop} (H : w_X11_at_0 g d l0 l1 h Q) : C g (d + 1) m_X11_at [.ref l0, .int l1] h Q := C_of_R rfl rfl (Nat.le_of_ble_eq_true rfl) rfl (v_X11_at_0 H)
abbrev w_X11_need_0 (g : PG) (d : Nat) (l0 : Nat) (l1 : Int32) (h : PH) (Q : Out → PH → Prop) : Prop := ((¬ l1 = 0) → Q (.inl none) h) ∧ ((l1 = 0) → ∀ h2, h2 = hnew 8 0 8 h → hkd h2 l0 = 9 ∧ 0 < (hnx h) ∧ C g d m_X12_init [.ref (hnx h), .int (hF h2 26 l0)] h2 (oV (fun h5 => (hkd h5 (hnx h) ≠ 0 ∧ hkd h5 (hnx h) < 100) ∧ Q (.inr (hnx h)) h5) (fun r hx => Q (.inr r) hx)))
theorem v_X11_need_0 {g : PG} {d : Nat} {l0 : Nat} {l1 : Int32} {h : PH} {Q : Out → PH → Prop} (H : w_X11_need_0 g d l0 l1 h Q) : R g d m_X11_need 0 [.ref l0, .int l1] [] h Q := by
  refine r_iload_n dX11_need_0 rfl rfl ?_
  refine r_if_ne (tgt := 16) dX11_need_1 rfl (fun b1 => ?_) (fun b1 => ?_)
  · replace H := H.1 b1
    exact r_vret dX11_need_16 rfl H
  · replace H := H.2 b1
    replace H := H _ rfl
    refine r_new (ci := 8) dX11_need_4 rfl (by decide) q3097 q3098 q174 ?_
    refine r_dup dX11_need_7 rfl ?_
    refine r_aload_n dX11_need_8 rfl rfl ?_
    obtain ⟨k3, H⟩ := H
    refine r_getF fr_X11_17_9 (by decide) dX11_need_9 k3 (by decide) ?_
    obtain ⟨k4, H⟩ := H
    refine r_invI (y := m_X12_init) dX11_need_12 rfl rfl q3108 q174 q3106 q3107 rfl py_X12_init (Nat.le_of_ble_eq_true rfl) (args := [_]) rfl rfl (Nat.le_of_ble_eq_true rfl) k4 (C.monoE H (fun o h5 _ x7 K => cont_V K (fun H => ?_) (fun r HX => XR_nc rfl HX)))
    exact r_athrow dX11_need_15 H.1 (XR_nc rfl H.2)
theorem c_X11_need_0 {g : PG} {d : Nat} {l0 : Nat} {l1 : Int32} {h : PH} {Q : Out → PH → Prop} (H : w_X11_need_0 g d l0 l1 h Q) : C g (d + 1) m_X11_need [.ref l0, .int l1] h Q := C_of_R rfl rfl (Nat.le_of_ble_eq_true rfl) rfl (v_X11_need_0 H)
abbrev w_X11_needAll_2 (g : PG) (d : Nat) (l0 : Nat) (l1 : Nat) (l2 : Int32) (h : PH) (Q : Out → PH → Prop) : Prop := ko h l1 29 ∧ C g d m_J10_length [.ref l1] h (oI (fun v4 h3 => ((v4 ≤ l2) → Q (.inl none) h3) ∧ ((¬ v4 ≤ l2) → C g d m_J10_charAt [.ref l1, .int l2] h3 (oI (fun v9 h8 => hkd h8 l0 = 9 ∧ C g d m_X11_takes [.ref l0, .int v9] h8 (oI (fun v13 h12 => C g d m_X11_need [.ref l0, .int v13] h12 (oV (fun h15 => R g d m_X11_needAll 2 [.ref l0, .ref l1, .int (l2 + 1)] [] h15 Q) (fun r hx => Q (.inr r) hx))) (fun r hx => Q (.inr r) hx))) (fun r hx => Q (.inr r) hx)))) (fun r hx => Q (.inr r) hx))
theorem v_X11_needAll_2 {g : PG} {d : Nat} {l0 : Nat} {l1 : Nat} {l2 : Int32} {h : PH} {Q : Out → PH → Prop} (H : w_X11_needAll_2 g d l0 l1 l2 h Q) : R g d m_X11_needAll 2 [.ref l0, .ref l1, .int l2] [] h Q := by
  refine r_iload_n dX11_needAll_2 rfl rfl ?_
  refine r_aload_n dX11_needAll_3 rfl rfl ?_
  obtain ⟨k1, H⟩ := H
  obtain ⟨_, k2, k2a, k2b⟩ := ko_use (by decide) k1
  refine r_invF (y := m_J10_length) (Cn := "java/lang/String") (x := ⟨"java/lang/CharSequence", "length", "()I"⟩) dX11_needAll_4 rfl (lw_F q3121 q3125 q522 q120 q524) fw_t36 (n := 0) (by decide +kernel) (Nat.le_of_ble_eq_true rfl) (args := []) rfl rfl (Nat.le_of_ble_eq_true rfl) k2 k2a (k2b.trans rfl) (C.monoE H (fun o h3 _ x5 K => cont_I K (fun v4 H => ?_) (fun r HX => XR_nc rfl HX)))
  refine r_icmp_ge (tgt := 33) dX11_needAll_9 rfl (fun b6 => ?_) (fun b6 => ?_)
  · replace H := H.1 b6
    exact r_vret dX11_needAll_33 rfl H
  · replace H := H.2 b6
    refine r_aload_n dX11_needAll_12 rfl rfl ?_
    refine r_aload_n dX11_needAll_13 rfl rfl ?_
    refine r_aload_n dX11_needAll_14 rfl rfl ?_
    refine r_iload_n dX11_needAll_15 rfl rfl ?_
    obtain ⟨_, k7, k7a, k7b⟩ := ko_use (by decide) (koE x5 (by decide) k1)
    refine r_invF (y := m_J10_charAt) (Cn := "java/lang/String") (x := ⟨"java/lang/CharSequence", "charAt", "(I)C"⟩) dX11_needAll_16 rfl (lw_F q3133 q3136 q2931 q120 q2933) fw_t38 (n := 1) (by decide +kernel) (Nat.le_of_ble_eq_true rfl) (args := [_]) rfl rfl (Nat.le_of_ble_eq_true rfl) k7 k7a (k7b.trans rfl) (C.monoE H (fun o h8 _ x10 K => cont_I K (fun v9 H => ?_) (fun r HX => XR_nc rfl HX)))
    obtain ⟨k11, H⟩ := H
    refine r_invV (y := m_X11_takes) dX11_needAll_21 rfl (lw_V q3142 q3144 qp57 q173 q3145) py_X11_takes (Nat.le_of_ble_eq_true rfl) (args := [_]) rfl rfl (Nat.le_of_ble_eq_true rfl) k11 (by decide) rfl (C.monoE H (fun o h12 _ x14 K => cont_I K (fun v13 H => ?_) (fun r HX => XR_nc rfl HX)))
    refine r_invV (y := m_X11_need) dX11_needAll_24 rfl (lw_V q3093 q3095 qp55 q173 q3096) py_X11_need (Nat.le_of_ble_eq_true rfl) (args := [_]) rfl rfl (Nat.le_of_ble_eq_true rfl) (x14.kd k11 (by decide)) (by decide) rfl (C.monoE H (fun o h15 _ x17 K => cont_V K (fun H => ?_) (fun r HX => XR_nc rfl HX)))
    refine r_iinc dX11_needAll_27 rfl rfl (Nat.le_of_ble_eq_true rfl) rfl (slS (slS sl0)) ?_
    refine r_goto (tgt := 2) dX11_needAll_30 rfl ?_
    exact H
abbrev w_X11_needAll_0 (g : PG) (d : Nat) (l0 : Nat) (l1 : Nat) (h : PH) (Q : Out → PH → Prop) : Prop := R g d m_X11_needAll 2 [.ref l0, .ref l1, .int 0] [] h Q
theorem v_X11_needAll_0 {g : PG} {d : Nat} {l0 : Nat} {l1 : Nat} {h : PH} {Q : Out → PH → Prop} (H : w_X11_needAll_0 g d l0 l1 h Q) : R g d m_X11_needAll 0 [.ref l0, .ref l1, .null] [] h Q := by
  refine r_iconst dX11_needAll_0 rfl ?_
  refine r_istore_n dX11_needAll_1 rfl (Nat.le_of_ble_eq_true rfl) rfl (slS (slS sl0)) ?_
  exact H
theorem c_X11_needAll_0 {g : PG} {d : Nat} {l0 : Nat} {l1 : Nat} {h : PH} {Q : Out → PH → Prop} (H : w_X11_needAll_0 g d l0 l1 h Q) : C g (d + 1) m_X11_needAll [.ref l0, .ref l1] h Q := C_of_R rfl rfl (Nat.le_of_ble_eq_true rfl) rfl (v_X11_needAll_0 H)
abbrev w_X11_takes_32 (g : PG) (d : Nat) (l2 : Int32) (s0 : Nat) (s1 : Int32) (s2 : Int32) (h : PH) (Q : Out → PH → Prop) : Prop := hkd h s0 = 9 ∧ ∀ h2, h2 = setF 26 s0 (s1 + s2) h → narrow .boolean (.int l2) = .int l2 ∧ Q (.inl (some (.int l2))) h2
theorem v_X11_takes_32 {g : PG} {d : Nat} {l2 : Int32} {s0 : Nat} {s1 : Int32} {s2 : Int32} {h : PH} {Q : Out → PH → Prop} (H : w_X11_takes_32 g d l2 s0 s1 s2 h Q) : R g d m_X11_takes 32 [.null, .null, .int l2] [.int s2, .int s1, .ref s0] h Q := by
  refine r_iadd dX11_takes_32 ?_
  obtain ⟨k1, H⟩ := H
  replace H := H _ rfl
  refine r_putF fw_X11_17_9 (by decide) dX11_takes_33 k1 (by decide) rfl rfl ?_
  refine r_iload_n dX11_takes_36 rfl rfl ?_
  exact r_zret dX11_takes_37 rfl H.1 H.2
abbrev w_X11_takes_17 (g : PG) (d : Nat) (l0 : Nat) (s0 : Int32) (h : PH) (Q : Out → PH → Prop) : Prop := hkd h l0 = 9 ∧ ((s0 = 0) → w_X11_takes_32 g d s0 l0 (hF h 26 l0) (0 : Int32) h Q) ∧ ((¬ s0 = 0) → w_X11_takes_32 g d s0 l0 (hF h 26 l0) (1 : Int32) h Q)
theorem v_X11_takes_17 {g : PG} {d : Nat} {l0 : Nat} {s0 : Int32} {h : PH} {Q : Out → PH → Prop} (H : w_X11_takes_17 g d l0 s0 h Q) : R g d m_X11_takes 17 [.ref l0, .null, .null] [.int s0] h Q := by
  refine r_istore_n dX11_takes_17 rfl (Nat.le_of_ble_eq_true rfl) rfl (slS (slS sl0)) ?_
  refine r_aload_n dX11_takes_18 rfl rfl ?_
  refine r_dup dX11_takes_19 rfl ?_
  obtain ⟨k1, H⟩ := H
  refine r_getF fr_X11_17_9 (by decide) dX11_takes_20 k1 (by decide) ?_
  refine r_iload_n dX11_takes_23 rfl rfl ?_
  refine r_if_eq (tgt := 31) dX11_takes_24 rfl (fun b2 => ?_) (fun b2 => ?_)
  · replace H := H.1 b2
    refine r_iconst dX11_takes_31 rfl ?_
    exact R.forget (v_X11_takes_32 H) ⟨Or.inr rfl, ⟨Or.inl rfl, ⟨Or.inl rfl, trivial⟩⟩⟩
  · replace H := H.2 b2
    refine r_iconst dX11_takes_27 rfl ?_
    refine r_goto (tgt := 32) dX11_takes_28 rfl ?_
    exact R.forget (v_X11_takes_32 H) ⟨Or.inr rfl, ⟨Or.inl rfl, ⟨Or.inl rfl, trivial⟩⟩⟩
abbrev w_X11_takes_0 (g : PG) (d : Nat) (l0 : Nat) (l1 : Int32) (h : PH) (Q : Out → PH → Prop) : Prop := hkd h l0 = 9 ∧ C g d m_X11_at [.ref l0, .int (hF h 26 l0)] h (oI (fun v3 h2 => ((¬ v3 = l1) → w_X11_takes_17 g d l0 (0 : Int32) h2 Q) ∧ ((v3 = l1) → w_X11_takes_17 g d l0 (1 : Int32) h2 Q)) (fun r hx => Q (.inr r) hx))
theorem v_X11_takes_0 {g : PG} {d : Nat} {l0 : Nat} {l1 : Int32} {h : PH} {Q : Out → PH → Prop} (H : w_X11_takes_0 g d l0 l1 h Q) : R g d m_X11_takes 0 [.ref l0, .int l1, .null] [] h Q := by
  refine r_aload_n dX11_takes_0 rfl rfl ?_
  refine r_aload_n dX11_takes_1 rfl rfl ?_
  obtain ⟨k1, H⟩ := H
  refine r_getF fr_X11_17_9 (by decide) dX11_takes_2 k1 (by decide) ?_
  refine r_invV (y := m_X11_at) dX11_takes_5 rfl (lw_V q3078 q3080 qp54 q173 q3081) py_X11_at (Nat.le_of_ble_eq_true rfl) (args := [_]) rfl rfl (Nat.le_of_ble_eq_true rfl) k1 (by decide) rfl (C.monoE H (fun o h2 _ x4 K => cont_I K (fun v3 H => ?_) (fun r HX => XR_nc rfl HX)))
  refine r_iload_n dX11_takes_8 rfl rfl ?_
  refine r_icmp_ne (tgt := 16) dX11_takes_9 rfl (fun b5 => ?_) (fun b5 => ?_)
  · replace H := H.1 b5
    refine r_iconst dX11_takes_16 rfl ?_
    exact R.forget (v_X11_takes_17 H) ⟨Or.inl rfl, ⟨Or.inr rfl, ⟨Or.inl rfl, trivial⟩⟩⟩
  · replace H := H.2 b5
    refine r_iconst dX11_takes_12 rfl ?_
    refine r_goto (tgt := 17) dX11_takes_13 rfl ?_
    exact R.forget (v_X11_takes_17 H) ⟨Or.inl rfl, ⟨Or.inr rfl, ⟨Or.inl rfl, trivial⟩⟩⟩
theorem c_X11_takes_0 {g : PG} {d : Nat} {l0 : Nat} {l1 : Int32} {h : PH} {Q : Out → PH → Prop} (H : w_X11_takes_0 g d l0 l1 h Q) : C g (d + 1) m_X11_takes [.ref l0, .int l1] h Q := C_of_R rfl rfl (Nat.le_of_ble_eq_true rfl) rfl (v_X11_takes_0 H)
abbrev w_X11_told_131 (g : PG) (d : Nat) (l0 : Nat) (l1 : Nat) (l3 : Int32) (h : PH) (Q : Out → PH → Prop) : Prop := (l3 = 0 → hkd h l0 = 9 ∧ C g d m_X11_came [.ref l0] h (oR (fun v4 h3 => Q (.inl (some (.ref v4))) h3) (fun r hx => Q (.inr r) hx))) ∧ (l3 = 1 → ∀ h7, h7 = hnew 6 0 5 h → hkd h7 l0 = 9 ∧ C g d m_X11_digit [.ref l0] h7 (oI (fun v10 h9 => C g d m_X11_digitBehind [.ref l0, .ref (gSr g 37 + 1)] h9 (oI (fun v13 h12 => 0 < (hnx h) ∧ C g d m_X5_init_2 [.ref (hnx h), .ref l1, .int v10, .int v13] h12 (oV (fun h16 => Q (.inl (some (.ref (hnx h)))) h16) (fun r hx => Q (.inr r) hx))) (fun r hx => Q (.inr r) hx))) (fun r hx => Q (.inr r) hx))) ∧ (l3 = 2 → ∀ h20, h20 = hnew 6 0 5 h → hkd h20 l0 = 9 ∧ C g d m_X11_digit [.ref l0] h20 (oI (fun v23 h22 => C g d m_X11_digitBehind [.ref l0, .ref (gSr g 39 + 1)] h22 (oI (fun v26 h25 => 0 < (hnx h) ∧ C g d m_X5_init_2 [.ref (hnx h), .ref l1, .int v23, .int v26] h25 (oV (fun h29 => Q (.inl (some (.ref (hnx h)))) h29) (fun r hx => Q (.inr r) hx))) (fun r hx => Q (.inr r) hx))) (fun r hx => Q (.inr r) hx))) ∧ (l3 = 3 → hkd h l0 = 9 ∧ C g d m_X11_warmed [.ref l0] h (oR (fun v35 h34 => Q (.inl (some (.ref v35))) h34) (fun r hx => Q (.inr r) hx))) ∧ (l3 = 4 → ∀ h38, h38 = hnew 6 0 5 h → hkd h38 l0 = 9 ∧ C g d m_X11_count [.ref l0] h38 (oI (fun v41 h40 => 0 < (hnx h) ∧ C g d m_X5_init_2 [.ref (hnx h), .ref l1, .int v41, .int 0] h40 (oV (fun h44 => Q (.inl (some (.ref (hnx h)))) h44) (fun r hx => Q (.inr r) hx))) (fun r hx => Q (.inr r) hx))) ∧ (¬ l3 = 0 → ¬ l3 = 1 → ¬ l3 = 2 → ¬ l3 = 3 → ¬ l3 = 4 → ∀ h47, h47 = hnew 6 0 5 h → hkd h47 l0 = 9 ∧ C g d m_X11_digit [.ref l0] h47 (oI (fun v50 h49 => 0 < (hnx h) ∧ C g d m_X5_init_2 [.ref (hnx h), .ref l1, .int v50, .int 0] h49 (oV (fun h53 => Q (.inl (some (.ref (hnx h)))) h53) (fun r hx => Q (.inr r) hx))) (fun r hx => Q (.inr r) hx)))
theorem v_X11_told_131 {g : PG} {d : Nat} {l0 : Nat} {l1 : Nat} {l3 : Int32} {h : PH} {Q : Out → PH → Prop} (H : w_X11_told_131 g d l0 l1 l3 h Q) : R g d m_X11_told 131 [.ref l0, .ref l1, .null, .int l3] [] h Q := by
  refine r_iload_n dX11_told_131 rfl rfl ?_
  refine R.tri (k9 := 0) (fun b1 => ?_) (fun b1 => ?_)
  · replace H := H.1 b1
    refine r_tableIn (tgt := 168) dX11_told_132 (by rw [b1]; decide) (by rw [b1]; decide) (by rw [b1]; first | done | rfl) rfl ?_
    refine r_aload_n dX11_told_168 rfl rfl ?_
    obtain ⟨k2, H⟩ := H
    refine r_invV (y := m_X11_came) dX11_told_169 rfl (lw_V q3155 q3157 qp59 q173 q3158) py_X11_came (Nat.le_of_ble_eq_true rfl) (args := []) rfl rfl (Nat.le_of_ble_eq_true rfl) k2 (by decide) rfl (C.monoE H (fun o h3 _ x5 K => cont_R K (fun v4 H => ?_) (fun r HX => XR_nc rfl HX)))
    refine r_goto (tgt := 253) dX11_told_172 rfl ?_
    exact r_aret dX11_told_253 rfl H
  replace H := H.2
  refine R.tri (k9 := 1) (fun b6 => ?_) (fun b6 => ?_)
  · replace H := H.1 b6
    refine r_tableIn (tgt := 175) dX11_told_132 (by rw [b6]; decide) (by rw [b6]; decide) (by rw [b6]; first | done | rfl) rfl ?_
    replace H := H _ rfl
    refine r_new (ci := 6) dX11_told_175 rfl (by decide) q3147 q2293 q129 ?_
    refine r_dup dX11_told_178 rfl ?_
    refine r_aload_n dX11_told_179 rfl rfl ?_
    refine r_aload_n dX11_told_180 rfl rfl ?_
    obtain ⟨k8, H⟩ := H
    refine r_invV (y := m_X11_digit) dX11_told_181 rfl (lw_V q3159 q3161 qp60 q173 q3162) py_X11_digit (Nat.le_of_ble_eq_true rfl) (args := []) rfl rfl (Nat.le_of_ble_eq_true rfl) k8 (by decide) rfl (C.monoE H (fun o h9 _ x11 K => cont_I K (fun v10 H => ?_) (fun r HX => XR_nc rfl HX)))
    refine r_aload_n dX11_told_184 rfl rfl ?_
    refine r_ldcS (n := 37) dX11_told_185 rfl ?_
    refine r_invV (y := m_X11_digitBehind) dX11_told_187 rfl (lw_V q3178 q3180 qp64 q173 q3181) py_X11_digitBehind (Nat.le_of_ble_eq_true rfl) (args := [_]) rfl rfl (Nat.le_of_ble_eq_true rfl) (x11.kd k8 (by decide)) (by decide) rfl (C.monoE H (fun o h12 _ x14 K => cont_I K (fun v13 H => ?_) (fun r HX => XR_nc rfl HX)))
    obtain ⟨k15, H⟩ := H
    refine r_invI (y := m_X5_init_2) dX11_told_190 rfl rfl q2644 q129 q3148 q2643 rfl py_X5_init_2 (Nat.le_of_ble_eq_true rfl) (args := [_, _, _]) rfl rfl (Nat.le_of_ble_eq_true rfl) k15 (C.monoE H (fun o h16 _ x18 K => cont_V K (fun H => ?_) (fun r HX => XR_nc rfl HX)))
    refine r_goto (tgt := 253) dX11_told_193 rfl ?_
    exact r_aret dX11_told_253 rfl H
  replace H := H.2
  refine R.tri (k9 := 2) (fun b19 => ?_) (fun b19 => ?_)
  · replace H := H.1 b19
    refine r_tableIn (tgt := 196) dX11_told_132 (by rw [b19]; decide) (by rw [b19]; decide) (by rw [b19]; first | done | rfl) rfl ?_
    replace H := H _ rfl
    refine r_new (ci := 6) dX11_told_196 rfl (by decide) q3147 q2293 q129 ?_
    refine r_dup dX11_told_199 rfl ?_
    refine r_aload_n dX11_told_200 rfl rfl ?_
    refine r_aload_n dX11_told_201 rfl rfl ?_
    obtain ⟨k21, H⟩ := H
    refine r_invV (y := m_X11_digit) dX11_told_202 rfl (lw_V q3159 q3161 qp60 q173 q3162) py_X11_digit (Nat.le_of_ble_eq_true rfl) (args := []) rfl rfl (Nat.le_of_ble_eq_true rfl) k21 (by decide) rfl (C.monoE H (fun o h22 _ x24 K => cont_I K (fun v23 H => ?_) (fun r HX => XR_nc rfl HX)))
    refine r_aload_n dX11_told_205 rfl rfl ?_
    refine r_ldcS (n := 39) dX11_told_206 rfl ?_
    refine r_invV (y := m_X11_digitBehind) dX11_told_208 rfl (lw_V q3178 q3180 qp64 q173 q3181) py_X11_digitBehind (Nat.le_of_ble_eq_true rfl) (args := [_]) rfl rfl (Nat.le_of_ble_eq_true rfl) (x24.kd k21 (by decide)) (by decide) rfl (C.monoE H (fun o h25 _ x27 K => cont_I K (fun v26 H => ?_) (fun r HX => XR_nc rfl HX)))
    obtain ⟨k28, H⟩ := H
    refine r_invI (y := m_X5_init_2) dX11_told_211 rfl rfl q2644 q129 q3148 q2643 rfl py_X5_init_2 (Nat.le_of_ble_eq_true rfl) (args := [_, _, _]) rfl rfl (Nat.le_of_ble_eq_true rfl) k28 (C.monoE H (fun o h29 _ x31 K => cont_V K (fun H => ?_) (fun r HX => XR_nc rfl HX)))
    refine r_goto (tgt := 253) dX11_told_214 rfl ?_
    exact r_aret dX11_told_253 rfl H
  replace H := H.2
  refine R.tri (k9 := 3) (fun b32 => ?_) (fun b32 => ?_)
  · replace H := H.1 b32
    refine r_tableIn (tgt := 217) dX11_told_132 (by rw [b32]; decide) (by rw [b32]; decide) (by rw [b32]; first | done | rfl) rfl ?_
    refine r_aload_n dX11_told_217 rfl rfl ?_
    obtain ⟨k33, H⟩ := H
    refine r_invV (y := m_X11_warmed) dX11_told_218 rfl (lw_V q3183 q3185 qp65 q173 q3186) py_X11_warmed (Nat.le_of_ble_eq_true rfl) (args := []) rfl rfl (Nat.le_of_ble_eq_true rfl) k33 (by decide) rfl (C.monoE H (fun o h34 _ x36 K => cont_R K (fun v35 H => ?_) (fun r HX => XR_nc rfl HX)))
    refine r_goto (tgt := 253) dX11_told_221 rfl ?_
    exact r_aret dX11_told_253 rfl H
  replace H := H.2
  refine R.tri (k9 := 4) (fun b37 => ?_) (fun b37 => ?_)
  · replace H := H.1 b37
    refine r_tableIn (tgt := 224) dX11_told_132 (by rw [b37]; decide) (by rw [b37]; decide) (by rw [b37]; first | done | rfl) rfl ?_
    replace H := H _ rfl
    refine r_new (ci := 6) dX11_told_224 rfl (by decide) q3147 q2293 q129 ?_
    refine r_dup dX11_told_227 rfl ?_
    refine r_aload_n dX11_told_228 rfl rfl ?_
    refine r_aload_n dX11_told_229 rfl rfl ?_
    obtain ⟨k39, H⟩ := H
    refine r_invV (y := m_X11_count) dX11_told_230 rfl (lw_V q3173 q3175 qp63 q173 q3176) py_X11_count (Nat.le_of_ble_eq_true rfl) (args := []) rfl rfl (Nat.le_of_ble_eq_true rfl) k39 (by decide) rfl (C.monoE H (fun o h40 _ x42 K => cont_I K (fun v41 H => ?_) (fun r HX => XR_nc rfl HX)))
    refine r_iconst dX11_told_233 rfl ?_
    obtain ⟨k43, H⟩ := H
    refine r_invI (y := m_X5_init_2) dX11_told_234 rfl rfl q2644 q129 q3148 q2643 rfl py_X5_init_2 (Nat.le_of_ble_eq_true rfl) (args := [_, _, _]) rfl rfl (Nat.le_of_ble_eq_true rfl) k43 (C.monoE H (fun o h44 _ x46 K => cont_V K (fun H => ?_) (fun r HX => XR_nc rfl HX)))
    refine r_goto (tgt := 253) dX11_told_237 rfl ?_
    exact r_aret dX11_told_253 rfl H
  replace H := H.2
  replace H := H b1 b6 b19 b32 b37
  refine r_tableOut (tgt := 240) dX11_told_132 (tabOut (lo := 0) (n := 5) rfl (fun i hi => match i, hi with | 0, _ => b1 | 1, _ => b6 | 2, _ => b19 | 3, _ => b32 | 4, _ => b37 | k + 5, hi => absurd hi (by omega))) rfl ?_
  replace H := H _ rfl
  refine r_new (ci := 6) dX11_told_240 rfl (by decide) q3147 q2293 q129 ?_
  refine r_dup dX11_told_243 rfl ?_
  refine r_aload_n dX11_told_244 rfl rfl ?_
  refine r_aload_n dX11_told_245 rfl rfl ?_
  obtain ⟨k48, H⟩ := H
  refine r_invV (y := m_X11_digit) dX11_told_246 rfl (lw_V q3159 q3161 qp60 q173 q3162) py_X11_digit (Nat.le_of_ble_eq_true rfl) (args := []) rfl rfl (Nat.le_of_ble_eq_true rfl) k48 (by decide) rfl (C.monoE H (fun o h49 _ x51 K => cont_I K (fun v50 H => ?_) (fun r HX => XR_nc rfl HX)))
  refine r_iconst dX11_told_249 rfl ?_
  obtain ⟨k52, H⟩ := H
  refine r_invI (y := m_X5_init_2) dX11_told_250 rfl rfl q2644 q129 q3148 q2643 rfl py_X5_init_2 (Nat.le_of_ble_eq_true rfl) (args := [_, _, _]) rfl rfl (Nat.le_of_ble_eq_true rfl) k52 (C.monoE H (fun o h53 _ x55 K => cont_V K (fun H => ?_) (fun r HX => XR_nc rfl HX)))
  exact r_aret dX11_told_253 rfl H
abbrev w_X11_told_0 (g : PG) (d : Nat) (l0 : Nat) (l1 : Nat) (h : PH) (Q : Out → PH → Prop) : Prop := hkd h l0 = 9 ∧ C g d m_X11_needAll [.ref l0, .ref (gSr g 37 + 1)] h (oV (fun h2 => ko h2 l1 29 ∧ C g d m_J10_hashCode [.ref l1] h2 (oI (fun v8 h7 => (v8 = 113291 → C g d m_J10_equals [.ref l1, .ref (gSr g 31 + 1)] h7 (oI (fun v13 h12 => ((v13 = 0) → w_X11_told_131 g d l0 l1 (-1 : Int32) h12 Q) ∧ ((¬ v13 = 0) → w_X11_told_131 g d l0 l1 (1 : Int32) h12 Q)) (fun r hx => Q (.inr r) hx))) ∧ (v8 = 3059460 → C g d m_J10_equals [.ref l1, .ref (gSr g 30 + 1)] h7 (oI (fun v19 h18 => ((v19 = 0) → w_X11_told_131 g d l0 l1 (-1 : Int32) h18 Q) ∧ ((¬ v19 = 0) → w_X11_told_131 g d l0 l1 (0 : Int32) h18 Q)) (fun r hx => Q (.inr r) hx))) ∧ (v8 = 3208676 → C g d m_J10_equals [.ref l1, .ref (gSr g 35 + 1)] h7 (oI (fun v25 h24 => ((v25 = 0) → w_X11_told_131 g d l0 l1 (-1 : Int32) h24 Q) ∧ ((¬ v25 = 0) → w_X11_told_131 g d l0 l1 (4 : Int32) h24 Q)) (fun r hx => Q (.inr r) hx))) ∧ (v8 = 3433489 → C g d m_J10_equals [.ref l1, .ref (gSr g 33 + 1)] h7 (oI (fun v31 h30 => ((v31 = 0) → w_X11_told_131 g d l0 l1 (-1 : Int32) h30 Q) ∧ ((¬ v31 = 0) → w_X11_told_131 g d l0 l1 (2 : Int32) h30 Q)) (fun r hx => Q (.inr r) hx))) ∧ (v8 = 3641989 → C g d m_J10_equals [.ref l1, .ref (gSr g 34 + 1)] h7 (oI (fun v37 h36 => ((v37 = 0) → w_X11_told_131 g d l0 l1 (-1 : Int32) h36 Q) ∧ ((¬ v37 = 0) → w_X11_told_131 g d l0 l1 (3 : Int32) h36 Q)) (fun r hx => Q (.inr r) hx))) ∧ (¬ v8 = 113291 → ¬ v8 = 3059460 → ¬ v8 = 3208676 → ¬ v8 = 3433489 → ¬ v8 = 3641989 → w_X11_told_131 g d l0 l1 (-1 : Int32) h7 Q)) (fun r hx => Q (.inr r) hx))) (fun r hx => Q (.inr r) hx))
theorem v_X11_told_0 {g : PG} {d : Nat} {l0 : Nat} {l1 : Nat} {h : PH} {Q : Out → PH → Prop} (H : w_X11_told_0 g d l0 l1 h Q) : R g d m_X11_told 0 [.ref l0, .ref l1, .null, .null] [] h Q := by
  refine r_aload_n dX11_told_0 rfl rfl ?_
  refine r_ldcS (n := 37) dX11_told_1 rfl ?_
  obtain ⟨k1, H⟩ := H
  refine r_invV (y := m_X11_needAll) dX11_told_3 rfl (lw_V q3116 q3118 qp56 q173 q3119) py_X11_needAll (Nat.le_of_ble_eq_true rfl) (args := [_]) rfl rfl (Nat.le_of_ble_eq_true rfl) k1 (by decide) rfl (C.monoE H (fun o h2 _ x4 K => cont_V K (fun H => ?_) (fun r HX => XR_nc rfl HX)))
  refine r_aload_n dX11_told_6 rfl rfl ?_
  refine r_astore_n dX11_told_7 rfl (Nat.le_of_ble_eq_true rfl) rfl (slS (slS sl0)) ?_
  refine r_iconst dX11_told_8 rfl ?_
  refine r_istore_n dX11_told_9 rfl (Nat.le_of_ble_eq_true rfl) rfl (slS (slS (slS sl0))) ?_
  refine r_aload_n dX11_told_10 rfl rfl ?_
  obtain ⟨k5, H⟩ := H
  obtain ⟨_, k6, k6a, k6b⟩ := ko_use (by decide) k5
  refine r_invV (y := m_J10_hashCode) dX11_told_11 rfl (lw_V q3154 q2325 q2326 q120 q2327) py_J10_hashCode (Nat.le_of_ble_eq_true rfl) (args := []) rfl rfl (Nat.le_of_ble_eq_true rfl) k6 k6a (k6b.trans rfl) (C.monoE H (fun o h7 _ x9 K => cont_I K (fun v8 H => ?_) (fun r HX => XR_nc rfl HX)))
  refine R.tri (k9 := 113291) (fun b10 => ?_) (fun b10 => ?_)
  · replace H := H.1 b10
    refine r_lookup (tgt := 78) dX11_told_14 (by decide) (by rw [b10]; first | done | rfl) rfl ?_
    refine r_aload_n dX11_told_78 rfl rfl ?_
    refine r_ldcS (n := 31) dX11_told_79 rfl ?_
    obtain ⟨_, k11, k11a, k11b⟩ := ko_use (by decide) (koE x9 (by decide) k5)
    refine r_invV (y := m_J10_equals) dX11_told_81 rfl (lw_V q3146 q2192 q3693 q120 q2193) py_J10_equals (Nat.le_of_ble_eq_true rfl) (args := [_]) rfl rfl (Nat.le_of_ble_eq_true rfl) k11 k11a (k11b.trans rfl) (C.monoE H (fun o h12 _ x14 K => cont_I K (fun v13 H => ?_) (fun r HX => XR_nc rfl HX)))
    refine r_if_eq (tgt := 131) dX11_told_84 rfl (fun b15 => ?_) (fun b15 => ?_)
    · replace H := H.1 b15
      exact R.forget (v_X11_told_131 H) ⟨Or.inl rfl, ⟨Or.inl rfl, ⟨Or.inr rfl, ⟨Or.inl rfl, trivial⟩⟩⟩⟩
    · replace H := H.2 b15
      refine r_iconst dX11_told_87 rfl ?_
      refine r_istore_n dX11_told_88 rfl (Nat.le_of_ble_eq_true rfl) rfl (slS (slS (slS sl0))) ?_
      refine r_goto (tgt := 131) dX11_told_89 rfl ?_
      exact R.forget (v_X11_told_131 H) ⟨Or.inl rfl, ⟨Or.inl rfl, ⟨Or.inr rfl, ⟨Or.inl rfl, trivial⟩⟩⟩⟩
  replace H := H.2
  refine R.tri (k9 := 3059460) (fun b16 => ?_) (fun b16 => ?_)
  · replace H := H.1 b16
    refine r_lookup (tgt := 64) dX11_told_14 (by decide) (by rw [b16]; first | done | rfl) rfl ?_
    refine r_aload_n dX11_told_64 rfl rfl ?_
    refine r_ldcS (n := 30) dX11_told_65 rfl ?_
    obtain ⟨_, k17, k17a, k17b⟩ := ko_use (by decide) (koE x9 (by decide) k5)
    refine r_invV (y := m_J10_equals) dX11_told_67 rfl (lw_V q3146 q2192 q3693 q120 q2193) py_J10_equals (Nat.le_of_ble_eq_true rfl) (args := [_]) rfl rfl (Nat.le_of_ble_eq_true rfl) k17 k17a (k17b.trans rfl) (C.monoE H (fun o h18 _ x20 K => cont_I K (fun v19 H => ?_) (fun r HX => XR_nc rfl HX)))
    refine r_if_eq (tgt := 131) dX11_told_70 rfl (fun b21 => ?_) (fun b21 => ?_)
    · replace H := H.1 b21
      exact R.forget (v_X11_told_131 H) ⟨Or.inl rfl, ⟨Or.inl rfl, ⟨Or.inr rfl, ⟨Or.inl rfl, trivial⟩⟩⟩⟩
    · replace H := H.2 b21
      refine r_iconst dX11_told_73 rfl ?_
      refine r_istore_n dX11_told_74 rfl (Nat.le_of_ble_eq_true rfl) rfl (slS (slS (slS sl0))) ?_
      refine r_goto (tgt := 131) dX11_told_75 rfl ?_
      exact R.forget (v_X11_told_131 H) ⟨Or.inl rfl, ⟨Or.inl rfl, ⟨Or.inr rfl, ⟨Or.inl rfl, trivial⟩⟩⟩⟩
  replace H := H.2
  refine R.tri (k9 := 3208676) (fun b22 => ?_) (fun b22 => ?_)
  · replace H := H.1 b22
    refine r_lookup (tgt := 120) dX11_told_14 (by decide) (by rw [b22]; first | done | rfl) rfl ?_
    refine r_aload_n dX11_told_120 rfl rfl ?_
    refine r_ldcS (n := 35) dX11_told_121 rfl ?_
    obtain ⟨_, k23, k23a, k23b⟩ := ko_use (by decide) (koE x9 (by decide) k5)
    refine r_invV (y := m_J10_equals) dX11_told_123 rfl (lw_V q3146 q2192 q3693 q120 q2193) py_J10_equals (Nat.le_of_ble_eq_true rfl) (args := [_]) rfl rfl (Nat.le_of_ble_eq_true rfl) k23 k23a (k23b.trans rfl) (C.monoE H (fun o h24 _ x26 K => cont_I K (fun v25 H => ?_) (fun r HX => XR_nc rfl HX)))
    refine r_if_eq (tgt := 131) dX11_told_126 rfl (fun b27 => ?_) (fun b27 => ?_)
    · replace H := H.1 b27
      exact R.forget (v_X11_told_131 H) ⟨Or.inl rfl, ⟨Or.inl rfl, ⟨Or.inr rfl, ⟨Or.inl rfl, trivial⟩⟩⟩⟩
    · replace H := H.2 b27
      refine r_iconst dX11_told_129 rfl ?_
      refine r_istore_n dX11_told_130 rfl (Nat.le_of_ble_eq_true rfl) rfl (slS (slS (slS sl0))) ?_
      exact R.forget (v_X11_told_131 H) ⟨Or.inl rfl, ⟨Or.inl rfl, ⟨Or.inr rfl, ⟨Or.inl rfl, trivial⟩⟩⟩⟩
  replace H := H.2
  refine R.tri (k9 := 3433489) (fun b28 => ?_) (fun b28 => ?_)
  · replace H := H.1 b28
    refine r_lookup (tgt := 92) dX11_told_14 (by decide) (by rw [b28]; first | done | rfl) rfl ?_
    refine r_aload_n dX11_told_92 rfl rfl ?_
    refine r_ldcS (n := 33) dX11_told_93 rfl ?_
    obtain ⟨_, k29, k29a, k29b⟩ := ko_use (by decide) (koE x9 (by decide) k5)
    refine r_invV (y := m_J10_equals) dX11_told_95 rfl (lw_V q3146 q2192 q3693 q120 q2193) py_J10_equals (Nat.le_of_ble_eq_true rfl) (args := [_]) rfl rfl (Nat.le_of_ble_eq_true rfl) k29 k29a (k29b.trans rfl) (C.monoE H (fun o h30 _ x32 K => cont_I K (fun v31 H => ?_) (fun r HX => XR_nc rfl HX)))
    refine r_if_eq (tgt := 131) dX11_told_98 rfl (fun b33 => ?_) (fun b33 => ?_)
    · replace H := H.1 b33
      exact R.forget (v_X11_told_131 H) ⟨Or.inl rfl, ⟨Or.inl rfl, ⟨Or.inr rfl, ⟨Or.inl rfl, trivial⟩⟩⟩⟩
    · replace H := H.2 b33
      refine r_iconst dX11_told_101 rfl ?_
      refine r_istore_n dX11_told_102 rfl (Nat.le_of_ble_eq_true rfl) rfl (slS (slS (slS sl0))) ?_
      refine r_goto (tgt := 131) dX11_told_103 rfl ?_
      exact R.forget (v_X11_told_131 H) ⟨Or.inl rfl, ⟨Or.inl rfl, ⟨Or.inr rfl, ⟨Or.inl rfl, trivial⟩⟩⟩⟩
  replace H := H.2
  refine R.tri (k9 := 3641989) (fun b34 => ?_) (fun b34 => ?_)
  · replace H := H.1 b34
    refine r_lookup (tgt := 106) dX11_told_14 (by decide) (by rw [b34]; first | done | rfl) rfl ?_
    refine r_aload_n dX11_told_106 rfl rfl ?_
    refine r_ldcS (n := 34) dX11_told_107 rfl ?_
    obtain ⟨_, k35, k35a, k35b⟩ := ko_use (by decide) (koE x9 (by decide) k5)
    refine r_invV (y := m_J10_equals) dX11_told_109 rfl (lw_V q3146 q2192 q3693 q120 q2193) py_J10_equals (Nat.le_of_ble_eq_true rfl) (args := [_]) rfl rfl (Nat.le_of_ble_eq_true rfl) k35 k35a (k35b.trans rfl) (C.monoE H (fun o h36 _ x38 K => cont_I K (fun v37 H => ?_) (fun r HX => XR_nc rfl HX)))
    refine r_if_eq (tgt := 131) dX11_told_112 rfl (fun b39 => ?_) (fun b39 => ?_)
    · replace H := H.1 b39
      exact R.forget (v_X11_told_131 H) ⟨Or.inl rfl, ⟨Or.inl rfl, ⟨Or.inr rfl, ⟨Or.inl rfl, trivial⟩⟩⟩⟩
    · replace H := H.2 b39
      refine r_iconst dX11_told_115 rfl ?_
      refine r_istore_n dX11_told_116 rfl (Nat.le_of_ble_eq_true rfl) rfl (slS (slS (slS sl0))) ?_
      refine r_goto (tgt := 131) dX11_told_117 rfl ?_
      exact R.forget (v_X11_told_131 H) ⟨Or.inl rfl, ⟨Or.inl rfl, ⟨Or.inr rfl, ⟨Or.inl rfl, trivial⟩⟩⟩⟩
  replace H := H.2
  replace H := H b10 b16 b22 b28 b34
  refine r_lookup (tgt := 131) (off := 117) dX11_told_14 (by decide) (lookDef (List.forall_mem_cons.mpr ⟨b10, (List.forall_mem_cons.mpr ⟨b16, (List.forall_mem_cons.mpr ⟨b22, (List.forall_mem_cons.mpr ⟨b28, (List.forall_mem_cons.mpr ⟨b34, (fun _ h => absurd h List.not_mem_nil)⟩)⟩)⟩)⟩)⟩)) rfl ?_
  exact R.forget (v_X11_told_131 H) ⟨Or.inl rfl, ⟨Or.inl rfl, ⟨Or.inr rfl, ⟨Or.inl rfl, trivial⟩⟩⟩⟩
theorem c_X11_told_0 {g : PG} {d : Nat} {l0 : Nat} {l1 : Nat} {h : PH} {Q : Out → PH → Prop} (H : w_X11_told_0 g d l0 l1 h Q) : C g (d + 1) m_X11_told [.ref l0, .ref l1] h Q := C_of_R rfl rfl (Nat.le_of_ble_eq_true rfl) rfl (v_X11_told_0 H)
abbrev w_X11_came_0 (g : PG) (d : Nat) (l0 : Nat) (h : PH) (Q : Out → PH → Prop) : Prop := hkd h l0 = 9 ∧ C g d m_X11_digit [.ref l0] h (oI (fun v3 h2 => C g d m_X11_countBehind [.ref l0, .ref (gSr g 38 + 1)] h2 (oI (fun v6 h5 => ∀ h8, h8 = hnew 6 0 5 h5 → hkd h8 l0 = 9 ∧ C g d m_X11_countBehind [.ref l0, .ref (gSr g 37 + 1)] h8 (oI (fun v11 h10 => 0 < (hnx h5) ∧ C g d m_X5_init [.ref (hnx h5), .ref (gSr g 30 + 1), .int v3, .int v6, .int v11] h10 (oV (fun h14 => Q (.inl (some (.ref (hnx h5)))) h14) (fun r hx => Q (.inr r) hx))) (fun r hx => Q (.inr r) hx))) (fun r hx => Q (.inr r) hx))) (fun r hx => Q (.inr r) hx))
theorem v_X11_came_0 {g : PG} {d : Nat} {l0 : Nat} {h : PH} {Q : Out → PH → Prop} (H : w_X11_came_0 g d l0 h Q) : R g d m_X11_came 0 [.ref l0, .null, .null] [] h Q := by
  refine r_aload_n dX11_came_0 rfl rfl ?_
  obtain ⟨k1, H⟩ := H
  refine r_invV (y := m_X11_digit) dX11_came_1 rfl (lw_V q3159 q3161 qp60 q173 q3162) py_X11_digit (Nat.le_of_ble_eq_true rfl) (args := []) rfl rfl (Nat.le_of_ble_eq_true rfl) k1 (by decide) rfl (C.monoE H (fun o h2 _ x4 K => cont_I K (fun v3 H => ?_) (fun r HX => XR_nc rfl HX)))
  refine r_istore_n dX11_came_4 rfl (Nat.le_of_ble_eq_true rfl) rfl (slS sl0) ?_
  refine r_aload_n dX11_came_5 rfl rfl ?_
  refine r_ldcS (n := 38) dX11_came_6 rfl ?_
  refine r_invV (y := m_X11_countBehind) dX11_came_8 rfl (lw_V q3169 q3171 qp62 q173 q3172) py_X11_countBehind (Nat.le_of_ble_eq_true rfl) (args := [_]) rfl rfl (Nat.le_of_ble_eq_true rfl) (x4.kd k1 (by decide)) (by decide) rfl (C.monoE H (fun o h5 _ x7 K => cont_I K (fun v6 H => ?_) (fun r HX => XR_nc rfl HX)))
  refine r_istore_n dX11_came_11 rfl (Nat.le_of_ble_eq_true rfl) rfl (slS (slS sl0)) ?_
  replace H := H _ rfl
  refine r_new (ci := 6) dX11_came_12 rfl (by decide) q3147 q2293 q129 ?_
  refine r_dup dX11_came_15 rfl ?_
  refine r_ldcS (n := 30) dX11_came_16 rfl ?_
  refine r_iload_n dX11_came_18 rfl rfl ?_
  refine r_iload_n dX11_came_19 rfl rfl ?_
  refine r_aload_n dX11_came_20 rfl rfl ?_
  refine r_ldcS (n := 37) dX11_came_21 rfl ?_
  obtain ⟨k9, H⟩ := H
  refine r_invV (y := m_X11_countBehind) dX11_came_23 rfl (lw_V q3169 q3171 qp62 q173 q3172) py_X11_countBehind (Nat.le_of_ble_eq_true rfl) (args := [_]) rfl rfl (Nat.le_of_ble_eq_true rfl) k9 (by decide) rfl (C.monoE H (fun o h10 _ x12 K => cont_I K (fun v11 H => ?_) (fun r HX => XR_nc rfl HX)))
  obtain ⟨k13, H⟩ := H
  refine r_invIN (y := m_X5_init) dX11_came_26 rfl rfl q3177 q2297 q129 q2296 rfl py_X5_init (Nat.le_of_ble_eq_true rfl) (args := [_, _, _, _]) rfl rfl (Nat.le_of_ble_eq_true rfl) k13 (C.monoE H (fun o h14 _ x16 K => cont_V K (fun H => ?_) (fun r HX => XR_nc rfl HX)))
  exact r_aret dX11_came_29 rfl H
theorem c_X11_came_0 {g : PG} {d : Nat} {l0 : Nat} {h : PH} {Q : Out → PH → Prop} (H : w_X11_came_0 g d l0 h Q) : C g (d + 1) m_X11_came [.ref l0] h Q := C_of_R rfl rfl (Nat.le_of_ble_eq_true rfl) rfl (v_X11_came_0 H)
abbrev w_X11_digit_0 (g : PG) (d : Nat) (l0 : Nat) (h : PH) (Q : Out → PH → Prop) : Prop := hkd h l0 = 9 ∧ C g d m_X11_isDigit [.ref l0] h (oI (fun v3 h2 => C g d m_X11_need [.ref l0, .int v3] h2 (oV (fun h5 => ∀ h8, h8 = setF 26 l0 ((hF h5 26 l0) + (1 : Int32)) h5 → hkd h8 (hG h8 519 l0) = 1 ∧ hkd h8 (hG h8 505 (hG h8 519 l0)) / 100 = 2 ∧ vp_in ((hF h8 26 l0) - (1 : Int32)) (hln h8 (hG h8 505 (hG h8 519 l0))) ∧ Q (.inl (some (.int ((hA h8 (hG h8 505 (hG h8 519 l0)) ((hF h8 26 l0) - (1 : Int32)).toNatClampNeg) - (48 : Int32))))) h8) (fun r hx => Q (.inr r) hx))) (fun r hx => Q (.inr r) hx))
theorem v_X11_digit_0 {g : PG} {d : Nat} {l0 : Nat} {h : PH} {Q : Out → PH → Prop} (H : w_X11_digit_0 g d l0 h Q) : R g d m_X11_digit 0 [.ref l0] [] h Q := by
  refine r_aload_n dX11_digit_0 rfl rfl ?_
  refine r_aload_n dX11_digit_1 rfl rfl ?_
  obtain ⟨k1, H⟩ := H
  refine r_invV (y := m_X11_isDigit) dX11_digit_2 rfl (lw_V q3163 q3165 qp61 q173 q3166) py_X11_isDigit (Nat.le_of_ble_eq_true rfl) (args := []) rfl rfl (Nat.le_of_ble_eq_true rfl) k1 (by decide) rfl (C.monoE H (fun o h2 _ x4 K => cont_I K (fun v3 H => ?_) (fun r HX => XR_nc rfl HX)))
  refine r_invV (y := m_X11_need) dX11_digit_5 rfl (lw_V q3093 q3095 qp55 q173 q3096) py_X11_need (Nat.le_of_ble_eq_true rfl) (args := [_]) rfl rfl (Nat.le_of_ble_eq_true rfl) (x4.kd k1 (by decide)) (by decide) rfl (C.monoE H (fun o h5 _ x7 K => cont_V K (fun H => ?_) (fun r HX => XR_nc rfl HX)))
  refine r_aload_n dX11_digit_8 rfl rfl ?_
  refine r_dup dX11_digit_9 rfl ?_
  refine r_getF fr_X11_17_9 (by decide) dX11_digit_10 (x7.kd (x4.kd k1 (by decide)) (by decide)) (by decide) ?_
  refine r_iconst dX11_digit_13 rfl ?_
  refine r_iadd dX11_digit_14 ?_
  replace H := H _ rfl
  refine r_putF fw_X11_17_9 (by decide) dX11_digit_15 (x7.kd (x4.kd k1 (by decide)) (by decide)) (by decide) rfl rfl ?_
  refine r_aload_n dX11_digit_18 rfl rfl ?_
  refine r_getG fr_X11_3_9 (by decide) dX11_digit_19 (x7.kd (x4.kd k1 (by decide)) (by decide)) (by decide) ?_
  obtain ⟨k9, H⟩ := H
  refine r_getG fr_X11_27_1 (by decide) dX11_digit_22 k9 (by decide) ?_
  refine r_aload_n dX11_digit_25 rfl rfl ?_
  refine r_getF fr_X11_17_9 (by decide) dX11_digit_26 (x7.kd (x4.kd k1 (by decide)) (by decide)) (by decide) ?_
  refine r_iconst dX11_digit_29 rfl ?_
  refine r_isub dX11_digit_30 ?_
  obtain ⟨k10, H⟩ := H
  obtain ⟨k11, H⟩ := H
  refine r_cald dX11_digit_31 k10 k11 ?_
  refine r_bipush dX11_digit_32 rfl ?_
  refine r_isub dX11_digit_34 ?_
  exact r_iret dX11_digit_35 rfl H
theorem c_X11_digit_0 {g : PG} {d : Nat} {l0 : Nat} {h : PH} {Q : Out → PH → Prop} (H : w_X11_digit_0 g d l0 h Q) : C g (d + 1) m_X11_digit [.ref l0] h Q := C_of_R rfl rfl (Nat.le_of_ble_eq_true rfl) rfl (v_X11_digit_0 H)
abbrev w_X11_isDigit_0 (g : PG) (d : Nat) (l0 : Nat) (h : PH) (Q : Out → PH → Prop) : Prop := hkd h l0 = 9 ∧ C g d m_X11_at [.ref l0, .int (hF h 26 l0)] h (oI (fun v3 h2 => C g d m_X1_inRange [.int v3, .int 48, .int 57] h2 (oI (fun v6 h5 => narrow .boolean (.int v6) = .int v6 ∧ Q (.inl (some (.int v6))) h5) (fun r hx => Q (.inr r) hx))) (fun r hx => Q (.inr r) hx))
theorem v_X11_isDigit_0 {g : PG} {d : Nat} {l0 : Nat} {h : PH} {Q : Out → PH → Prop} (H : w_X11_isDigit_0 g d l0 h Q) : R g d m_X11_isDigit 0 [.ref l0] [] h Q := by
  refine r_aload_n dX11_isDigit_0 rfl rfl ?_
  refine r_aload_n dX11_isDigit_1 rfl rfl ?_
  obtain ⟨k1, H⟩ := H
  refine r_getF fr_X11_17_9 (by decide) dX11_isDigit_2 k1 (by decide) ?_
  refine r_invV (y := m_X11_at) dX11_isDigit_5 rfl (lw_V q3078 q3080 qp54 q173 q3081) py_X11_at (Nat.le_of_ble_eq_true rfl) (args := [_]) rfl rfl (Nat.le_of_ble_eq_true rfl) k1 (by decide) rfl (C.monoE H (fun o h2 _ x4 K => cont_I K (fun v3 H => ?_) (fun r HX => XR_nc rfl HX)))
  refine r_bipush dX11_isDigit_8 rfl ?_
  refine r_bipush dX11_isDigit_10 rfl ?_
  refine r_invSN (y := m_X1_inRange) dX11_isDigit_12 rfl q3167 q1612 q107 q1611 py_X1_inRange (Nat.le_of_ble_eq_true rfl) (args := [_, _, _]) rfl rfl (Nat.le_of_ble_eq_true rfl) (C.monoE H (fun o h5 _ x7 K => cont_I K (fun v6 H => ?_) (fun r HX => XR_nc rfl HX)))
  exact r_zret dX11_isDigit_15 rfl H.1 H.2
theorem c_X11_isDigit_0 {g : PG} {d : Nat} {l0 : Nat} {h : PH} {Q : Out → PH → Prop} (H : w_X11_isDigit_0 g d l0 h Q) : C g (d + 1) m_X11_isDigit [.ref l0] h Q := C_of_R rfl rfl (Nat.le_of_ble_eq_true rfl) rfl (v_X11_isDigit_0 H)
abbrev w_X11_countBehind_0 (g : PG) (d : Nat) (l0 : Nat) (l1 : Nat) (h : PH) (Q : Out → PH → Prop) : Prop := hkd h l0 = 9 ∧ C g d m_X11_needAll [.ref l0, .ref l1] h (oV (fun h2 => C g d m_X11_count [.ref l0] h2 (oI (fun v6 h5 => Q (.inl (some (.int v6))) h5) (fun r hx => Q (.inr r) hx))) (fun r hx => Q (.inr r) hx))
theorem v_X11_countBehind_0 {g : PG} {d : Nat} {l0 : Nat} {l1 : Nat} {h : PH} {Q : Out → PH → Prop} (H : w_X11_countBehind_0 g d l0 l1 h Q) : R g d m_X11_countBehind 0 [.ref l0, .ref l1] [] h Q := by
  refine r_aload_n dX11_countBehind_0 rfl rfl ?_
  refine r_aload_n dX11_countBehind_1 rfl rfl ?_
  obtain ⟨k1, H⟩ := H
  refine r_invV (y := m_X11_needAll) dX11_countBehind_2 rfl (lw_V q3116 q3118 qp56 q173 q3119) py_X11_needAll (Nat.le_of_ble_eq_true rfl) (args := [_]) rfl rfl (Nat.le_of_ble_eq_true rfl) k1 (by decide) rfl (C.monoE H (fun o h2 _ x4 K => cont_V K (fun H => ?_) (fun r HX => XR_nc rfl HX)))
  refine r_aload_n dX11_countBehind_5 rfl rfl ?_
  refine r_invV (y := m_X11_count) dX11_countBehind_6 rfl (lw_V q3173 q3175 qp63 q173 q3176) py_X11_count (Nat.le_of_ble_eq_true rfl) (args := []) rfl rfl (Nat.le_of_ble_eq_true rfl) (x4.kd k1 (by decide)) (by decide) rfl (C.monoE H (fun o h5 _ x7 K => cont_I K (fun v6 H => ?_) (fun r HX => XR_nc rfl HX)))
  exact r_iret dX11_countBehind_9 rfl H
theorem c_X11_countBehind_0 {g : PG} {d : Nat} {l0 : Nat} {l1 : Nat} {h : PH} {Q : Out → PH → Prop} (H : w_X11_countBehind_0 g d l0 l1 h Q) : C g (d + 1) m_X11_countBehind [.ref l0, .ref l1] h Q := C_of_R rfl rfl (Nat.le_of_ble_eq_true rfl) rfl (v_X11_countBehind_0 H)
abbrev w_X11_count_0 (g : PG) (d : Nat) (l0 : Nat) (h : PH) (Q : Out → PH → Prop) : Prop := hkd h l0 = 9 ∧ C g d m_X11_digit [.ref l0] h (oI (fun v3 h2 => C g d m_X11_isDigit [.ref l0] h2 (oI (fun v6 h5 => ((v6 = 0) → Q (.inl (some (.int v3))) h5) ∧ ((¬ v6 = 0) → C g d m_X11_digit [.ref l0] h5 (oI (fun v10 h9 => Q (.inl (some (.int (((10 : Int32) * v3) + v10)))) h9) (fun r hx => Q (.inr r) hx)))) (fun r hx => Q (.inr r) hx))) (fun r hx => Q (.inr r) hx))
theorem v_X11_count_0 {g : PG} {d : Nat} {l0 : Nat} {h : PH} {Q : Out → PH → Prop} (H : w_X11_count_0 g d l0 h Q) : R g d m_X11_count 0 [.ref l0, .null] [] h Q := by
  refine r_aload_n dX11_count_0 rfl rfl ?_
  obtain ⟨k1, H⟩ := H
  refine r_invV (y := m_X11_digit) dX11_count_1 rfl (lw_V q3159 q3161 qp60 q173 q3162) py_X11_digit (Nat.le_of_ble_eq_true rfl) (args := []) rfl rfl (Nat.le_of_ble_eq_true rfl) k1 (by decide) rfl (C.monoE H (fun o h2 _ x4 K => cont_I K (fun v3 H => ?_) (fun r HX => XR_nc rfl HX)))
  refine r_istore_n dX11_count_4 rfl (Nat.le_of_ble_eq_true rfl) rfl (slS sl0) ?_
  refine r_aload_n dX11_count_5 rfl rfl ?_
  refine r_invV (y := m_X11_isDigit) dX11_count_6 rfl (lw_V q3163 q3165 qp61 q173 q3166) py_X11_isDigit (Nat.le_of_ble_eq_true rfl) (args := []) rfl rfl (Nat.le_of_ble_eq_true rfl) (x4.kd k1 (by decide)) (by decide) rfl (C.monoE H (fun o h5 _ x7 K => cont_I K (fun v6 H => ?_) (fun r HX => XR_nc rfl HX)))
  refine r_if_eq (tgt := 24) dX11_count_9 rfl (fun b8 => ?_) (fun b8 => ?_)
  · replace H := H.1 b8
    refine r_iload_n dX11_count_24 rfl rfl ?_
    exact r_iret dX11_count_25 rfl H
  · replace H := H.2 b8
    refine r_bipush dX11_count_12 rfl ?_
    refine r_iload_n dX11_count_14 rfl rfl ?_
    refine r_imul dX11_count_15 ?_
    refine r_aload_n dX11_count_16 rfl rfl ?_
    refine r_invV (y := m_X11_digit) dX11_count_17 rfl (lw_V q3159 q3161 qp60 q173 q3162) py_X11_digit (Nat.le_of_ble_eq_true rfl) (args := []) rfl rfl (Nat.le_of_ble_eq_true rfl) (x7.kd (x4.kd k1 (by decide)) (by decide)) (by decide) rfl (C.monoE H (fun o h9 _ x11 K => cont_I K (fun v10 H => ?_) (fun r HX => XR_nc rfl HX)))
    refine r_iadd dX11_count_20 ?_
    refine r_goto (tgt := 25) dX11_count_21 rfl ?_
    exact r_iret dX11_count_25 rfl H
theorem c_X11_count_0 {g : PG} {d : Nat} {l0 : Nat} {h : PH} {Q : Out → PH → Prop} (H : w_X11_count_0 g d l0 h Q) : C g (d + 1) m_X11_count [.ref l0] h Q := C_of_R rfl rfl (Nat.le_of_ble_eq_true rfl) rfl (v_X11_count_0 H)
abbrev w_X11_digitBehind_0 (g : PG) (d : Nat) (l0 : Nat) (l1 : Nat) (h : PH) (Q : Out → PH → Prop) : Prop := hkd h l0 = 9 ∧ C g d m_X11_needAll [.ref l0, .ref l1] h (oV (fun h2 => C g d m_X11_digit [.ref l0] h2 (oI (fun v6 h5 => Q (.inl (some (.int v6))) h5) (fun r hx => Q (.inr r) hx))) (fun r hx => Q (.inr r) hx))
theorem v_X11_digitBehind_0 {g : PG} {d : Nat} {l0 : Nat} {l1 : Nat} {h : PH} {Q : Out → PH → Prop} (H : w_X11_digitBehind_0 g d l0 l1 h Q) : R g d m_X11_digitBehind 0 [.ref l0, .ref l1] [] h Q := by
  refine r_aload_n dX11_digitBehind_0 rfl rfl ?_
  refine r_aload_n dX11_digitBehind_1 rfl rfl ?_
  obtain ⟨k1, H⟩ := H
  refine r_invV (y := m_X11_needAll) dX11_digitBehind_2 rfl (lw_V q3116 q3118 qp56 q173 q3119) py_X11_needAll (Nat.le_of_ble_eq_true rfl) (args := [_]) rfl rfl (Nat.le_of_ble_eq_true rfl) k1 (by decide) rfl (C.monoE H (fun o h2 _ x4 K => cont_V K (fun H => ?_) (fun r HX => XR_nc rfl HX)))
  refine r_aload_n dX11_digitBehind_5 rfl rfl ?_
  refine r_invV (y := m_X11_digit) dX11_digitBehind_6 rfl (lw_V q3159 q3161 qp60 q173 q3162) py_X11_digit (Nat.le_of_ble_eq_true rfl) (args := []) rfl rfl (Nat.le_of_ble_eq_true rfl) (x4.kd k1 (by decide)) (by decide) rfl (C.monoE H (fun o h5 _ x7 K => cont_I K (fun v6 H => ?_) (fun r HX => XR_nc rfl HX)))
  exact r_iret dX11_digitBehind_9 rfl H
theorem c_X11_digitBehind_0 {g : PG} {d : Nat} {l0 : Nat} {l1 : Nat} {h : PH} {Q : Out → PH → Prop} (H : w_X11_digitBehind_0 g d l0 l1 h Q) : C g (d + 1) m_X11_digitBehind [.ref l0, .ref l1] h Q := C_of_R rfl rfl (Nat.le_of_ble_eq_true rfl) rfl (v_X11_digitBehind_0 H)
abbrev w_X11_warmed_25 (g : PG) (d : Nat) (l0 : Nat) (l1 : Int32) (s0 : Int32) (h : PH) (Q : Out → PH → Prop) : Prop := ∀ h1, h1 = hnew 6 0 5 h → hkd h1 l0 = 9 ∧ C g d m_X11_digit [.ref l0] h1 (oI (fun v4 h3 => 0 < (hnx h) ∧ C g d m_X5_init_2 [.ref (hnx h), .ref (gSr g 34 + 1), .int l1, .int (s0 * v4)] h3 (oV (fun h7 => Q (.inl (some (.ref (hnx h)))) h7) (fun r hx => Q (.inr r) hx))) (fun r hx => Q (.inr r) hx))
theorem v_X11_warmed_25 {g : PG} {d : Nat} {l0 : Nat} {l1 : Int32} {s0 : Int32} {h : PH} {Q : Out → PH → Prop} (H : w_X11_warmed_25 g d l0 l1 s0 h Q) : R g d m_X11_warmed 25 [.ref l0, .int l1, .null] [.int s0] h Q := by
  refine r_istore_n dX11_warmed_25 rfl (Nat.le_of_ble_eq_true rfl) rfl (slS (slS sl0)) ?_
  replace H := H _ rfl
  refine r_new (ci := 6) dX11_warmed_26 rfl (by decide) q3147 q2293 q129 ?_
  refine r_dup dX11_warmed_29 rfl ?_
  refine r_ldcS (n := 34) dX11_warmed_30 rfl ?_
  refine r_iload_n dX11_warmed_32 rfl rfl ?_
  refine r_iload_n dX11_warmed_33 rfl rfl ?_
  refine r_aload_n dX11_warmed_34 rfl rfl ?_
  obtain ⟨k2, H⟩ := H
  refine r_invV (y := m_X11_digit) dX11_warmed_35 rfl (lw_V q3159 q3161 qp60 q173 q3162) py_X11_digit (Nat.le_of_ble_eq_true rfl) (args := []) rfl rfl (Nat.le_of_ble_eq_true rfl) k2 (by decide) rfl (C.monoE H (fun o h3 _ x5 K => cont_I K (fun v4 H => ?_) (fun r HX => XR_nc rfl HX)))
  refine r_imul dX11_warmed_38 ?_
  obtain ⟨k6, H⟩ := H
  refine r_invI (y := m_X5_init_2) dX11_warmed_39 rfl rfl q2644 q129 q3148 q2643 rfl py_X5_init_2 (Nat.le_of_ble_eq_true rfl) (args := [_, _, _]) rfl rfl (Nat.le_of_ble_eq_true rfl) k6 (C.monoE H (fun o h7 _ x9 K => cont_V K (fun H => ?_) (fun r HX => XR_nc rfl HX)))
  exact r_aret dX11_warmed_42 rfl H
abbrev w_X11_warmed_0 (g : PG) (d : Nat) (l0 : Nat) (h : PH) (Q : Out → PH → Prop) : Prop := hkd h l0 = 9 ∧ C g d m_X11_count [.ref l0] h (oI (fun v3 h2 => C g d m_X11_needAll [.ref l0, .ref (gSr g 40 + 1)] h2 (oV (fun h5 => C g d m_X11_takes [.ref l0, .int 45] h5 (oI (fun v9 h8 => ((v9 = 0) → w_X11_warmed_25 g d l0 v3 (1 : Int32) h8 Q) ∧ ((¬ v9 = 0) → w_X11_warmed_25 g d l0 v3 (-1 : Int32) h8 Q)) (fun r hx => Q (.inr r) hx))) (fun r hx => Q (.inr r) hx))) (fun r hx => Q (.inr r) hx))
theorem v_X11_warmed_0 {g : PG} {d : Nat} {l0 : Nat} {h : PH} {Q : Out → PH → Prop} (H : w_X11_warmed_0 g d l0 h Q) : R g d m_X11_warmed 0 [.ref l0, .null, .null] [] h Q := by
  refine r_aload_n dX11_warmed_0 rfl rfl ?_
  obtain ⟨k1, H⟩ := H
  refine r_invV (y := m_X11_count) dX11_warmed_1 rfl (lw_V q3173 q3175 qp63 q173 q3176) py_X11_count (Nat.le_of_ble_eq_true rfl) (args := []) rfl rfl (Nat.le_of_ble_eq_true rfl) k1 (by decide) rfl (C.monoE H (fun o h2 _ x4 K => cont_I K (fun v3 H => ?_) (fun r HX => XR_nc rfl HX)))
  refine r_istore_n dX11_warmed_4 rfl (Nat.le_of_ble_eq_true rfl) rfl (slS sl0) ?_
  refine r_aload_n dX11_warmed_5 rfl rfl ?_
  refine r_ldcS (n := 40) dX11_warmed_6 rfl ?_
  refine r_invV (y := m_X11_needAll) dX11_warmed_8 rfl (lw_V q3116 q3118 qp56 q173 q3119) py_X11_needAll (Nat.le_of_ble_eq_true rfl) (args := [_]) rfl rfl (Nat.le_of_ble_eq_true rfl) (x4.kd k1 (by decide)) (by decide) rfl (C.monoE H (fun o h5 _ x7 K => cont_V K (fun H => ?_) (fun r HX => XR_nc rfl HX)))
  refine r_aload_n dX11_warmed_11 rfl rfl ?_
  refine r_bipush dX11_warmed_12 rfl ?_
  refine r_invV (y := m_X11_takes) dX11_warmed_14 rfl (lw_V q3142 q3144 qp57 q173 q3145) py_X11_takes (Nat.le_of_ble_eq_true rfl) (args := [_]) rfl rfl (Nat.le_of_ble_eq_true rfl) (x7.kd (x4.kd k1 (by decide)) (by decide)) (by decide) rfl (C.monoE H (fun o h8 _ x10 K => cont_I K (fun v9 H => ?_) (fun r HX => XR_nc rfl HX)))
  refine r_if_eq (tgt := 24) dX11_warmed_17 rfl (fun b11 => ?_) (fun b11 => ?_)
  · replace H := H.1 b11
    refine r_iconst dX11_warmed_24 rfl ?_
    exact v_X11_warmed_25 H
  · replace H := H.2 b11
    refine r_iconst dX11_warmed_20 rfl ?_
    refine r_goto (tgt := 25) dX11_warmed_21 rfl ?_
    exact v_X11_warmed_25 H
theorem c_X11_warmed_0 {g : PG} {d : Nat} {l0 : Nat} {h : PH} {Q : Out → PH → Prop} (H : w_X11_warmed_0 g d l0 h Q) : C g (d + 1) m_X11_warmed [.ref l0] h Q := C_of_R rfl rfl (Nat.le_of_ble_eq_true rfl) rfl (v_X11_warmed_0 H)
abbrev w_X12_init_0 (g : PG) (d : Nat) (l0 : Nat) (l1 : Int32) (h : PH) (Q : Out → PH → Prop) : Prop := 0 < l0 ∧ C g d m_J13_init_4 [.ref l0, .ref (0 : Nat), .ref (0 : Nat), .int 0, .int 0] h (oV (fun h2 => hkd h2 l0 = 8 ∧ ∀ h6, h6 = setF 25 l0 l1 h2 → Q (.inl none) h6) (fun r hx => Q (.inr r) hx))
theorem v_X12_init_0 {g : PG} {d : Nat} {l0 : Nat} {l1 : Int32} {h : PH} {Q : Out → PH → Prop} (H : w_X12_init_0 g d l0 l1 h Q) : R g d m_X12_init 0 [.ref l0, .int l1] [] h Q := by
  refine r_aload_n dX12_init_0 rfl rfl ?_
  refine r_null dX12_init_1 ?_
  refine r_null dX12_init_2 ?_
  refine r_iconst dX12_init_3 rfl ?_
  refine r_iconst dX12_init_4 rfl ?_
  obtain ⟨k1, H⟩ := H
  refine r_invI (y := m_J13_init_4) dX12_init_5 rfl rfl q2436 q124 q3109 q2435 rfl py_J13_init_4 (Nat.le_of_ble_eq_true rfl) (args := [_, _, _, _]) rfl rfl (Nat.le_of_ble_eq_true rfl) k1 (C.monoE H (fun o h2 _ x4 K => cont_V K (fun H => ?_) (fun r HX => XR_nc rfl HX)))
  refine r_aload_n dX12_init_8 rfl rfl ?_
  refine r_iload_n dX12_init_9 rfl rfl ?_
  obtain ⟨k5, H⟩ := H
  replace H := H _ rfl
  refine r_putF fw_X12_7_8_i (by decide) dX12_init_10 k5 (by decide) rfl rfl ?_
  exact r_vret dX12_init_13 rfl H
theorem c_X12_init_0 {g : PG} {d : Nat} {l0 : Nat} {l1 : Int32} {h : PH} {Q : Out → PH → Prop} (H : w_X12_init_0 g d l0 l1 h Q) : C g (d + 1) m_X12_init [.ref l0, .int l1] h Q := C_of_R rfl rfl (Nat.le_of_ble_eq_true rfl) rfl (v_X12_init_0 H)
abbrev w_X2_init_93 (g : PG) (d : Nat) (l0 : Nat) (l1 : Int32) (h : PH) (Q : Out → PH → Prop) : Prop := (((12 : Int32) ≤ l1) → Q (.inl none) h) ∧ ((¬ (12 : Int32) ≤ l1) → hkd h l0 = 2 ∧ ∀ h3, h3 = hnew 3 0 4 h → 0 < (hnx h) ∧ C g d m_X3_init [.ref (hnx h)] h3 (oV (fun h5 => hkd h5 (hG h 506 l0) / 100 = 7 ∧ hkd h5 (hG h 506 l0) % 100 < 50 ∧ vp_in l1 (hln h5 (hG h 506 l0)) ∧ okA h5 (hnx h) "SnowRelay$Plank" ∧ ∀ h12, h12 = setB (hG h 506 l0) l1.toNatClampNeg (hnx h) h5 → R g d m_X2_init 93 [.ref l0, .int (l1 + 1)] [] h12 Q) (fun r hx => Q (.inr r) hx)))
theorem v_X2_init_93 {g : PG} {d : Nat} {l0 : Nat} {l1 : Int32} {h : PH} {Q : Out → PH → Prop} (H : w_X2_init_93 g d l0 l1 h Q) : R g d m_X2_init 93 [.ref l0, .int l1] [] h Q := by
  refine r_iload_n dX2_init_93 rfl rfl ?_
  refine r_bipush dX2_init_94 rfl ?_
  refine r_icmp_ge (tgt := 118) dX2_init_96 rfl (fun b1 => ?_) (fun b1 => ?_)
  · replace H := H.1 b1
    exact r_vret dX2_init_118 rfl H
  · replace H := H.2 b1
    refine r_aload_n dX2_init_99 rfl rfl ?_
    obtain ⟨k2, H⟩ := H
    refine r_getG fr_X2_11_2 (by decide) dX2_init_100 k2 (by decide) ?_
    refine r_iload_n dX2_init_103 rfl rfl ?_
    replace H := H _ rfl
    refine r_new (ci := 3) dX2_init_104 rfl (by decide) q190 q284 q116 ?_
    refine r_dup dX2_init_107 rfl ?_
    obtain ⟨k4, H⟩ := H
    refine r_invI (y := m_X3_init) dX2_init_108 rfl rfl q287 q116 q285 q286 rfl py_X3_init (Nat.le_of_ble_eq_true rfl) (args := []) rfl rfl (Nat.le_of_ble_eq_true rfl) k4 (C.monoE H (fun o h5 _ x7 K => cont_V K (fun H => ?_) (fun r HX => XR_nc rfl HX)))
    obtain ⟨k8, H⟩ := H
    obtain ⟨k9, H⟩ := H
    obtain ⟨k10, H⟩ := H
    obtain ⟨k11, H⟩ := H
    replace H := H _ rfl
    refine r_aastO dX2_init_111 (m := 7) (by decide) rfl k8 k9 k10 k11 ?_
    refine r_iinc dX2_init_112 rfl rfl (Nat.le_of_ble_eq_true rfl) rfl (slS sl0) ?_
    refine r_goto (tgt := 93) dX2_init_115 rfl ?_
    exact H
abbrev w_X2_init_0 (g : PG) (d : Nat) (l0 : Nat) (h : PH) (Q : Out → PH → Prop) : Prop := 0 < l0 ∧ ¬ (12 : Int32) < 0 ∧ (12 : Int32).toNatClampNeg ≤ 67108864 ∧ ∀ h4, h4 = hnew 700 (12 : Int32).toNatClampNeg ((12 : Int32).toNatClampNeg + 1) h → hkd h4 l0 = 2 ∧ ∀ h6, h6 = setG 506 l0 (hnx h) h4 → ∀ h7, h7 = hnew 13 0 4 h6 → 0 < (hnx h6) ∧ C g d m_J2_init [.ref (hnx h6)] h7 (oV (fun h9 => hkd h9 l0 = 2 ∧ ∀ h13, h13 = setG 507 l0 (hnx h6) h9 → ¬ (3 : Int32) < 0 ∧ (3 : Int32).toNatClampNeg ≤ 67108864 ∧ ∀ h16, h16 = hnew 100 (3 : Int32).toNatClampNeg ((3 : Int32).toNatClampNeg + 1) h13 → hkd h16 (hnx h13) / 100 = 1 ∧ hkd h16 (hnx h13) % 100 < 50 ∧ vp_in (0 : Int32) (hln h16 (hnx h13)) ∧ ∀ h20, h20 = setA (hnx h13) (0 : Int32).toNatClampNeg (-1 : Int32) h16 → hkd h20 (hnx h13) / 100 = 1 ∧ hkd h20 (hnx h13) % 100 < 50 ∧ vp_in (1 : Int32) (hln h20 (hnx h13)) ∧ ∀ h24, h24 = setA (hnx h13) (1 : Int32).toNatClampNeg (-1 : Int32) h20 → hkd h24 (hnx h13) / 100 = 1 ∧ hkd h24 (hnx h13) % 100 < 50 ∧ vp_in (2 : Int32) (hln h24 (hnx h13)) ∧ ∀ h28, h28 = setA (hnx h13) (2 : Int32).toNatClampNeg (-1 : Int32) h24 → hkd h28 l0 = 2 ∧ ∀ h30, h30 = setG 508 l0 (hnx h13) h28 → ∀ h33, h33 = hnew 100 (3 : Int32).toNatClampNeg ((3 : Int32).toNatClampNeg + 1) h30 → hkd h33 (hnx h30) / 100 = 1 ∧ hkd h33 (hnx h30) % 100 < 50 ∧ vp_in (0 : Int32) (hln h33 (hnx h30)) ∧ ∀ h37, h37 = setA (hnx h30) (0 : Int32).toNatClampNeg (-1 : Int32) h33 → hkd h37 (hnx h30) / 100 = 1 ∧ hkd h37 (hnx h30) % 100 < 50 ∧ vp_in (1 : Int32) (hln h37 (hnx h30)) ∧ ∀ h41, h41 = setA (hnx h30) (1 : Int32).toNatClampNeg (-1 : Int32) h37 → hkd h41 (hnx h30) / 100 = 1 ∧ hkd h41 (hnx h30) % 100 < 50 ∧ vp_in (2 : Int32) (hln h41 (hnx h30)) ∧ ∀ h45, h45 = setA (hnx h30) (2 : Int32).toNatClampNeg (-1 : Int32) h41 → hkd h45 l0 = 2 ∧ ∀ h47, h47 = setG 509 l0 (hnx h30) h45 → ∀ h50, h50 = hnew 100 (3 : Int32).toNatClampNeg ((3 : Int32).toNatClampNeg + 1) h47 → hkd h50 l0 = 2 ∧ ∀ h52, h52 = setG 510 l0 (hnx h47) h50 → ∀ h53, h53 = hnew 15 0 10 h52 → 0 < (hnx h52) ∧ C g d m_J4_init [.ref (hnx h52)] h53 (oV (fun h55 => hkd h55 l0 = 2 ∧ ∀ h59, h59 = setG 511 l0 (hnx h52) h55 → ∀ h60, h60 = hnew 23 0 5 h59 → 0 < (hnx h59) ∧ C g d m_J6_init [.ref (hnx h59)] h60 (oV (fun h62 => hkd h62 l0 = 2 ∧ ∀ h66, h66 = setG 512 l0 (hnx h59) h62 → R g d m_X2_init 93 [.ref l0, .int 0] [] h66 Q) (fun r hx => Q (.inr r) hx))) (fun r hx => Q (.inr r) hx))) (fun r hx => Q (.inr r) hx))
theorem v_X2_init_0 {g : PG} {d : Nat} {l0 : Nat} {h : PH} {Q : Out → PH → Prop} (H : w_X2_init_0 g d l0 h Q) : R g d m_X2_init 0 [.ref l0, .null] [] h Q := by
  refine r_aload_n dX2_init_0 rfl rfl ?_
  obtain ⟨k1, H⟩ := H
  refine r_oinit dX2_init_1 q189 q182 q183 k1 (Nat.le_of_ble_eq_true rfl) ?_
  refine r_aload_n dX2_init_4 rfl rfl ?_
  refine r_bipush dX2_init_5 rfl ?_
  obtain ⟨k2, H⟩ := H
  obtain ⟨k3, H⟩ := H
  replace H := H _ rfl
  refine r_anew (m := 7) (kk := 700) dX2_init_7 rfl (by decide) (by decide) q190 q191 k2 rfl (newB4 k3) ?_
  obtain ⟨k5, H⟩ := H
  replace H := H _ rfl
  refine r_putG fw_X2_11_2_i (by decide) dX2_init_10 k5 (by decide) rfl ?_
  refine r_aload_n dX2_init_13 rfl rfl ?_
  replace H := H _ rfl
  refine r_new (ci := 13) dX2_init_14 rfl (by decide) q192 q193 q111 ?_
  refine r_dup dX2_init_17 rfl ?_
  obtain ⟨k8, H⟩ := H
  refine r_invI (y := m_J2_init) dX2_init_18 rfl rfl q196 q111 q194 q195 rfl py_J2_init (Nat.le_of_ble_eq_true rfl) (args := []) rfl rfl (Nat.le_of_ble_eq_true rfl) k8 (C.monoE H (fun o h9 _ x11 K => cont_V K (fun H => ?_) (fun r HX => XR_nc rfl HX)))
  obtain ⟨k12, H⟩ := H
  replace H := H _ rfl
  refine r_putG fw_X2_20_2_i (by decide) dX2_init_21 k12 (by decide) rfl ?_
  refine r_aload_n dX2_init_24 rfl rfl ?_
  refine r_iconst dX2_init_25 rfl ?_
  obtain ⟨k14, H⟩ := H
  obtain ⟨k15, H⟩ := H
  replace H := H _ rfl
  refine r_newa (atype := .int) (m := 1) (kk := 100) dX2_init_26 rfl (by decide) (by decide) q262 k14 rfl (newB k15 (by decide)) ?_
  refine r_dup dX2_init_28 rfl ?_
  refine r_iconst dX2_init_29 rfl ?_
  refine r_iconst dX2_init_30 rfl ?_
  obtain ⟨k17, H⟩ := H
  obtain ⟨k18, H⟩ := H
  obtain ⟨k19, H⟩ := H
  replace H := H _ rfl
  refine r_iast dX2_init_31 k17 k18 k19 ?_
  refine r_dup dX2_init_32 rfl ?_
  refine r_iconst dX2_init_33 rfl ?_
  refine r_iconst dX2_init_34 rfl ?_
  obtain ⟨k21, H⟩ := H
  obtain ⟨k22, H⟩ := H
  obtain ⟨k23, H⟩ := H
  replace H := H _ rfl
  refine r_iast dX2_init_35 k21 k22 k23 ?_
  refine r_dup dX2_init_36 rfl ?_
  refine r_iconst dX2_init_37 rfl ?_
  refine r_iconst dX2_init_38 rfl ?_
  obtain ⟨k25, H⟩ := H
  obtain ⟨k26, H⟩ := H
  obtain ⟨k27, H⟩ := H
  replace H := H _ rfl
  refine r_iast dX2_init_39 k25 k26 k27 ?_
  obtain ⟨k29, H⟩ := H
  replace H := H _ rfl
  refine r_putG fw_X2_24_2_i (by decide) dX2_init_40 k29 (by decide) rfl ?_
  refine r_aload_n dX2_init_43 rfl rfl ?_
  refine r_iconst dX2_init_44 rfl ?_
  replace H := H _ rfl
  refine r_newa (atype := .int) (m := 1) (kk := 100) dX2_init_45 rfl (by decide) (by decide) q262 k14 rfl (newB k15 (by decide)) ?_
  refine r_dup dX2_init_47 rfl ?_
  refine r_iconst dX2_init_48 rfl ?_
  refine r_iconst dX2_init_49 rfl ?_
  obtain ⟨k34, H⟩ := H
  obtain ⟨k35, H⟩ := H
  obtain ⟨k36, H⟩ := H
  replace H := H _ rfl
  refine r_iast dX2_init_50 k34 k35 k36 ?_
  refine r_dup dX2_init_51 rfl ?_
  refine r_iconst dX2_init_52 rfl ?_
  refine r_iconst dX2_init_53 rfl ?_
  obtain ⟨k38, H⟩ := H
  obtain ⟨k39, H⟩ := H
  obtain ⟨k40, H⟩ := H
  replace H := H _ rfl
  refine r_iast dX2_init_54 k38 k39 k40 ?_
  refine r_dup dX2_init_55 rfl ?_
  refine r_iconst dX2_init_56 rfl ?_
  refine r_iconst dX2_init_57 rfl ?_
  obtain ⟨k42, H⟩ := H
  obtain ⟨k43, H⟩ := H
  obtain ⟨k44, H⟩ := H
  replace H := H _ rfl
  refine r_iast dX2_init_58 k42 k43 k44 ?_
  obtain ⟨k46, H⟩ := H
  replace H := H _ rfl
  refine r_putG fw_X2_28_2_i (by decide) dX2_init_59 k46 (by decide) rfl ?_
  refine r_aload_n dX2_init_62 rfl rfl ?_
  refine r_iconst dX2_init_63 rfl ?_
  replace H := H _ rfl
  refine r_newa (atype := .int) (m := 1) (kk := 100) dX2_init_64 rfl (by decide) (by decide) q262 k14 rfl (newB k15 (by decide)) ?_
  obtain ⟨k51, H⟩ := H
  replace H := H _ rfl
  refine r_putG fw_X2_31_2_i (by decide) dX2_init_66 k51 (by decide) rfl ?_
  refine r_aload_n dX2_init_69 rfl rfl ?_
  replace H := H _ rfl
  refine r_new (ci := 15) dX2_init_70 rfl (by decide) q225 q226 q113 ?_
  refine r_dup dX2_init_73 rfl ?_
  obtain ⟨k54, H⟩ := H
  refine r_invI (y := m_J4_init) dX2_init_74 rfl rfl q229 q113 q227 q228 rfl py_J4_init (Nat.le_of_ble_eq_true rfl) (args := []) rfl rfl (Nat.le_of_ble_eq_true rfl) k54 (C.monoE H (fun o h55 _ x57 K => cont_V K (fun H => ?_) (fun r HX => XR_nc rfl HX)))
  obtain ⟨k58, H⟩ := H
  replace H := H _ rfl
  refine r_putG fw_X2_37_2_i (by decide) dX2_init_77 k58 (by decide) rfl ?_
  refine r_aload_n dX2_init_80 rfl rfl ?_
  replace H := H _ rfl
  refine r_new (ci := 23) dX2_init_81 rfl (by decide) q263 q264 q115 ?_
  refine r_dup dX2_init_84 rfl ?_
  obtain ⟨k61, H⟩ := H
  refine r_invI (y := m_J6_init) dX2_init_85 rfl rfl q267 q115 q265 q266 rfl py_J6_init (Nat.le_of_ble_eq_true rfl) (args := []) rfl rfl (Nat.le_of_ble_eq_true rfl) k61 (C.monoE H (fun o h62 _ x64 K => cont_V K (fun H => ?_) (fun r HX => XR_nc rfl HX)))
  obtain ⟨k65, H⟩ := H
  replace H := H _ rfl
  refine r_putG fw_X2_44_2_i (by decide) dX2_init_88 k65 (by decide) rfl ?_
  refine r_iconst dX2_init_91 rfl ?_
  refine r_istore_n dX2_init_92 rfl (Nat.le_of_ble_eq_true rfl) rfl (slS sl0) ?_
  exact H
theorem c_X2_init_0 {g : PG} {d : Nat} {l0 : Nat} {h : PH} {Q : Out → PH → Prop} (H : w_X2_init_0 g d l0 h Q) : C g (d + 1) m_X2_init [.ref l0] h Q := C_of_R rfl rfl (Nat.le_of_ble_eq_true rfl) rfl (v_X2_init_0 H)
abbrev w_X2_hatsOn_66 (g : PG) (d : Nat) (l0 : Nat) (l1 : Int32) (l3 : Nat) (l4 : Int32) (s0 : Int32) (s1 : Int32) (h : PH) (Q : Out → PH → Prop) : Prop := C g d m_X1_number [.int s1] h (oI (fun v2 h1 => R g d m_X2_hatsOn 15 [.ref l0, .int l1, .int (s0 ||| (v2 <<< (l4 &&& 31))), .ref l3, .null] [] h1 Q) (fun r hx => Q (.inr r) hx))
theorem v_X2_hatsOn_66 {g : PG} {d : Nat} {l0 : Nat} {l1 : Int32} {l3 : Nat} {l4 : Int32} {s0 : Int32} {s1 : Int32} {h : PH} {Q : Out → PH → Prop} (H : w_X2_hatsOn_66 g d l0 l1 l3 l4 s0 s1 h Q) : R g d m_X2_hatsOn 66 [.ref l0, .int l1, .null, .ref l3, .int l4] [.int s1, .int s0] h Q := by
  refine r_invSN (y := m_X1_number) dX2_hatsOn_66 rfl q1533 q1535 q107 q1534 py_X1_number (Nat.le_of_ble_eq_true rfl) (args := [_]) rfl rfl (Nat.le_of_ble_eq_true rfl) (C.monoE H (fun o h1 _ x3 K => cont_I K (fun v2 H => ?_) (fun r HX => XR_nc rfl HX)))
  refine r_iload dX2_hatsOn_69 rfl ?_
  refine r_ishl dX2_hatsOn_71 ?_
  refine r_ior dX2_hatsOn_72 ?_
  refine r_istore_n dX2_hatsOn_73 rfl (Nat.le_of_ble_eq_true rfl) rfl (slS (slS sl0)) ?_
  refine r_goto (tgt := 15) dX2_hatsOn_74 rfl ?_
  exact R.forget H ⟨Or.inl rfl, ⟨Or.inl rfl, ⟨Or.inl rfl, ⟨Or.inl rfl, ⟨Or.inr rfl, trivial⟩⟩⟩⟩⟩
abbrev w_X2_hatsOn_15 (g : PG) (d : Nat) (l0 : Nat) (l1 : Int32) (l2 : Int32) (l3 : Nat) (h : PH) (Q : Out → PH → Prop) : Prop := hkd h l3 = 21 ∧ C g d m_J31_hasNext [.ref l3] h (oI (fun v3 h2 => ((v3 = 0) → Q (.inl (some (.int l2))) h2) ∧ ((¬ v3 = 0) → C g d m_J33_next [.ref l3] h2 (oR (fun v7 h6 => (v7 = 0 ∨ ko h6 v7 30) ∧ ko h6 v7 30 ∧ C g d m_J26_intValue [.ref v7] h6 (oI (fun v13 h12 => hkd h12 l0 = 2 ∧ C g d m_J26_valueOf [.int v13] h12 (oR (fun v17 h16 => hkd h16 (hG h12 511 l0) = 15 ∧ C g d m_J4_get [.ref (hG h12 511 l0), .ref v17] h16 (oR (fun v21 h20 => (v21 = 0 ∨ ko h20 v21 30) ∧ ko h20 v21 30 ∧ C g d m_J26_intValue [.ref v21] h20 (oI (fun v27 h26 => ((¬ v27 = l1) → w_X2_hatsOn_66 g d l0 l1 l3 v13 l2 (0 : Int32) h26 Q) ∧ ((v27 = l1) → w_X2_hatsOn_66 g d l0 l1 l3 v13 l2 (1 : Int32) h26 Q)) (fun r hx => Q (.inr r) hx))) (fun r hx => Q (.inr r) hx))) (fun r hx => Q (.inr r) hx))) (fun r hx => Q (.inr r) hx))) (fun r hx => Q (.inr r) hx)))) (fun r hx => Q (.inr r) hx))
theorem v_X2_hatsOn_15 {g : PG} {d : Nat} {l0 : Nat} {l1 : Int32} {l2 : Int32} {l3 : Nat} {h : PH} {Q : Out → PH → Prop} (H : w_X2_hatsOn_15 g d l0 l1 l2 l3 h Q) : R g d m_X2_hatsOn 15 [.ref l0, .int l1, .int l2, .ref l3, .null] [] h Q := by
  refine r_aload_n dX2_hatsOn_15 rfl rfl ?_
  obtain ⟨k1, H⟩ := H
  refine r_invF (y := m_J31_hasNext) (Cn := "java/util/TreeMap$KeyIterator") (x := ⟨"java/util/Iterator", "hasNext", "()Z"⟩) dX2_hatsOn_16 rfl (lw_F q900 q956 q952 q145 q954) fw_t5 (n := 0) (by decide +kernel) (Nat.le_of_ble_eq_true rfl) (args := []) rfl rfl (Nat.le_of_ble_eq_true rfl) k1 (by decide) rfl (C.monoE H (fun o h2 _ x4 K => cont_I K (fun v3 H => ?_) (fun r HX => XR_nc rfl HX)))
  refine r_if_eq (tgt := 77) dX2_hatsOn_21 rfl (fun b5 => ?_) (fun b5 => ?_)
  · replace H := H.1 b5
    refine r_iload_n dX2_hatsOn_77 rfl rfl ?_
    exact r_iret dX2_hatsOn_78 rfl H
  · replace H := H.2 b5
    refine r_aload_n dX2_hatsOn_24 rfl rfl ?_
    refine r_invF (y := m_J33_next) (Cn := "java/util/TreeMap$KeyIterator") (x := ⟨"java/util/Iterator", "next", "()Ljava/lang/Object;"⟩) dX2_hatsOn_25 rfl (lw_F q962 q1233 q1235 q147 q1237) fw_t10 (n := 0) (by decide +kernel) (Nat.le_of_ble_eq_true rfl) (args := []) rfl rfl (Nat.le_of_ble_eq_true rfl) (x4.kd k1 (by decide)) (by decide) rfl (C.monoE H (fun o h6 _ x8 K => cont_R K (fun v7 H => ?_) (fun r HX => XR_nc rfl HX)))
    obtain ⟨k9, H⟩ := H
    refine r_castOc (kv := 30) dX2_hatsOn_30 q1249 (by decide) (Or.inr rfl) k9 ?_
    obtain ⟨k10, H⟩ := H
    obtain ⟨_, k11, k11a, k11b⟩ := ko_use (by decide) k10
    refine r_invV (y := m_J26_intValue) dX2_hatsOn_33 rfl (lw_V q1250 q1251 q1252 q139 q1253) py_J26_intValue (Nat.le_of_ble_eq_true rfl) (args := []) rfl rfl (Nat.le_of_ble_eq_true rfl) k11 k11a (k11b.trans rfl) (C.monoE H (fun o h12 _ x14 K => cont_I K (fun v13 H => ?_) (fun r HX => XR_nc rfl HX)))
    refine r_istore dX2_hatsOn_36 (Nat.le_of_ble_eq_true rfl) rfl (slS (slS (slS (slS sl0)))) ?_
    refine r_iload_n dX2_hatsOn_38 rfl rfl ?_
    refine r_aload_n dX2_hatsOn_39 rfl rfl ?_
    obtain ⟨k15, H⟩ := H
    refine r_getG fr_X2_37_2 (by decide) dX2_hatsOn_40 k15 (by decide) ?_
    refine r_iload dX2_hatsOn_43 rfl ?_
    refine r_invS (y := m_J26_valueOf) dX2_hatsOn_45 rfl (lw_S q1254 q1255 q139 q1256) py_J26_valueOf (Nat.le_of_ble_eq_true rfl) (args := [_]) rfl rfl (Nat.le_of_ble_eq_true rfl) (C.monoE H (fun o h16 _ x18 K => cont_R K (fun v17 H => ?_) (fun r HX => XR_nc rfl HX)))
    obtain ⟨k19, H⟩ := H
    refine r_invV (y := m_J4_get) dX2_hatsOn_48 rfl (lw_V q1274 q1275 q1276 q113 q1277) py_J4_get (Nat.le_of_ble_eq_true rfl) (args := [_]) rfl rfl (Nat.le_of_ble_eq_true rfl) k19 (by decide) rfl (C.monoE H (fun o h20 _ x22 K => cont_R K (fun v21 H => ?_) (fun r HX => XR_nc rfl HX)))
    obtain ⟨k23, H⟩ := H
    refine r_castOc (kv := 30) dX2_hatsOn_51 q1249 (by decide) (Or.inr rfl) k23 ?_
    obtain ⟨k24, H⟩ := H
    obtain ⟨_, k25, k25a, k25b⟩ := ko_use (by decide) k24
    refine r_invV (y := m_J26_intValue) dX2_hatsOn_54 rfl (lw_V q1250 q1251 q1252 q139 q1253) py_J26_intValue (Nat.le_of_ble_eq_true rfl) (args := []) rfl rfl (Nat.le_of_ble_eq_true rfl) k25 k25a (k25b.trans rfl) (C.monoE H (fun o h26 _ x28 K => cont_I K (fun v27 H => ?_) (fun r HX => XR_nc rfl HX)))
    refine r_iload_n dX2_hatsOn_57 rfl rfl ?_
    refine r_icmp_ne (tgt := 65) dX2_hatsOn_58 rfl (fun b29 => ?_) (fun b29 => ?_)
    · replace H := H.1 b29
      refine r_iconst dX2_hatsOn_65 rfl ?_
      exact R.forget (v_X2_hatsOn_66 H) ⟨Or.inl rfl, ⟨Or.inl rfl, ⟨Or.inr rfl, ⟨Or.inl rfl, ⟨Or.inl rfl, trivial⟩⟩⟩⟩⟩
    · replace H := H.2 b29
      refine r_iconst dX2_hatsOn_61 rfl ?_
      refine r_goto (tgt := 66) dX2_hatsOn_62 rfl ?_
      exact R.forget (v_X2_hatsOn_66 H) ⟨Or.inl rfl, ⟨Or.inl rfl, ⟨Or.inr rfl, ⟨Or.inl rfl, ⟨Or.inl rfl, trivial⟩⟩⟩⟩⟩
abbrev w_X2_hatsOn_0 (g : PG) (d : Nat) (l0 : Nat) (l1 : Int32) (h : PH) (Q : Out → PH → Prop) : Prop := hkd h l0 = 2 ∧ hkd h (hG h 511 l0) = 15 ∧ C g d m_J4_keySet [.ref (hG h 511 l0)] h (oR (fun v4 h3 => hkd h3 v4 = 18 ∧ C g d m_J46_iterator [.ref v4] h3 (oR (fun v8 h7 => R g d m_X2_hatsOn 15 [.ref l0, .int l1, .int 0, .ref v8, .null] [] h7 Q) (fun r hx => Q (.inr r) hx))) (fun r hx => Q (.inr r) hx))
theorem v_X2_hatsOn_0 {g : PG} {d : Nat} {l0 : Nat} {l1 : Int32} {h : PH} {Q : Out → PH → Prop} (H : w_X2_hatsOn_0 g d l0 l1 h Q) : R g d m_X2_hatsOn 0 [.ref l0, .int l1, .null, .null, .null] [] h Q := by
  refine r_iconst dX2_hatsOn_0 rfl ?_
  refine r_istore_n dX2_hatsOn_1 rfl (Nat.le_of_ble_eq_true rfl) rfl (slS (slS sl0)) ?_
  refine r_aload_n dX2_hatsOn_2 rfl rfl ?_
  obtain ⟨k1, H⟩ := H
  refine r_getG fr_X2_37_2 (by decide) dX2_hatsOn_3 k1 (by decide) ?_
  obtain ⟨k2, H⟩ := H
  refine r_invV (y := m_J4_keySet) dX2_hatsOn_6 rfl (lw_V q815 q816 q817 q113 q818) py_J4_keySet (Nat.le_of_ble_eq_true rfl) (args := []) rfl rfl (Nat.le_of_ble_eq_true rfl) k2 (by decide) rfl (C.monoE H (fun o h3 _ x5 K => cont_R K (fun v4 H => ?_) (fun r HX => XR_nc rfl HX)))
  obtain ⟨k6, H⟩ := H
  refine r_invF (y := m_J46_iterator) (Cn := "java/util/TreeMap$KeySet") (x := ⟨"java/util/Set", "iterator", "()Ljava/util/Iterator;"⟩) dX2_hatsOn_9 rfl (lw_F q837 q873 q875 q165 q877) fw_t1 (n := 0) (by decide +kernel) (Nat.le_of_ble_eq_true rfl) (args := []) rfl rfl (Nat.le_of_ble_eq_true rfl) k6 (by decide) rfl (C.monoE H (fun o h7 _ x9 K => cont_R K (fun v8 H => ?_) (fun r HX => XR_nc rfl HX)))
  refine r_astore_n dX2_hatsOn_14 rfl (Nat.le_of_ble_eq_true rfl) rfl (slS (slS (slS sl0))) ?_
  exact H
theorem c_X2_hatsOn_0 {g : PG} {d : Nat} {l0 : Nat} {l1 : Int32} {h : PH} {Q : Out → PH → Prop} (H : w_X2_hatsOn_0 g d l0 l1 h Q) : C g (d + 1) m_X2_hatsOn [.ref l0, .int l1] h Q := C_of_R rfl rfl (Nat.le_of_ble_eq_true rfl) rfl (v_X2_hatsOn_0 H)
abbrev w_X2_far_15 (g : PG) (d : Nat) (l0 : Nat) (l1 : Nat) (l2 : Int32) (l3 : Int32) (h : PH) (Q : Out → PH → Prop) : Prop := ((l2 ≤ l3) → Q (.inl (some (.int l3))) h) ∧ ((¬ l2 ≤ l3) → hkd h l0 = 2 ∧ C g d m_X2_massBehind [.ref l0, .ref l1, .int (l3 + (1 : Int32))] h (oI (fun v4 h3 => ((v4 < (10 : Int32)) → Q (.inl (some (.int l3))) h3) ∧ ((¬ v4 < (10 : Int32)) → R g d m_X2_far 15 [.ref l0, .ref l1, .int l2, .int (l3 + 1)] [] h3 Q)) (fun r hx => Q (.inr r) hx)))
theorem v_X2_far_15 {g : PG} {d : Nat} {l0 : Nat} {l1 : Nat} {l2 : Int32} {l3 : Int32} {h : PH} {Q : Out → PH → Prop} (H : w_X2_far_15 g d l0 l1 l2 l3 h Q) : R g d m_X2_far 15 [.ref l0, .ref l1, .int l2, .int l3] [] h Q := by
  refine r_iload_n dX2_far_15 rfl rfl ?_
  refine r_iload_n dX2_far_16 rfl rfl ?_
  refine r_icmp_ge (tgt := 39) dX2_far_17 rfl (fun b1 => ?_) (fun b1 => ?_)
  · replace H := H.1 b1
    refine r_iload_n dX2_far_39 rfl rfl ?_
    exact r_iret dX2_far_40 rfl H
  · replace H := H.2 b1
    refine r_aload_n dX2_far_20 rfl rfl ?_
    refine r_aload_n dX2_far_21 rfl rfl ?_
    refine r_iload_n dX2_far_22 rfl rfl ?_
    refine r_iconst dX2_far_23 rfl ?_
    refine r_iadd dX2_far_24 ?_
    obtain ⟨k2, H⟩ := H
    refine r_invV (y := m_X2_massBehind) dX2_far_25 rfl (lw_V q1306 q1307 q1308 q108 q1309) py_X2_massBehind (Nat.le_of_ble_eq_true rfl) (args := [_, _]) rfl rfl (Nat.le_of_ble_eq_true rfl) k2 (by decide) rfl (C.monoE H (fun o h3 _ x5 K => cont_I K (fun v4 H => ?_) (fun r HX => XR_nc rfl HX)))
    refine r_bipush dX2_far_28 rfl ?_
    refine r_icmp_lt (tgt := 39) dX2_far_30 rfl (fun b6 => ?_) (fun b6 => ?_)
    · replace H := H.1 b6
      refine r_iload_n dX2_far_39 rfl rfl ?_
      exact r_iret dX2_far_40 rfl H
    · replace H := H.2 b6
      refine r_iinc dX2_far_33 rfl rfl (Nat.le_of_ble_eq_true rfl) rfl (slS (slS (slS sl0))) ?_
      refine r_goto (tgt := 15) dX2_far_36 rfl ?_
      exact H
abbrev w_X2_far_0 (g : PG) (d : Nat) (l0 : Nat) (l1 : Nat) (h : PH) (Q : Out → PH → Prop) : Prop := hkd h l1 = 4 ∧ R g d m_X2_far 15 [.ref l0, .ref l1, .int (i32min (9 : Int32) ((11 : Int32) - (hF h 9 l1))), .int 0] [] h Q
theorem v_X2_far_0 {g : PG} {d : Nat} {l0 : Nat} {l1 : Nat} {h : PH} {Q : Out → PH → Prop} (H : w_X2_far_0 g d l0 l1 h Q) : R g d m_X2_far 0 [.ref l0, .ref l1, .null, .null] [] h Q := by
  refine r_bipush dX2_far_0 rfl ?_
  refine r_bipush dX2_far_2 rfl ?_
  refine r_aload_n dX2_far_4 rfl rfl ?_
  obtain ⟨k1, H⟩ := H
  refine r_getF fr_X2_144_4 (by decide) dX2_far_5 k1 (by decide) ?_
  refine r_isub dX2_far_8 ?_
  refine r_mmin dX2_far_9 q1305 q485 q134 q486 (Nat.le_of_ble_eq_true rfl) ?_
  refine r_istore_n dX2_far_12 rfl (Nat.le_of_ble_eq_true rfl) rfl (slS (slS sl0)) ?_
  refine r_iconst dX2_far_13 rfl ?_
  refine r_istore_n dX2_far_14 rfl (Nat.le_of_ble_eq_true rfl) rfl (slS (slS (slS sl0))) ?_
  exact H
theorem c_X2_far_0 {g : PG} {d : Nat} {l0 : Nat} {l1 : Nat} {h : PH} {Q : Out → PH → Prop} (H : w_X2_far_0 g d l0 l1 h Q) : C g (d + 1) m_X2_far [.ref l0, .ref l1] h Q := C_of_R rfl rfl (Nat.le_of_ble_eq_true rfl) rfl (v_X2_far_0 H)
abbrev w_X2_massBehind_8 (g : PG) (d : Nat) (l0 : Nat) (l1 : Nat) (l2 : Int32) (l3 : Int32) (l4 : Int32) (h : PH) (Q : Out → PH → Prop) : Prop := ((l2 < l4) → Q (.inl (some (.int l3))) h) ∧ ((¬ l2 < l4) → hkd h l0 = 2 ∧ hkd h l1 = 4 ∧ hkd h (hG h 506 l0) / 100 = 7 ∧ vp_in ((hF h 9 l1) + l4) (hln h (hG h 506 l0)) ∧ hkd h (hB h (hG h 506 l0) ((hF h 9 l1) + l4).toNatClampNeg) = 3 ∧ C g d m_X3_behind [.ref (hB h (hG h 506 l0) ((hF h 9 l1) + l4).toNatClampNeg), .int l3] h (oI (fun v8 h7 => R g d m_X2_massBehind 8 [.ref l0, .ref l1, .int l2, .int v8, .int (l4 + 1)] [] h7 Q) (fun r hx => Q (.inr r) hx)))
theorem v_X2_massBehind_8 {g : PG} {d : Nat} {l0 : Nat} {l1 : Nat} {l2 : Int32} {l3 : Int32} {l4 : Int32} {h : PH} {Q : Out → PH → Prop} (H : w_X2_massBehind_8 g d l0 l1 l2 l3 l4 h Q) : R g d m_X2_massBehind 8 [.ref l0, .ref l1, .int l2, .int l3, .int l4] [] h Q := by
  refine r_iload dX2_massBehind_8 rfl ?_
  refine r_iload_n dX2_massBehind_10 rfl rfl ?_
  refine r_icmp_gt (tgt := 37) dX2_massBehind_11 rfl (fun b1 => ?_) (fun b1 => ?_)
  · replace H := H.1 b1
    refine r_iload_n dX2_massBehind_37 rfl rfl ?_
    exact r_iret dX2_massBehind_38 rfl H
  · replace H := H.2 b1
    refine r_aload_n dX2_massBehind_14 rfl rfl ?_
    obtain ⟨k2, H⟩ := H
    refine r_getG fr_X2_11_2 (by decide) dX2_massBehind_15 k2 (by decide) ?_
    refine r_aload_n dX2_massBehind_18 rfl rfl ?_
    obtain ⟨k3, H⟩ := H
    refine r_getF fr_X2_144_4 (by decide) dX2_massBehind_19 k3 (by decide) ?_
    refine r_iload dX2_massBehind_22 rfl ?_
    refine r_iadd dX2_massBehind_24 ?_
    obtain ⟨k4, H⟩ := H
    obtain ⟨k5, H⟩ := H
    refine r_aald dX2_massBehind_25 (m := 7) (by decide) k4 k5 ?_
    refine r_iload_n dX2_massBehind_26 rfl rfl ?_
    obtain ⟨k6, H⟩ := H
    refine r_invV (y := m_X3_behind) dX2_massBehind_27 rfl (lw_V q1310 q1311 q1312 q116 q1313) py_X3_behind (Nat.le_of_ble_eq_true rfl) (args := [_]) rfl rfl (Nat.le_of_ble_eq_true rfl) k6 (by decide) rfl (C.monoE H (fun o h7 _ x9 K => cont_I K (fun v8 H => ?_) (fun r HX => XR_nc rfl HX)))
    refine r_istore_n dX2_massBehind_30 rfl (Nat.le_of_ble_eq_true rfl) rfl (slS (slS (slS sl0))) ?_
    refine r_iinc dX2_massBehind_31 rfl rfl (Nat.le_of_ble_eq_true rfl) rfl (slS (slS (slS (slS sl0)))) ?_
    refine r_goto (tgt := 8) dX2_massBehind_34 rfl ?_
    exact H
abbrev w_X2_massBehind_0 (g : PG) (d : Nat) (l0 : Nat) (l1 : Nat) (l2 : Int32) (h : PH) (Q : Out → PH → Prop) : Prop := hkd h l1 = 4 ∧ R g d m_X2_massBehind 8 [.ref l0, .ref l1, .int l2, .int (hF h 10 l1), .int 1] [] h Q
theorem v_X2_massBehind_0 {g : PG} {d : Nat} {l0 : Nat} {l1 : Nat} {l2 : Int32} {h : PH} {Q : Out → PH → Prop} (H : w_X2_massBehind_0 g d l0 l1 l2 h Q) : R g d m_X2_massBehind 0 [.ref l0, .ref l1, .int l2, .null, .null] [] h Q := by
  refine r_aload_n dX2_massBehind_0 rfl rfl ?_
  obtain ⟨k1, H⟩ := H
  refine r_getF fr_X2_157_4 (by decide) dX2_massBehind_1 k1 (by decide) ?_
  refine r_istore_n dX2_massBehind_4 rfl (Nat.le_of_ble_eq_true rfl) rfl (slS (slS (slS sl0))) ?_
  refine r_iconst dX2_massBehind_5 rfl ?_
  refine r_istore dX2_massBehind_6 (Nat.le_of_ble_eq_true rfl) rfl (slS (slS (slS (slS sl0)))) ?_
  exact H
theorem c_X2_massBehind_0 {g : PG} {d : Nat} {l0 : Nat} {l1 : Nat} {l2 : Int32} {h : PH} {Q : Out → PH → Prop} (H : w_X2_massBehind_0 g d l0 l1 l2 h Q) : C g (d + 1) m_X2_massBehind [.ref l0, .ref l1, .int l2] h Q := C_of_R rfl rfl (Nat.le_of_ble_eq_true rfl) rfl (v_X2_massBehind_0 H)
abbrev w_X2_massBehindAgain_0 (g : PG) (d : Nat) (l0 : Nat) (l1 : Nat) (l2 : Int32) (h : PH) (Q : Out → PH → Prop) : Prop := ((¬ l2 = 0) → hkd h l0 = 2 ∧ hkd h l1 = 4 ∧ hkd h (hG h 506 l0) / 100 = 7 ∧ vp_in ((hF h 9 l1) + l2) (hln h (hG h 506 l0)) ∧ C g d m_X2_massBehindAgain [.ref l0, .ref l1, .int (l2 - (1 : Int32))] h (oI (fun v7 h6 => hkd h6 (hB h (hG h 506 l0) ((hF h 9 l1) + l2).toNatClampNeg) = 3 ∧ C g d m_X3_behind [.ref (hB h (hG h 506 l0) ((hF h 9 l1) + l2).toNatClampNeg), .int v7] h6 (oI (fun v11 h10 => Q (.inl (some (.int v11))) h10) (fun r hx => Q (.inr r) hx))) (fun r hx => Q (.inr r) hx))) ∧ ((l2 = 0) → hkd h l1 = 4 ∧ Q (.inl (some (.int (hF h 10 l1)))) h)
theorem v_X2_massBehindAgain_0 {g : PG} {d : Nat} {l0 : Nat} {l1 : Nat} {l2 : Int32} {h : PH} {Q : Out → PH → Prop} (H : w_X2_massBehindAgain_0 g d l0 l1 l2 h Q) : R g d m_X2_massBehindAgain 0 [.ref l0, .ref l1, .int l2] [] h Q := by
  refine r_iload_n dX2_massBehindAgain_0 rfl rfl ?_
  refine r_if_ne (tgt := 11) dX2_massBehindAgain_1 rfl (fun b1 => ?_) (fun b1 => ?_)
  · replace H := H.1 b1
    refine r_aload_n dX2_massBehindAgain_11 rfl rfl ?_
    obtain ⟨k2, H⟩ := H
    refine r_getG fr_X2_11_2 (by decide) dX2_massBehindAgain_12 k2 (by decide) ?_
    refine r_aload_n dX2_massBehindAgain_15 rfl rfl ?_
    obtain ⟨k3, H⟩ := H
    refine r_getF fr_X2_144_4 (by decide) dX2_massBehindAgain_16 k3 (by decide) ?_
    refine r_iload_n dX2_massBehindAgain_19 rfl rfl ?_
    refine r_iadd dX2_massBehindAgain_20 ?_
    obtain ⟨k4, H⟩ := H
    obtain ⟨k5, H⟩ := H
    refine r_aald dX2_massBehindAgain_21 (m := 7) (by decide) k4 k5 ?_
    refine r_aload_n dX2_massBehindAgain_22 rfl rfl ?_
    refine r_aload_n dX2_massBehindAgain_23 rfl rfl ?_
    refine r_iload_n dX2_massBehindAgain_24 rfl rfl ?_
    refine r_iconst dX2_massBehindAgain_25 rfl ?_
    refine r_isub dX2_massBehindAgain_26 ?_
    refine r_invV (y := m_X2_massBehindAgain) dX2_massBehindAgain_27 rfl (lw_V q1605 q1602 q1603 q108 q1604) py_X2_massBehindAgain (Nat.le_of_ble_eq_true rfl) (args := [_, _]) rfl rfl (Nat.le_of_ble_eq_true rfl) k2 (by decide) rfl (C.monoE H (fun o h6 _ x8 K => cont_I K (fun v7 H => ?_) (fun r HX => XR_nc rfl HX)))
    obtain ⟨k9, H⟩ := H
    refine r_invV (y := m_X3_behind) dX2_massBehindAgain_30 rfl (lw_V q1310 q1311 q1312 q116 q1313) py_X3_behind (Nat.le_of_ble_eq_true rfl) (args := [_]) rfl rfl (Nat.le_of_ble_eq_true rfl) k9 (by decide) rfl (C.monoE H (fun o h10 _ x12 K => cont_I K (fun v11 H => ?_) (fun r HX => XR_nc rfl HX)))
    exact r_iret dX2_massBehindAgain_33 rfl H
  · replace H := H.2 b1
    refine r_aload_n dX2_massBehindAgain_4 rfl rfl ?_
    obtain ⟨k13, H⟩ := H
    refine r_getF fr_X2_157_4 (by decide) dX2_massBehindAgain_5 k13 (by decide) ?_
    refine r_goto (tgt := 33) dX2_massBehindAgain_8 rfl ?_
    exact r_iret dX2_massBehindAgain_33 rfl H
theorem c_X2_massBehindAgain_0 {g : PG} {d : Nat} {l0 : Nat} {l1 : Nat} {l2 : Int32} {h : PH} {Q : Out → PH → Prop} (H : w_X2_massBehindAgain_0 g d l0 l1 l2 h Q) : C g (d + 1) m_X2_massBehindAgain [.ref l0, .ref l1, .int l2] h Q := C_of_R rfl rfl (Nat.le_of_ble_eq_true rfl) rfl (v_X2_massBehindAgain_0 H)
abbrev w_X2_hatPlank_0 (g : PG) (d : Nat) (l0 : Nat) (l1 : Int32) (h : PH) (Q : Out → PH → Prop) : Prop := hkd h l0 = 2 ∧ hkd h (hG h 508 l0) / 100 = 1 ∧ vp_in l1 (hln h (hG h 508 l0)) ∧ ((¬ (hA h (hG h 508 l0) l1.toNatClampNeg) = (-1 : Int32)) → hkd h (hG h 507 l0) = 13 ∧ C g d m_J2_get [.ref (hG h 507 l0), .int (hA h (hG h 508 l0) l1.toNatClampNeg)] h (oR (fun v9 h8 => (v9 = 0 ∨ hkd h8 v9 = 4) ∧ hkd h8 v9 = 4 ∧ Q (.inl (some (.int (hF h8 9 v9)))) h8) (fun r hx => Q (.inr r) hx))) ∧ (((hA h (hG h 508 l0) l1.toNatClampNeg) = (-1 : Int32)) → C g d m_X2_liesOn [.ref l0, .int l1] h (oI (fun v14 h13 => Q (.inl (some (.int v14))) h13) (fun r hx => Q (.inr r) hx)))
theorem v_X2_hatPlank_0 {g : PG} {d : Nat} {l0 : Nat} {l1 : Int32} {h : PH} {Q : Out → PH → Prop} (H : w_X2_hatPlank_0 g d l0 l1 h Q) : R g d m_X2_hatPlank 0 [.ref l0, .int l1] [] h Q := by
  refine r_aload_n dX2_hatPlank_0 rfl rfl ?_
  obtain ⟨k1, H⟩ := H
  refine r_getG fr_X2_24_2 (by decide) dX2_hatPlank_1 k1 (by decide) ?_
  refine r_iload_n dX2_hatPlank_4 rfl rfl ?_
  obtain ⟨k2, H⟩ := H
  obtain ⟨k3, H⟩ := H
  refine r_iald dX2_hatPlank_5 k2 k3 ?_
  refine r_iconst dX2_hatPlank_6 rfl ?_
  refine r_icmp_ne (tgt := 18) dX2_hatPlank_7 rfl (fun b4 => ?_) (fun b4 => ?_)
  · replace H := H.1 b4
    refine r_aload_n dX2_hatPlank_18 rfl rfl ?_
    refine r_getG fr_X2_20_2 (by decide) dX2_hatPlank_19 k1 (by decide) ?_
    refine r_aload_n dX2_hatPlank_22 rfl rfl ?_
    refine r_getG fr_X2_24_2 (by decide) dX2_hatPlank_23 k1 (by decide) ?_
    refine r_iload_n dX2_hatPlank_26 rfl rfl ?_
    refine r_iald dX2_hatPlank_27 k2 k3 ?_
    obtain ⟨k7, H⟩ := H
    refine r_invV (y := m_J2_get) dX2_hatPlank_28 rfl (lw_V q1637 q979 q3682 q111 q980) py_J2_get (Nat.le_of_ble_eq_true rfl) (args := [_]) rfl rfl (Nat.le_of_ble_eq_true rfl) k7 (by decide) rfl (C.monoE H (fun o h8 _ x10 K => cont_R K (fun v9 H => ?_) (fun r HX => XR_nc rfl HX)))
    obtain ⟨k11, H⟩ := H
    refine r_castO (kv := 4) dX2_hatPlank_31 q1638 (by decide) (Or.inr rfl) k11 ?_
    obtain ⟨k12, H⟩ := H
    refine r_getF fr_X2_144_4 (by decide) dX2_hatPlank_34 k12 (by decide) ?_
    exact r_iret dX2_hatPlank_37 rfl H
  · replace H := H.2 b4
    refine r_aload_n dX2_hatPlank_10 rfl rfl ?_
    refine r_iload_n dX2_hatPlank_11 rfl rfl ?_
    refine r_invV (y := m_X2_liesOn) dX2_hatPlank_12 rfl (lw_V q1629 q1631 qp11 q108 q1632) py_X2_liesOn (Nat.le_of_ble_eq_true rfl) (args := [_]) rfl rfl (Nat.le_of_ble_eq_true rfl) k1 (by decide) rfl (C.monoE H (fun o h13 _ x15 K => cont_I K (fun v14 H => ?_) (fun r HX => XR_nc rfl HX)))
    refine r_goto (tgt := 37) dX2_hatPlank_15 rfl ?_
    exact r_iret dX2_hatPlank_37 rfl H
theorem c_X2_hatPlank_0 {g : PG} {d : Nat} {l0 : Nat} {l1 : Int32} {h : PH} {Q : Out → PH → Prop} (H : w_X2_hatPlank_0 g d l0 l1 h Q) : C g (d + 1) m_X2_hatPlank [.ref l0, .int l1] h Q := C_of_R rfl rfl (Nat.le_of_ble_eq_true rfl) rfl (v_X2_hatPlank_0 H)
abbrev w_X2_liesOn_0 (g : PG) (d : Nat) (l0 : Nat) (l1 : Int32) (h : PH) (Q : Out → PH → Prop) : Prop := hkd h l0 = 2 ∧ C g d m_J26_valueOf [.int l1] h (oR (fun v3 h2 => hkd h2 (hG h 511 l0) = 15 ∧ C g d m_J4_containsKey [.ref (hG h 511 l0), .ref v3] h2 (oI (fun v7 h6 => ((v7 = 0) → Q (.inl (some (.int (-1 : Int32)))) h6) ∧ ((¬ v7 = 0) → C g d m_J26_valueOf [.int l1] h6 (oR (fun v11 h10 => hkd h10 (hG h6 511 l0) = 15 ∧ C g d m_J4_get [.ref (hG h6 511 l0), .ref v11] h10 (oR (fun v15 h14 => (v15 = 0 ∨ ko h14 v15 30) ∧ ko h14 v15 30 ∧ C g d m_J26_intValue [.ref v15] h14 (oI (fun v21 h20 => Q (.inl (some (.int v21))) h20) (fun r hx => Q (.inr r) hx))) (fun r hx => Q (.inr r) hx))) (fun r hx => Q (.inr r) hx)))) (fun r hx => Q (.inr r) hx))) (fun r hx => Q (.inr r) hx))
theorem v_X2_liesOn_0 {g : PG} {d : Nat} {l0 : Nat} {l1 : Int32} {h : PH} {Q : Out → PH → Prop} (H : w_X2_liesOn_0 g d l0 l1 h Q) : R g d m_X2_liesOn 0 [.ref l0, .int l1] [] h Q := by
  refine r_aload_n dX2_liesOn_0 rfl rfl ?_
  obtain ⟨k1, H⟩ := H
  refine r_getG fr_X2_37_2 (by decide) dX2_liesOn_1 k1 (by decide) ?_
  refine r_iload_n dX2_liesOn_4 rfl rfl ?_
  refine r_invS (y := m_J26_valueOf) dX2_liesOn_5 rfl (lw_S q1254 q1255 q139 q1256) py_J26_valueOf (Nat.le_of_ble_eq_true rfl) (args := [_]) rfl rfl (Nat.le_of_ble_eq_true rfl) (C.monoE H (fun o h2 _ x4 K => cont_R K (fun v3 H => ?_) (fun r HX => XR_nc rfl HX)))
  obtain ⟨k5, H⟩ := H
  refine r_invV (y := m_J4_containsKey) dX2_liesOn_8 rfl (lw_V q1633 q1634 q1635 q113 q1636) py_J4_containsKey (Nat.le_of_ble_eq_true rfl) (args := [_]) rfl rfl (Nat.le_of_ble_eq_true rfl) k5 (by decide) rfl (C.monoE H (fun o h6 _ x8 K => cont_I K (fun v7 H => ?_) (fun r HX => XR_nc rfl HX)))
  refine r_if_eq (tgt := 34) dX2_liesOn_11 rfl (fun b9 => ?_) (fun b9 => ?_)
  · replace H := H.1 b9
    refine r_iconst dX2_liesOn_34 rfl ?_
    exact r_iret dX2_liesOn_35 rfl H
  · replace H := H.2 b9
    refine r_aload_n dX2_liesOn_14 rfl rfl ?_
    refine r_getG fr_X2_37_2 (by decide) dX2_liesOn_15 (x8.kd (x4.kd k1 (by decide)) (by decide)) (by decide) ?_
    refine r_iload_n dX2_liesOn_18 rfl rfl ?_
    refine r_invS (y := m_J26_valueOf) dX2_liesOn_19 rfl (lw_S q1254 q1255 q139 q1256) py_J26_valueOf (Nat.le_of_ble_eq_true rfl) (args := [_]) rfl rfl (Nat.le_of_ble_eq_true rfl) (C.monoE H (fun o h10 _ x12 K => cont_R K (fun v11 H => ?_) (fun r HX => XR_nc rfl HX)))
    obtain ⟨k13, H⟩ := H
    refine r_invV (y := m_J4_get) dX2_liesOn_22 rfl (lw_V q1274 q1275 q1276 q113 q1277) py_J4_get (Nat.le_of_ble_eq_true rfl) (args := [_]) rfl rfl (Nat.le_of_ble_eq_true rfl) k13 (by decide) rfl (C.monoE H (fun o h14 _ x16 K => cont_R K (fun v15 H => ?_) (fun r HX => XR_nc rfl HX)))
    obtain ⟨k17, H⟩ := H
    refine r_castOc (kv := 30) dX2_liesOn_25 q1249 (by decide) (Or.inr rfl) k17 ?_
    obtain ⟨k18, H⟩ := H
    obtain ⟨_, k19, k19a, k19b⟩ := ko_use (by decide) k18
    refine r_invV (y := m_J26_intValue) dX2_liesOn_28 rfl (lw_V q1250 q1251 q1252 q139 q1253) py_J26_intValue (Nat.le_of_ble_eq_true rfl) (args := []) rfl rfl (Nat.le_of_ble_eq_true rfl) k19 k19a (k19b.trans rfl) (C.monoE H (fun o h20 _ x22 K => cont_I K (fun v21 H => ?_) (fun r HX => XR_nc rfl HX)))
    refine r_goto (tgt := 35) dX2_liesOn_31 rfl ?_
    exact r_iret dX2_liesOn_35 rfl H
theorem c_X2_liesOn_0 {g : PG} {d : Nat} {l0 : Nat} {l1 : Int32} {h : PH} {Q : Out → PH → Prop} (H : w_X2_liesOn_0 g d l0 l1 h Q) : C g (d + 1) m_X2_liesOn [.ref l0, .int l1] h Q := C_of_R rfl rfl (Nat.le_of_ble_eq_true rfl) rfl (v_X2_liesOn_0 H)
abbrev w_X2_init_2_156 (g : PG) (d : Nat) (l0 : Nat) (l1 : Nat) (l3 : Nat) (h : PH) (Q : Out → PH → Prop) : Prop := hkd h l3 = 14 ∧ C g d m_J18_hasNext [.ref l3] h (oI (fun v3 h2 => ((v3 = 0) → hkd h2 l1 = 2 ∧ hkd h2 l0 = 2 ∧ hkd h2 (hG h2 508 l1) / 100 = 1 ∧ hkd h2 (hG h2 508 l0) / 100 = 1 ∧ hkd h2 (hG h2 508 l0) % 100 < 50 ∧ ¬ (0 : Int32) < 0 ∧ ¬ (3 : Int32) < 0 ∧ (0 : Int32).toNatClampNeg + (3 : Int32).toNatClampNeg ≤ hln h2 (hG h2 508 l1) ∧ (0 : Int32).toNatClampNeg + (3 : Int32).toNatClampNeg ≤ hln h2 (hG h2 508 l0) ∧ ∀ h17, h17 = cpyA (hG h2 508 l1) (0 : Int32).toNatClampNeg (hG h2 508 l0) (0 : Int32).toNatClampNeg (3 : Int32).toNatClampNeg h2 → hkd h17 (hG h17 509 l1) / 100 = 1 ∧ hkd h17 (hG h17 509 l0) / 100 = 1 ∧ hkd h17 (hG h17 509 l0) % 100 < 50 ∧ (0 : Int32).toNatClampNeg + (3 : Int32).toNatClampNeg ≤ hln h17 (hG h17 509 l1) ∧ (0 : Int32).toNatClampNeg + (3 : Int32).toNatClampNeg ≤ hln h17 (hG h17 509 l0) ∧ ∀ h27, h27 = cpyA (hG h17 509 l1) (0 : Int32).toNatClampNeg (hG h17 509 l0) (0 : Int32).toNatClampNeg (3 : Int32).toNatClampNeg h17 → hkd h27 (hG h27 510 l1) / 100 = 1 ∧ hkd h27 (hG h27 510 l0) / 100 = 1 ∧ hkd h27 (hG h27 510 l0) % 100 < 50 ∧ (0 : Int32).toNatClampNeg + (3 : Int32).toNatClampNeg ≤ hln h27 (hG h27 510 l1) ∧ (0 : Int32).toNatClampNeg + (3 : Int32).toNatClampNeg ≤ hln h27 (hG h27 510 l0) ∧ ∀ h37, h37 = cpyA (hG h27 510 l1) (0 : Int32).toNatClampNeg (hG h27 510 l0) (0 : Int32).toNatClampNeg (3 : Int32).toNatClampNeg h27 → hkd h37 (hG h37 511 l0) = 15 ∧ C g d m_J4_putAll [.ref (hG h37 511 l0), .ref (hG h37 511 l1)] h37 (oV (fun h39 => hkd h39 (hG h39 512 l0) = 23 ∧ C g d m_J6_addAll [.ref (hG h39 512 l0), .ref (hG h39 512 l1)] h39 (oI (fun v44 h43 => Q (.inl none) h43) (fun r hx => Q (.inr r) hx))) (fun r hx => Q (.inr r) hx))) ∧ ((¬ v3 = 0) → C g d m_J18_next [.ref l3] h2 (oR (fun v47 h46 => (v47 = 0 ∨ hkd h46 v47 = 4) ∧ hkd h46 l0 = 2 ∧ ∀ h51, h51 = hnew 4 0 8 h46 → 0 < (hnx h46) ∧ C g d m_X6_init [.ref (hnx h46), .ref v47] h51 (oV (fun h53 => hkd h53 (hG h46 507 l0) = 13 ∧ C g d m_J2_add [.ref (hG h46 507 l0), .ref (hnx h46)] h53 (oI (fun v58 h57 => R g d m_X2_init_2 156 [.ref l0, .ref l1, .null, .ref l3, .null] [] h57 Q) (fun r hx => Q (.inr r) hx))) (fun r hx => Q (.inr r) hx))) (fun r hx => Q (.inr r) hx)))) (fun r hx => Q (.inr r) hx))
theorem v_X2_init_2_156 {g : PG} {d : Nat} {l0 : Nat} {l1 : Nat} {l3 : Nat} {h : PH} {Q : Out → PH → Prop} (H : w_X2_init_2_156 g d l0 l1 l3 h Q) : R g d m_X2_init_2 156 [.ref l0, .ref l1, .null, .ref l3, .null] [] h Q := by
  refine r_aload_n dX2_init_2_156 rfl rfl ?_
  obtain ⟨k1, H⟩ := H
  refine r_invF (y := m_J18_hasNext) (Cn := "java/util/ArrayList$Itr") (x := ⟨"java/util/Iterator", "hasNext", "()Z"⟩) dX2_init_2_157 rfl (lw_F q900 q925 q927 q130 q929) fw_t2 (n := 0) (by decide +kernel) (Nat.le_of_ble_eq_true rfl) (args := []) rfl rfl (Nat.le_of_ble_eq_true rfl) k1 (by decide) rfl (C.monoE H (fun o h2 _ x4 K => cont_I K (fun v3 H => ?_) (fun r HX => XR_nc rfl HX)))
  refine r_if_eq (tgt := 196) dX2_init_2_162 rfl (fun b5 => ?_) (fun b5 => ?_)
  · replace H := H.1 b5
    refine r_aload_n dX2_init_2_196 rfl rfl ?_
    obtain ⟨k6, H⟩ := H
    refine r_getG fr_X2_24_2 (by decide) dX2_init_2_197 k6 (by decide) ?_
    refine r_iconst dX2_init_2_200 rfl ?_
    refine r_aload_n dX2_init_2_201 rfl rfl ?_
    obtain ⟨k7, H⟩ := H
    refine r_getG fr_X2_24_2 (by decide) dX2_init_2_202 k7 (by decide) ?_
    refine r_iconst dX2_init_2_205 rfl ?_
    refine r_iconst dX2_init_2_206 rfl ?_
    obtain ⟨k8, H⟩ := H
    obtain ⟨k9, H⟩ := H
    obtain ⟨k10, H⟩ := H
    obtain ⟨k11, H⟩ := H
    obtain ⟨k13, H⟩ := H
    obtain ⟨k14, H⟩ := H
    obtain ⟨k15, H⟩ := H
    replace H := H _ rfl
    refine r_copyA (m := 1) dX2_init_2_207 q2139 (by decide) k8 k9 k10 k11 k11 k13 k14 k15 (fun _ _ => rfl) (Nat.le_of_ble_eq_true rfl) ?_
    refine r_aload_n dX2_init_2_210 rfl rfl ?_
    refine r_getG fr_X2_28_2 (by decide) dX2_init_2_211 k6 (by decide) ?_
    refine r_iconst dX2_init_2_214 rfl ?_
    refine r_aload_n dX2_init_2_215 rfl rfl ?_
    refine r_getG fr_X2_28_2 (by decide) dX2_init_2_216 k7 (by decide) ?_
    refine r_iconst dX2_init_2_219 rfl ?_
    refine r_iconst dX2_init_2_220 rfl ?_
    obtain ⟨k18, H⟩ := H
    obtain ⟨k19, H⟩ := H
    obtain ⟨k20, H⟩ := H
    obtain ⟨k24, H⟩ := H
    obtain ⟨k25, H⟩ := H
    replace H := H _ rfl
    refine r_copyA (m := 1) dX2_init_2_221 q2139 (by decide) k18 k19 k20 k11 k11 k13 k24 k25 (fun _ _ => rfl) (Nat.le_of_ble_eq_true rfl) ?_
    refine r_aload_n dX2_init_2_224 rfl rfl ?_
    refine r_getG fr_X2_31_2 (by decide) dX2_init_2_225 k6 (by decide) ?_
    refine r_iconst dX2_init_2_228 rfl ?_
    refine r_aload_n dX2_init_2_229 rfl rfl ?_
    refine r_getG fr_X2_31_2 (by decide) dX2_init_2_230 k7 (by decide) ?_
    refine r_iconst dX2_init_2_233 rfl ?_
    refine r_iconst dX2_init_2_234 rfl ?_
    obtain ⟨k28, H⟩ := H
    obtain ⟨k29, H⟩ := H
    obtain ⟨k30, H⟩ := H
    obtain ⟨k34, H⟩ := H
    obtain ⟨k35, H⟩ := H
    replace H := H _ rfl
    refine r_copyA (m := 1) dX2_init_2_235 q2139 (by decide) k28 k29 k30 k11 k11 k13 k34 k35 (fun _ _ => rfl) (Nat.le_of_ble_eq_true rfl) ?_
    refine r_aload_n dX2_init_2_238 rfl rfl ?_
    refine r_getG fr_X2_37_2 (by decide) dX2_init_2_239 k7 (by decide) ?_
    refine r_aload_n dX2_init_2_242 rfl rfl ?_
    refine r_getG fr_X2_37_2 (by decide) dX2_init_2_243 k6 (by decide) ?_
    obtain ⟨k38, H⟩ := H
    refine r_invVW (y := m_J4_putAll) dX2_init_2_246 (fun h => by cases h) (lw_VW q2140 q2141 q2142 q113 q2143) py_J4_putAll (Nat.le_of_ble_eq_true rfl) (args := [_]) rfl rfl (Nat.le_of_ble_eq_true rfl) k38 (by decide) rfl (C.monoE H (fun o h39 _ x41 K => cont_V K (fun H => ?_) (fun r HX => XR_nc rfl HX)))
    refine r_aload_n dX2_init_2_249 rfl rfl ?_
    refine r_getG fr_X2_44_2 (by decide) dX2_init_2_250 (x41.kd k7 (by decide)) (by decide) ?_
    refine r_aload_n dX2_init_2_253 rfl rfl ?_
    refine r_getG fr_X2_44_2 (by decide) dX2_init_2_254 (x41.kd k6 (by decide)) (by decide) ?_
    obtain ⟨k42, H⟩ := H
    refine r_invV (y := m_J6_addAll) dX2_init_2_257 rfl (lw_V q2279 q1943 q1944 q115 q1945) py_J6_addAll (Nat.le_of_ble_eq_true rfl) (args := [_]) rfl rfl (Nat.le_of_ble_eq_true rfl) k42 (by decide) rfl (C.monoE H (fun o h43 _ x45 K => cont_I K (fun v44 H => ?_) (fun r HX => XR_nc rfl HX)))
    refine r_istore_n dX2_init_2_260 rfl (Nat.le_of_ble_eq_true rfl) rfl (slS (slS sl0)) ?_
    exact r_vret dX2_init_2_261 rfl H
  · replace H := H.2 b5
    refine r_aload_n dX2_init_2_165 rfl rfl ?_
    refine r_invF (y := m_J18_next) (Cn := "java/util/ArrayList$Itr") (x := ⟨"java/util/Iterator", "next", "()Ljava/lang/Object;"⟩) dX2_init_2_166 rfl (lw_F q962 q1167 q1169 q130 q1171) fw_t7 (n := 0) (by decide +kernel) (Nat.le_of_ble_eq_true rfl) (args := []) rfl rfl (Nat.le_of_ble_eq_true rfl) (x4.kd k1 (by decide)) (by decide) rfl (C.monoE H (fun o h46 _ x48 K => cont_R K (fun v47 H => ?_) (fun r HX => XR_nc rfl HX)))
    obtain ⟨k49, H⟩ := H
    refine r_castO (kv := 4) dX2_init_2_171 q1638 (by decide) (Or.inr rfl) k49 ?_
    refine r_astore dX2_init_2_174 (Nat.le_of_ble_eq_true rfl) rfl (slS (slS (slS (slS sl0)))) ?_
    refine r_aload_n dX2_init_2_176 rfl rfl ?_
    obtain ⟨k50, H⟩ := H
    refine r_getG fr_X2_20_2 (by decide) dX2_init_2_177 k50 (by decide) ?_
    replace H := H _ rfl
    refine r_new (ci := 4) dX2_init_2_180 rfl (by decide) q1638 q2071 q142 ?_
    refine r_dup dX2_init_2_183 rfl ?_
    refine r_aload dX2_init_2_184 rfl ?_
    obtain ⟨k52, H⟩ := H
    refine r_invI (y := m_X6_init) dX2_init_2_186 rfl rfl q2074 q142 q2072 q2073 rfl py_X6_init (Nat.le_of_ble_eq_true rfl) (args := [_]) rfl rfl (Nat.le_of_ble_eq_true rfl) k52 (C.monoE H (fun o h53 _ x55 K => cont_V K (fun H => ?_) (fun r HX => XR_nc rfl HX)))
    obtain ⟨k56, H⟩ := H
    refine r_invV (y := m_J2_add) dX2_init_2_189 rfl (lw_V q2120 q2121 q2122 q111 q2123) py_J2_add (Nat.le_of_ble_eq_true rfl) (args := [_]) rfl rfl (Nat.le_of_ble_eq_true rfl) k56 (by decide) rfl (C.monoE H (fun o h57 _ x59 K => cont_I K (fun v58 H => ?_) (fun r HX => XR_nc rfl HX)))
    refine r_istore_n dX2_init_2_192 rfl (Nat.le_of_ble_eq_true rfl) rfl (slS (slS sl0)) ?_
    refine r_goto (tgt := 156) dX2_init_2_193 rfl ?_
    exact R.forget H ⟨Or.inl rfl, ⟨Or.inl rfl, ⟨Or.inr rfl, ⟨Or.inl rfl, ⟨Or.inr rfl, trivial⟩⟩⟩⟩⟩
abbrev w_X2_init_2_117 (g : PG) (d : Nat) (l0 : Nat) (l1 : Nat) (l2 : Int32) (h : PH) (Q : Out → PH → Prop) : Prop := (((12 : Int32) ≤ l2) → hkd h l1 = 2 ∧ hkd h (hG h 507 l1) = 13 ∧ C g d m_J2_iterator [.ref (hG h 507 l1)] h (oR (fun v5 h4 => R g d m_X2_init_2 156 [.ref l0, .ref l1, .null, .ref v5, .null] [] h4 Q) (fun r hx => Q (.inr r) hx))) ∧ ((¬ (12 : Int32) ≤ l2) → hkd h l0 = 2 ∧ ∀ h8, h8 = hnew 3 0 4 h → hkd h8 l1 = 2 ∧ hkd h8 (hG h8 506 l1) / 100 = 7 ∧ vp_in l2 (hln h8 (hG h8 506 l1)) ∧ 0 < (hnx h) ∧ C g d m_X3_init_2 [.ref (hnx h), .ref (hB h8 (hG h8 506 l1) l2.toNatClampNeg)] h8 (oV (fun h13 => hkd h13 (hG h 506 l0) / 100 = 7 ∧ hkd h13 (hG h 506 l0) % 100 < 50 ∧ vp_in l2 (hln h13 (hG h 506 l0)) ∧ okA h13 (hnx h) "SnowRelay$Plank" ∧ ∀ h20, h20 = setB (hG h 506 l0) l2.toNatClampNeg (hnx h) h13 → R g d m_X2_init_2 117 [.ref l0, .ref l1, .int (l2 + 1), .null, .null] [] h20 Q) (fun r hx => Q (.inr r) hx)))
theorem v_X2_init_2_117 {g : PG} {d : Nat} {l0 : Nat} {l1 : Nat} {l2 : Int32} {h : PH} {Q : Out → PH → Prop} (H : w_X2_init_2_117 g d l0 l1 l2 h Q) : R g d m_X2_init_2 117 [.ref l0, .ref l1, .int l2, .null, .null] [] h Q := by
  refine r_iload_n dX2_init_2_117 rfl rfl ?_
  refine r_bipush dX2_init_2_118 rfl ?_
  refine r_icmp_ge (tgt := 148) dX2_init_2_120 rfl (fun b1 => ?_) (fun b1 => ?_)
  · replace H := H.1 b1
    refine r_aload_n dX2_init_2_148 rfl rfl ?_
    obtain ⟨k2, H⟩ := H
    refine r_getG fr_X2_20_2 (by decide) dX2_init_2_149 k2 (by decide) ?_
    obtain ⟨k3, H⟩ := H
    refine r_invV (y := m_J2_iterator) dX2_init_2_152 rfl (lw_V q2070 q1552 q1553 q111 q1554) py_J2_iterator (Nat.le_of_ble_eq_true rfl) (args := []) rfl rfl (Nat.le_of_ble_eq_true rfl) k3 (by decide) rfl (C.monoE H (fun o h4 _ x6 K => cont_R K (fun v5 H => ?_) (fun r HX => XR_nc rfl HX)))
    refine r_astore_n dX2_init_2_155 rfl (Nat.le_of_ble_eq_true rfl) rfl (slS (slS (slS sl0))) ?_
    exact R.forget H ⟨Or.inl rfl, ⟨Or.inl rfl, ⟨Or.inr rfl, ⟨Or.inl rfl, ⟨Or.inl rfl, trivial⟩⟩⟩⟩⟩
  · replace H := H.2 b1
    refine r_aload_n dX2_init_2_123 rfl rfl ?_
    obtain ⟨k7, H⟩ := H
    refine r_getG fr_X2_11_2 (by decide) dX2_init_2_124 k7 (by decide) ?_
    refine r_iload_n dX2_init_2_127 rfl rfl ?_
    replace H := H _ rfl
    refine r_new (ci := 3) dX2_init_2_128 rfl (by decide) q190 q284 q116 ?_
    refine r_dup dX2_init_2_131 rfl ?_
    refine r_aload_n dX2_init_2_132 rfl rfl ?_
    obtain ⟨k9, H⟩ := H
    refine r_getG fr_X2_11_2 (by decide) dX2_init_2_133 k9 (by decide) ?_
    refine r_iload_n dX2_init_2_136 rfl rfl ?_
    obtain ⟨k10, H⟩ := H
    obtain ⟨k11, H⟩ := H
    refine r_aald dX2_init_2_137 (m := 7) (by decide) k10 k11 ?_
    obtain ⟨k12, H⟩ := H
    refine r_invI (y := m_X3_init_2) dX2_init_2_138 rfl rfl q2069 q116 q2067 q2068 rfl py_X3_init_2 (Nat.le_of_ble_eq_true rfl) (args := [_]) rfl rfl (Nat.le_of_ble_eq_true rfl) k12 (C.monoE H (fun o h13 _ x15 K => cont_V K (fun H => ?_) (fun r HX => XR_nc rfl HX)))
    obtain ⟨k16, H⟩ := H
    obtain ⟨k17, H⟩ := H
    obtain ⟨k18, H⟩ := H
    obtain ⟨k19, H⟩ := H
    replace H := H _ rfl
    refine r_aastO dX2_init_2_141 (m := 7) (by decide) rfl k16 k17 k18 k19 ?_
    refine r_iinc dX2_init_2_142 rfl rfl (Nat.le_of_ble_eq_true rfl) rfl (slS (slS sl0)) ?_
    refine r_goto (tgt := 117) dX2_init_2_145 rfl ?_
    exact H
abbrev w_X2_init_2_0 (g : PG) (d : Nat) (l0 : Nat) (l1 : Nat) (h : PH) (Q : Out → PH → Prop) : Prop := 0 < l0 ∧ ¬ (12 : Int32) < 0 ∧ (12 : Int32).toNatClampNeg ≤ 67108864 ∧ ∀ h4, h4 = hnew 700 (12 : Int32).toNatClampNeg ((12 : Int32).toNatClampNeg + 1) h → hkd h4 l0 = 2 ∧ ∀ h6, h6 = setG 506 l0 (hnx h) h4 → ∀ h7, h7 = hnew 13 0 4 h6 → 0 < (hnx h6) ∧ C g d m_J2_init [.ref (hnx h6)] h7 (oV (fun h9 => hkd h9 l0 = 2 ∧ ∀ h13, h13 = setG 507 l0 (hnx h6) h9 → ¬ (3 : Int32) < 0 ∧ (3 : Int32).toNatClampNeg ≤ 67108864 ∧ ∀ h16, h16 = hnew 100 (3 : Int32).toNatClampNeg ((3 : Int32).toNatClampNeg + 1) h13 → hkd h16 (hnx h13) / 100 = 1 ∧ hkd h16 (hnx h13) % 100 < 50 ∧ vp_in (0 : Int32) (hln h16 (hnx h13)) ∧ ∀ h20, h20 = setA (hnx h13) (0 : Int32).toNatClampNeg (-1 : Int32) h16 → hkd h20 (hnx h13) / 100 = 1 ∧ hkd h20 (hnx h13) % 100 < 50 ∧ vp_in (1 : Int32) (hln h20 (hnx h13)) ∧ ∀ h24, h24 = setA (hnx h13) (1 : Int32).toNatClampNeg (-1 : Int32) h20 → hkd h24 (hnx h13) / 100 = 1 ∧ hkd h24 (hnx h13) % 100 < 50 ∧ vp_in (2 : Int32) (hln h24 (hnx h13)) ∧ ∀ h28, h28 = setA (hnx h13) (2 : Int32).toNatClampNeg (-1 : Int32) h24 → hkd h28 l0 = 2 ∧ ∀ h30, h30 = setG 508 l0 (hnx h13) h28 → ∀ h33, h33 = hnew 100 (3 : Int32).toNatClampNeg ((3 : Int32).toNatClampNeg + 1) h30 → hkd h33 (hnx h30) / 100 = 1 ∧ hkd h33 (hnx h30) % 100 < 50 ∧ vp_in (0 : Int32) (hln h33 (hnx h30)) ∧ ∀ h37, h37 = setA (hnx h30) (0 : Int32).toNatClampNeg (-1 : Int32) h33 → hkd h37 (hnx h30) / 100 = 1 ∧ hkd h37 (hnx h30) % 100 < 50 ∧ vp_in (1 : Int32) (hln h37 (hnx h30)) ∧ ∀ h41, h41 = setA (hnx h30) (1 : Int32).toNatClampNeg (-1 : Int32) h37 → hkd h41 (hnx h30) / 100 = 1 ∧ hkd h41 (hnx h30) % 100 < 50 ∧ vp_in (2 : Int32) (hln h41 (hnx h30)) ∧ ∀ h45, h45 = setA (hnx h30) (2 : Int32).toNatClampNeg (-1 : Int32) h41 → hkd h45 l0 = 2 ∧ ∀ h47, h47 = setG 509 l0 (hnx h30) h45 → ∀ h50, h50 = hnew 100 (3 : Int32).toNatClampNeg ((3 : Int32).toNatClampNeg + 1) h47 → hkd h50 l0 = 2 ∧ ∀ h52, h52 = setG 510 l0 (hnx h47) h50 → ∀ h53, h53 = hnew 15 0 10 h52 → 0 < (hnx h52) ∧ C g d m_J4_init [.ref (hnx h52)] h53 (oV (fun h55 => hkd h55 l0 = 2 ∧ ∀ h59, h59 = setG 511 l0 (hnx h52) h55 → ∀ h60, h60 = hnew 23 0 5 h59 → 0 < (hnx h59) ∧ C g d m_J6_init [.ref (hnx h59)] h60 (oV (fun h62 => hkd h62 l0 = 2 ∧ ∀ h66, h66 = setG 512 l0 (hnx h59) h62 → hkd h66 l1 = 2 ∧ ∀ h68, h68 = setF 1 l0 (hF h66 1 l1) h66 → ∀ h69, h69 = setF 2 l0 (hF h68 2 l1) h68 → ∀ h70, h70 = setF 3 l0 (hF h69 3 l1) h69 → R g d m_X2_init_2 117 [.ref l0, .ref l1, .int 0, .null, .null] [] h70 Q) (fun r hx => Q (.inr r) hx))) (fun r hx => Q (.inr r) hx))) (fun r hx => Q (.inr r) hx))
theorem v_X2_init_2_0 {g : PG} {d : Nat} {l0 : Nat} {l1 : Nat} {h : PH} {Q : Out → PH → Prop} (H : w_X2_init_2_0 g d l0 l1 h Q) : R g d m_X2_init_2 0 [.ref l0, .ref l1, .null, .null, .null] [] h Q := by
  refine r_aload_n dX2_init_2_0 rfl rfl ?_
  obtain ⟨k1, H⟩ := H
  refine r_oinit dX2_init_2_1 q189 q182 q183 k1 (Nat.le_of_ble_eq_true rfl) ?_
  refine r_aload_n dX2_init_2_4 rfl rfl ?_
  refine r_bipush dX2_init_2_5 rfl ?_
  obtain ⟨k2, H⟩ := H
  obtain ⟨k3, H⟩ := H
  replace H := H _ rfl
  refine r_anew (m := 7) (kk := 700) dX2_init_2_7 rfl (by decide) (by decide) q190 q191 k2 rfl (newB4 k3) ?_
  obtain ⟨k5, H⟩ := H
  replace H := H _ rfl
  refine r_putG fw_X2_11_2_i (by decide) dX2_init_2_10 k5 (by decide) rfl ?_
  refine r_aload_n dX2_init_2_13 rfl rfl ?_
  replace H := H _ rfl
  refine r_new (ci := 13) dX2_init_2_14 rfl (by decide) q192 q193 q111 ?_
  refine r_dup dX2_init_2_17 rfl ?_
  obtain ⟨k8, H⟩ := H
  refine r_invI (y := m_J2_init) dX2_init_2_18 rfl rfl q196 q111 q194 q195 rfl py_J2_init (Nat.le_of_ble_eq_true rfl) (args := []) rfl rfl (Nat.le_of_ble_eq_true rfl) k8 (C.monoE H (fun o h9 _ x11 K => cont_V K (fun H => ?_) (fun r HX => XR_nc rfl HX)))
  obtain ⟨k12, H⟩ := H
  replace H := H _ rfl
  refine r_putG fw_X2_20_2_i (by decide) dX2_init_2_21 k12 (by decide) rfl ?_
  refine r_aload_n dX2_init_2_24 rfl rfl ?_
  refine r_iconst dX2_init_2_25 rfl ?_
  obtain ⟨k14, H⟩ := H
  obtain ⟨k15, H⟩ := H
  replace H := H _ rfl
  refine r_newa (atype := .int) (m := 1) (kk := 100) dX2_init_2_26 rfl (by decide) (by decide) q262 k14 rfl (newB k15 (by decide)) ?_
  refine r_dup dX2_init_2_28 rfl ?_
  refine r_iconst dX2_init_2_29 rfl ?_
  refine r_iconst dX2_init_2_30 rfl ?_
  obtain ⟨k17, H⟩ := H
  obtain ⟨k18, H⟩ := H
  obtain ⟨k19, H⟩ := H
  replace H := H _ rfl
  refine r_iast dX2_init_2_31 k17 k18 k19 ?_
  refine r_dup dX2_init_2_32 rfl ?_
  refine r_iconst dX2_init_2_33 rfl ?_
  refine r_iconst dX2_init_2_34 rfl ?_
  obtain ⟨k21, H⟩ := H
  obtain ⟨k22, H⟩ := H
  obtain ⟨k23, H⟩ := H
  replace H := H _ rfl
  refine r_iast dX2_init_2_35 k21 k22 k23 ?_
  refine r_dup dX2_init_2_36 rfl ?_
  refine r_iconst dX2_init_2_37 rfl ?_
  refine r_iconst dX2_init_2_38 rfl ?_
  obtain ⟨k25, H⟩ := H
  obtain ⟨k26, H⟩ := H
  obtain ⟨k27, H⟩ := H
  replace H := H _ rfl
  refine r_iast dX2_init_2_39 k25 k26 k27 ?_
  obtain ⟨k29, H⟩ := H
  replace H := H _ rfl
  refine r_putG fw_X2_24_2_i (by decide) dX2_init_2_40 k29 (by decide) rfl ?_
  refine r_aload_n dX2_init_2_43 rfl rfl ?_
  refine r_iconst dX2_init_2_44 rfl ?_
  replace H := H _ rfl
  refine r_newa (atype := .int) (m := 1) (kk := 100) dX2_init_2_45 rfl (by decide) (by decide) q262 k14 rfl (newB k15 (by decide)) ?_
  refine r_dup dX2_init_2_47 rfl ?_
  refine r_iconst dX2_init_2_48 rfl ?_
  refine r_iconst dX2_init_2_49 rfl ?_
  obtain ⟨k34, H⟩ := H
  obtain ⟨k35, H⟩ := H
  obtain ⟨k36, H⟩ := H
  replace H := H _ rfl
  refine r_iast dX2_init_2_50 k34 k35 k36 ?_
  refine r_dup dX2_init_2_51 rfl ?_
  refine r_iconst dX2_init_2_52 rfl ?_
  refine r_iconst dX2_init_2_53 rfl ?_
  obtain ⟨k38, H⟩ := H
  obtain ⟨k39, H⟩ := H
  obtain ⟨k40, H⟩ := H
  replace H := H _ rfl
  refine r_iast dX2_init_2_54 k38 k39 k40 ?_
  refine r_dup dX2_init_2_55 rfl ?_
  refine r_iconst dX2_init_2_56 rfl ?_
  refine r_iconst dX2_init_2_57 rfl ?_
  obtain ⟨k42, H⟩ := H
  obtain ⟨k43, H⟩ := H
  obtain ⟨k44, H⟩ := H
  replace H := H _ rfl
  refine r_iast dX2_init_2_58 k42 k43 k44 ?_
  obtain ⟨k46, H⟩ := H
  replace H := H _ rfl
  refine r_putG fw_X2_28_2_i (by decide) dX2_init_2_59 k46 (by decide) rfl ?_
  refine r_aload_n dX2_init_2_62 rfl rfl ?_
  refine r_iconst dX2_init_2_63 rfl ?_
  replace H := H _ rfl
  refine r_newa (atype := .int) (m := 1) (kk := 100) dX2_init_2_64 rfl (by decide) (by decide) q262 k14 rfl (newB k15 (by decide)) ?_
  obtain ⟨k51, H⟩ := H
  replace H := H _ rfl
  refine r_putG fw_X2_31_2_i (by decide) dX2_init_2_66 k51 (by decide) rfl ?_
  refine r_aload_n dX2_init_2_69 rfl rfl ?_
  replace H := H _ rfl
  refine r_new (ci := 15) dX2_init_2_70 rfl (by decide) q225 q226 q113 ?_
  refine r_dup dX2_init_2_73 rfl ?_
  obtain ⟨k54, H⟩ := H
  refine r_invI (y := m_J4_init) dX2_init_2_74 rfl rfl q229 q113 q227 q228 rfl py_J4_init (Nat.le_of_ble_eq_true rfl) (args := []) rfl rfl (Nat.le_of_ble_eq_true rfl) k54 (C.monoE H (fun o h55 _ x57 K => cont_V K (fun H => ?_) (fun r HX => XR_nc rfl HX)))
  obtain ⟨k58, H⟩ := H
  replace H := H _ rfl
  refine r_putG fw_X2_37_2_i (by decide) dX2_init_2_77 k58 (by decide) rfl ?_
  refine r_aload_n dX2_init_2_80 rfl rfl ?_
  replace H := H _ rfl
  refine r_new (ci := 23) dX2_init_2_81 rfl (by decide) q263 q264 q115 ?_
  refine r_dup dX2_init_2_84 rfl ?_
  obtain ⟨k61, H⟩ := H
  refine r_invI (y := m_J6_init) dX2_init_2_85 rfl rfl q267 q115 q265 q266 rfl py_J6_init (Nat.le_of_ble_eq_true rfl) (args := []) rfl rfl (Nat.le_of_ble_eq_true rfl) k61 (C.monoE H (fun o h62 _ x64 K => cont_V K (fun H => ?_) (fun r HX => XR_nc rfl HX)))
  obtain ⟨k65, H⟩ := H
  replace H := H _ rfl
  refine r_putG fw_X2_44_2_i (by decide) dX2_init_2_88 k65 (by decide) rfl ?_
  refine r_aload_n dX2_init_2_91 rfl rfl ?_
  refine r_aload_n dX2_init_2_92 rfl rfl ?_
  obtain ⟨k67, H⟩ := H
  refine r_getF fr_X2_49_2 (by decide) dX2_init_2_93 k67 (by decide) ?_
  replace H := H _ rfl
  refine r_putF fw_X2_49_2_i (by decide) dX2_init_2_96 k65 (by decide) rfl rfl ?_
  refine r_aload_n dX2_init_2_99 rfl rfl ?_
  refine r_aload_n dX2_init_2_100 rfl rfl ?_
  refine r_getF fr_X2_53_2 (by decide) dX2_init_2_101 k67 (by decide) ?_
  replace H := H _ rfl
  refine r_putF fw_X2_53_2_i (by decide) dX2_init_2_104 k65 (by decide) rfl rfl ?_
  refine r_aload_n dX2_init_2_107 rfl rfl ?_
  refine r_aload_n dX2_init_2_108 rfl rfl ?_
  refine r_getF fr_X2_56_2 (by decide) dX2_init_2_109 k67 (by decide) ?_
  replace H := H _ rfl
  refine r_putF fw_X2_56_2_i (by decide) dX2_init_2_112 k65 (by decide) rfl rfl ?_
  refine r_iconst dX2_init_2_115 rfl ?_
  refine r_istore_n dX2_init_2_116 rfl (Nat.le_of_ble_eq_true rfl) rfl (slS (slS sl0)) ?_
  exact H
theorem c_X2_init_2_0 {g : PG} {d : Nat} {l0 : Nat} {l1 : Nat} {h : PH} {Q : Out → PH → Prop} (H : w_X2_init_2_0 g d l0 l1 h Q) : C g (d + 1) m_X2_init_2 [.ref l0, .ref l1] h Q := C_of_R rfl rfl (Nat.le_of_ble_eq_true rfl) rfl (v_X2_init_2_0 H)
abbrev w_X2_come_37 (g : PG) (d : Nat) (l0 : Nat) (l1 : Int32) (l2 : Int32) (l3 : Int32) (s0 : Int32) (h : PH) (Q : Out → PH → Prop) : Prop := C g d m_X1_refuse [.int s0, .int 1, .int 9] h (oV (fun h1 => hkd h1 l0 = 2 ∧ hkd h1 (hG h1 507 l0) = 13 ∧ C g d m_J2_size [.ref (hG h1 507 l0)] h1 (oI (fun v7 h6 => ∀ h9, h9 = hnew 4 0 8 h6 → 0 < (hnx h6) ∧ C g d m_X6_init_2 [.ref (hnx h6), .int v7, .int l1, .int l2, .int l3] h9 (oV (fun h11 => hkd h11 (hG h6 507 l0) = 13 ∧ C g d m_J2_add [.ref (hG h6 507 l0), .ref (hnx h6)] h11 (oI (fun v16 h15 => hkd h15 l0 = 2 ∧ ∀ h19, h19 = setF 3 l0 ((hF h15 3 l0) + l3) h15 → hkd h19 (hG h19 508 l0) / 100 = 1 ∧ vp_in l1 (hln h19 (hG h19 508 l0)) ∧ ((¬ (hA h19 (hG h19 508 l0) l1.toNatClampNeg) = (-1 : Int32)) → Q (.inl (some (.int v7))) h19) ∧ (((hA h19 (hG h19 508 l0) l1.toNatClampNeg) = (-1 : Int32)) → C g d m_X2_liesOn [.ref l0, .int l1] h19 (oI (fun v24 h23 => ((¬ v24 = (-1 : Int32)) → Q (.inl (some (.int v7))) h23) ∧ ((v24 = (-1 : Int32)) → hkd h23 (hG h23 508 l0) / 100 = 1 ∧ hkd h23 (hG h23 508 l0) % 100 < 50 ∧ vp_in l1 (hln h23 (hG h23 508 l0)) ∧ ∀ h30, h30 = setA (hG h23 508 l0) l1.toNatClampNeg v7 h23 → Q (.inl (some (.int v7))) h30)) (fun r hx => Q (.inr r) hx)))) (fun r hx => Q (.inr r) hx))) (fun r hx => Q (.inr r) hx))) (fun r hx => Q (.inr r) hx))) (fun r hx => Q (.inr r) hx))
theorem v_X2_come_37 {g : PG} {d : Nat} {l0 : Nat} {l1 : Int32} {l2 : Int32} {l3 : Int32} {s0 : Int32} {h : PH} {Q : Out → PH → Prop} (H : w_X2_come_37 g d l0 l1 l2 l3 s0 h Q) : R g d m_X2_come 37 [.ref l0, .int l1, .int l2, .int l3, .null, .null] [.int s0] h Q := by
  refine r_iconst dX2_come_37 rfl ?_
  refine r_bipush dX2_come_38 rfl ?_
  refine r_invSN (y := m_X1_refuse) dX2_come_40 rfl q2417 q2419 q107 q2418 py_X1_refuse (Nat.le_of_ble_eq_true rfl) (args := [_, _, _]) rfl rfl (Nat.le_of_ble_eq_true rfl) (C.monoE H (fun o h1 _ x3 K => cont_V K (fun H => ?_) (fun r HX => XR_nc rfl HX)))
  refine r_aload_n dX2_come_43 rfl rfl ?_
  obtain ⟨k4, H⟩ := H
  refine r_getG fr_X2_20_2 (by decide) dX2_come_44 k4 (by decide) ?_
  obtain ⟨k5, H⟩ := H
  refine r_invV (y := m_J2_size) dX2_come_47 rfl (lw_V q2416 q913 q3681 q111 q914) py_J2_size (Nat.le_of_ble_eq_true rfl) (args := []) rfl rfl (Nat.le_of_ble_eq_true rfl) k5 (by decide) rfl (C.monoE H (fun o h6 _ x8 K => cont_I K (fun v7 H => ?_) (fun r HX => XR_nc rfl HX)))
  refine r_istore dX2_come_50 (Nat.le_of_ble_eq_true rfl) rfl (slS (slS (slS (slS sl0)))) ?_
  refine r_aload_n dX2_come_52 rfl rfl ?_
  refine r_getG fr_X2_20_2 (by decide) dX2_come_53 (x8.kd k4 (by decide)) (by decide) ?_
  replace H := H _ rfl
  refine r_new (ci := 4) dX2_come_56 rfl (by decide) q1638 q2071 q142 ?_
  refine r_dup dX2_come_59 rfl ?_
  refine r_iload dX2_come_60 rfl ?_
  refine r_iload_n dX2_come_62 rfl rfl ?_
  refine r_iload_n dX2_come_63 rfl rfl ?_
  refine r_iload_n dX2_come_64 rfl rfl ?_
  obtain ⟨k10, H⟩ := H
  refine r_invI (y := m_X6_init_2) dX2_come_65 rfl rfl q2077 q142 q2450 q2076 rfl py_X6_init_2 (Nat.le_of_ble_eq_true rfl) (args := [_, _, _, _]) rfl rfl (Nat.le_of_ble_eq_true rfl) k10 (C.monoE H (fun o h11 _ x13 K => cont_V K (fun H => ?_) (fun r HX => XR_nc rfl HX)))
  obtain ⟨k14, H⟩ := H
  refine r_invV (y := m_J2_add) dX2_come_68 rfl (lw_V q2120 q2121 q2122 q111 q2123) py_J2_add (Nat.le_of_ble_eq_true rfl) (args := [_]) rfl rfl (Nat.le_of_ble_eq_true rfl) k14 (by decide) rfl (C.monoE H (fun o h15 _ x17 K => cont_I K (fun v16 H => ?_) (fun r HX => XR_nc rfl HX)))
  refine r_istore dX2_come_71 (Nat.le_of_ble_eq_true rfl) rfl (slS (slS (slS (slS (slS sl0))))) ?_
  refine r_aload_n dX2_come_73 rfl rfl ?_
  refine r_dup dX2_come_74 rfl ?_
  obtain ⟨k18, H⟩ := H
  refine r_getF fr_X2_56_2 (by decide) dX2_come_75 k18 (by decide) ?_
  refine r_iload_n dX2_come_78 rfl rfl ?_
  refine r_iadd dX2_come_79 ?_
  replace H := H _ rfl
  refine r_putF fw_X2_56_2 (by decide) dX2_come_80 k18 (by decide) rfl rfl ?_
  refine r_aload_n dX2_come_83 rfl rfl ?_
  refine r_getG fr_X2_24_2 (by decide) dX2_come_84 k18 (by decide) ?_
  refine r_iload_n dX2_come_87 rfl rfl ?_
  obtain ⟨k20, H⟩ := H
  obtain ⟨k21, H⟩ := H
  refine r_iald dX2_come_88 k20 k21 ?_
  refine r_iconst dX2_come_89 rfl ?_
  refine r_icmp_ne (tgt := 110) dX2_come_90 rfl (fun b22 => ?_) (fun b22 => ?_)
  · replace H := H.1 b22
    refine r_iload dX2_come_110 rfl ?_
    exact r_iret dX2_come_112 rfl H
  · replace H := H.2 b22
    refine r_aload_n dX2_come_93 rfl rfl ?_
    refine r_iload_n dX2_come_94 rfl rfl ?_
    refine r_invV (y := m_X2_liesOn) dX2_come_95 rfl (lw_V q1629 q1631 qp11 q108 q1632) py_X2_liesOn (Nat.le_of_ble_eq_true rfl) (args := [_]) rfl rfl (Nat.le_of_ble_eq_true rfl) k18 (by decide) rfl (C.monoE H (fun o h23 _ x25 K => cont_I K (fun v24 H => ?_) (fun r HX => XR_nc rfl HX)))
    refine r_iconst dX2_come_98 rfl ?_
    refine r_icmp_ne (tgt := 110) dX2_come_99 rfl (fun b26 => ?_) (fun b26 => ?_)
    · replace H := H.1 b26
      refine r_iload dX2_come_110 rfl ?_
      exact r_iret dX2_come_112 rfl H
    · replace H := H.2 b26
      refine r_aload_n dX2_come_102 rfl rfl ?_
      refine r_getG fr_X2_24_2 (by decide) dX2_come_103 (x25.kd k18 (by decide)) (by decide) ?_
      refine r_iload_n dX2_come_106 rfl rfl ?_
      refine r_iload dX2_come_107 rfl ?_
      obtain ⟨k27, H⟩ := H
      obtain ⟨k28, H⟩ := H
      obtain ⟨k29, H⟩ := H
      replace H := H _ rfl
      refine r_iast dX2_come_109 k27 k28 k29 ?_
      refine r_iload dX2_come_110 rfl ?_
      exact r_iret dX2_come_112 rfl H
abbrev w_X2_come_0 (g : PG) (d : Nat) (l0 : Nat) (l1 : Int32) (l2 : Int32) (l3 : Int32) (h : PH) (Q : Out → PH → Prop) : Prop := C g d m_X1_checkIndex [.int l2, .int 11] h (oV (fun h1 => C g d m_X1_checkTeam [.int l1] h1 (oV (fun h4 => C g d m_X1_inRange [.int l3, .int 1, .int 60] h4 (oI (fun v8 h7 => C g d m_X1_checkArgument [.int v8] h7 (oV (fun h10 => hkd h10 l0 = 2 ∧ hkd h10 (hG h10 507 l0) = 13 ∧ C g d m_J2_size [.ref (hG h10 507 l0)] h10 (oI (fun v16 h15 => ((¬ v16 = (9 : Int32)) → w_X2_come_37 g d l0 l1 l2 l3 (0 : Int32) h15 Q) ∧ ((v16 = (9 : Int32)) → w_X2_come_37 g d l0 l1 l2 l3 (1 : Int32) h15 Q)) (fun r hx => Q (.inr r) hx))) (fun r hx => Q (.inr r) hx))) (fun r hx => Q (.inr r) hx))) (fun r hx => Q (.inr r) hx))) (fun r hx => Q (.inr r) hx))
theorem v_X2_come_0 {g : PG} {d : Nat} {l0 : Nat} {l1 : Int32} {l2 : Int32} {l3 : Int32} {h : PH} {Q : Out → PH → Prop} (H : w_X2_come_0 g d l0 l1 l2 l3 h Q) : R g d m_X2_come 0 [.ref l0, .int l1, .int l2, .int l3, .null, .null] [] h Q := by
  refine r_iload_n dX2_come_0 rfl rfl ?_
  refine r_bipush dX2_come_1 rfl ?_
  refine r_invSN (y := m_X1_checkIndex) dX2_come_3 rfl q2395 q2397 q107 q2396 py_X1_checkIndex (Nat.le_of_ble_eq_true rfl) (args := [_, _]) rfl rfl (Nat.le_of_ble_eq_true rfl) (C.monoE H (fun o h1 _ x3 K => cont_V K (fun H => ?_) (fun r HX => XR_nc rfl HX)))
  refine r_iload_n dX2_come_6 rfl rfl ?_
  refine r_invSN (y := m_X1_checkTeam) dX2_come_7 rfl q2403 q2405 q107 q2404 py_X1_checkTeam (Nat.le_of_ble_eq_true rfl) (args := [_]) rfl rfl (Nat.le_of_ble_eq_true rfl) (C.monoE H (fun o h4 _ x6 K => cont_V K (fun H => ?_) (fun r HX => XR_nc rfl HX)))
  refine r_iload_n dX2_come_10 rfl rfl ?_
  refine r_iconst dX2_come_11 rfl ?_
  refine r_bipush dX2_come_12 rfl ?_
  refine r_invSN (y := m_X1_inRange) dX2_come_14 rfl q2414 q1612 q107 q1611 py_X1_inRange (Nat.le_of_ble_eq_true rfl) (args := [_, _, _]) rfl rfl (Nat.le_of_ble_eq_true rfl) (C.monoE H (fun o h7 _ x9 K => cont_I K (fun v8 H => ?_) (fun r HX => XR_nc rfl HX)))
  refine r_invSN (y := m_X1_checkArgument) dX2_come_17 rfl q2415 q2408 q107 q2407 py_X1_checkArgument (Nat.le_of_ble_eq_true rfl) (args := [_]) rfl rfl (Nat.le_of_ble_eq_true rfl) (C.monoE H (fun o h10 _ x12 K => cont_V K (fun H => ?_) (fun r HX => XR_nc rfl HX)))
  refine r_aload_n dX2_come_20 rfl rfl ?_
  obtain ⟨k13, H⟩ := H
  refine r_getG fr_X2_20_2 (by decide) dX2_come_21 k13 (by decide) ?_
  obtain ⟨k14, H⟩ := H
  refine r_invV (y := m_J2_size) dX2_come_24 rfl (lw_V q2416 q913 q3681 q111 q914) py_J2_size (Nat.le_of_ble_eq_true rfl) (args := []) rfl rfl (Nat.le_of_ble_eq_true rfl) k14 (by decide) rfl (C.monoE H (fun o h15 _ x17 K => cont_I K (fun v16 H => ?_) (fun r HX => XR_nc rfl HX)))
  refine r_bipush dX2_come_27 rfl ?_
  refine r_icmp_ne (tgt := 36) dX2_come_29 rfl (fun b18 => ?_) (fun b18 => ?_)
  · replace H := H.1 b18
    refine r_iconst dX2_come_36 rfl ?_
    exact v_X2_come_37 H
  · replace H := H.2 b18
    refine r_iconst dX2_come_32 rfl ?_
    refine r_goto (tgt := 37) dX2_come_33 rfl ?_
    exact v_X2_come_37 H
theorem c_X2_come_0 {g : PG} {d : Nat} {l0 : Nat} {l1 : Int32} {l2 : Int32} {l3 : Int32} {h : PH} {Q : Out → PH → Prop} (H : w_X2_come_0 g d l0 l1 l2 l3 h Q) : C g (d + 1) m_X2_come [.ref l0, .int l1, .int l2, .int l3] h Q := C_of_R rfl rfl (Nat.le_of_ble_eq_true rfl) rfl (v_X2_come_0 H)
abbrev w_X2_run_161 (g : PG) (d : Nat) (l0 : Nat) (l1 : Int32) (l3 : Nat) (l4 : Int32) (l5 : Int32) (h : PH) (Q : Out → PH → Prop) : Prop := hkd h l0 = 2 ∧ ∀ h2, h2 = hnew 5 0 6 h → hkd h2 l3 = 4 ∧ hkd h2 l0 = 2 ∧ 0 < (hnx h) ∧ C g d m_X8_init [.ref (hnx h), .int l1, .int l4, .int (hF h2 9 l3), .int (l5 - (hF h2 10 l3)), .int (hF h2 1 l0)] h2 (oV (fun h6 => hkd h6 (hG h 512 l0) = 23 ∧ C g d m_J6_addFirst [.ref (hG h 512 l0), .ref (hnx h)] h6 (oV (fun h10 => Q (.inl (some (.int (hF h10 9 l3)))) h10) (fun r hx => Q (.inr r) hx))) (fun r hx => Q (.inr r) hx))
theorem v_X2_run_161 {g : PG} {d : Nat} {l0 : Nat} {l1 : Int32} {l3 : Nat} {l4 : Int32} {l5 : Int32} {h : PH} {Q : Out → PH → Prop} (H : w_X2_run_161 g d l0 l1 l3 l4 l5 h Q) : R g d m_X2_run 161 [.ref l0, .int l1, .null, .ref l3, .int l4, .int l5, .null] [] h Q := by
  refine r_aload_n dX2_run_161 rfl rfl ?_
  obtain ⟨k1, H⟩ := H
  refine r_getG fr_X2_44_2 (by decide) dX2_run_162 k1 (by decide) ?_
  replace H := H _ rfl
  refine r_new (ci := 5) dX2_run_165 rfl (by decide) q2495 q2496 q163 ?_
  refine r_dup dX2_run_168 rfl ?_
  refine r_iload_n dX2_run_169 rfl rfl ?_
  refine r_iload dX2_run_170 rfl ?_
  refine r_aload_n dX2_run_172 rfl rfl ?_
  obtain ⟨k3, H⟩ := H
  refine r_getF fr_X2_144_4 (by decide) dX2_run_173 k3 (by decide) ?_
  refine r_iload dX2_run_176 rfl ?_
  refine r_aload_n dX2_run_178 rfl rfl ?_
  refine r_getF fr_X2_157_4 (by decide) dX2_run_179 k3 (by decide) ?_
  refine r_isub dX2_run_182 ?_
  refine r_aload_n dX2_run_183 rfl rfl ?_
  obtain ⟨k4, H⟩ := H
  refine r_getF fr_X2_49_2 (by decide) dX2_run_184 k4 (by decide) ?_
  obtain ⟨k5, H⟩ := H
  refine r_invIN (y := m_X8_init) dX2_run_187 rfl rfl q2497 q2499 q163 q2498 rfl py_X8_init (Nat.le_of_ble_eq_true rfl) (args := [_, _, _, _, _]) rfl rfl (Nat.le_of_ble_eq_true rfl) k5 (C.monoE H (fun o h6 _ x8 K => cont_V K (fun H => ?_) (fun r HX => XR_nc rfl HX)))
  obtain ⟨k9, H⟩ := H
  refine r_invV (y := m_J6_addFirst) dX2_run_190 rfl (lw_V q2517 q2518 q2519 q115 q2520) py_J6_addFirst (Nat.le_of_ble_eq_true rfl) (args := [_]) rfl rfl (Nat.le_of_ble_eq_true rfl) k9 (by decide) rfl (C.monoE H (fun o h10 _ x12 K => cont_V K (fun H => ?_) (fun r HX => XR_nc rfl HX)))
  refine r_aload_n dX2_run_193 rfl rfl ?_
  refine r_getF fr_X2_144_4 (by decide) dX2_run_194 (x12.kd (x8.kd k3 (by decide)) (by decide)) (by decide) ?_
  exact r_iret dX2_run_197 rfl H
abbrev w_X2_run_128 (g : PG) (d : Nat) (l0 : Nat) (l1 : Int32) (l3 : Nat) (l4 : Int32) (l5 : Int32) (h : PH) (Q : Out → PH → Prop) : Prop := hkd h l0 = 2 ∧ ∀ h2, h2 = setF 2 l0 ((hF h 2 l0) + (1 : Int32)) h → hkd h2 (hG h2 512 l0) = 23 ∧ C g d m_J6_size [.ref (hG h2 512 l0)] h2 (oI (fun v5 h4 => ((¬ v5 = (5 : Int32)) → w_X2_run_161 g d l0 l1 l3 l4 l5 h4 Q) ∧ ((v5 = (5 : Int32)) → hkd h4 (hG h4 512 l0) = 23 ∧ C g d m_J6_removeLast [.ref (hG h4 512 l0)] h4 (oR (fun v10 h9 => (v10 = 0 ∨ hkd h9 v10 = 5) ∧ w_X2_run_161 g d l0 l1 l3 l4 l5 h9 Q) (fun r hx => Q (.inr r) hx)))) (fun r hx => Q (.inr r) hx))
theorem v_X2_run_128 {g : PG} {d : Nat} {l0 : Nat} {l1 : Int32} {l3 : Nat} {l4 : Int32} {l5 : Int32} {h : PH} {Q : Out → PH → Prop} (H : w_X2_run_128 g d l0 l1 l3 l4 l5 h Q) : R g d m_X2_run 128 [.ref l0, .int l1, .null, .ref l3, .int l4, .int l5, .null] [] h Q := by
  refine r_aload_n dX2_run_128 rfl rfl ?_
  refine r_dup dX2_run_129 rfl ?_
  obtain ⟨k1, H⟩ := H
  refine r_getF fr_X2_53_2 (by decide) dX2_run_130 k1 (by decide) ?_
  refine r_iconst dX2_run_133 rfl ?_
  refine r_iadd dX2_run_134 ?_
  replace H := H _ rfl
  refine r_putF fw_X2_53_2 (by decide) dX2_run_135 k1 (by decide) rfl rfl ?_
  refine r_aload_n dX2_run_138 rfl rfl ?_
  refine r_getG fr_X2_44_2 (by decide) dX2_run_139 k1 (by decide) ?_
  obtain ⟨k3, H⟩ := H
  refine r_invV (y := m_J6_size) dX2_run_142 rfl (lw_V q2484 q916 q3694 q115 q917) py_J6_size (Nat.le_of_ble_eq_true rfl) (args := []) rfl rfl (Nat.le_of_ble_eq_true rfl) k3 (by decide) rfl (C.monoE H (fun o h4 _ x6 K => cont_I K (fun v5 H => ?_) (fun r HX => XR_nc rfl HX)))
  refine r_iconst dX2_run_145 rfl ?_
  refine r_icmp_ne (tgt := 161) dX2_run_146 rfl (fun b7 => ?_) (fun b7 => ?_)
  · replace H := H.1 b7
    exact v_X2_run_161 H
  · replace H := H.2 b7
    refine r_aload_n dX2_run_149 rfl rfl ?_
    refine r_getG fr_X2_44_2 (by decide) dX2_run_150 (x6.kd k1 (by decide)) (by decide) ?_
    obtain ⟨k8, H⟩ := H
    refine r_invV (y := m_J6_removeLast) dX2_run_153 rfl (lw_V q2485 q2486 q2487 q115 q2488) py_J6_removeLast (Nat.le_of_ble_eq_true rfl) (args := []) rfl rfl (Nat.le_of_ble_eq_true rfl) k8 (by decide) rfl (C.monoE H (fun o h9 _ x11 K => cont_R K (fun v10 H => ?_) (fun r HX => XR_nc rfl HX)))
    obtain ⟨k12, H⟩ := H
    refine r_castO (kv := 5) dX2_run_156 q2495 (by decide) (Or.inr rfl) k12 ?_
    refine r_astore dX2_run_159 (Nat.le_of_ble_eq_true rfl) rfl (slS (slS (slS (slS (slS (slS sl0)))))) ?_
    exact R.forget (v_X2_run_161 H) ⟨Or.inl rfl, ⟨Or.inl rfl, ⟨Or.inl rfl, ⟨Or.inl rfl, ⟨Or.inl rfl, ⟨Or.inl rfl, ⟨Or.inr rfl, trivial⟩⟩⟩⟩⟩⟩⟩
abbrev w_X2_run_98 (g : PG) (d : Nat) (l0 : Nat) (l1 : Int32) (l3 : Nat) (l4 : Int32) (l5 : Int32) (h : PH) (Q : Out → PH → Prop) : Prop := hkd h l3 = 4 ∧ ((¬ (hF h 9 l3) = (11 : Int32)) → w_X2_run_128 g d l0 l1 l3 l4 l5 h Q) ∧ (((hF h 9 l3) = (11 : Int32)) → hkd h l0 = 2 ∧ C g d m_X2_hasHat [.ref l0, .ref l3] h (oI (fun v5 h4 => ((v5 = 0) → w_X2_run_128 g d l0 l1 l3 l4 l5 h4 Q) ∧ ((¬ v5 = 0) → hkd h4 (hG h4 509 l0) / 100 = 1 ∧ hkd h4 (hG h4 509 l0) % 100 < 50 ∧ vp_in (hF h4 8 l3) (hln h4 (hG h4 509 l0)) ∧ ∀ h11, h11 = setA (hG h4 509 l0) (hF h4 8 l3).toNatClampNeg (hF h4 1 l0) h4 → w_X2_run_128 g d l0 l1 l3 l4 l5 h11 Q)) (fun r hx => Q (.inr r) hx)))
theorem v_X2_run_98 {g : PG} {d : Nat} {l0 : Nat} {l1 : Int32} {l3 : Nat} {l4 : Int32} {l5 : Int32} {h : PH} {Q : Out → PH → Prop} (H : w_X2_run_98 g d l0 l1 l3 l4 l5 h Q) : R g d m_X2_run 98 [.ref l0, .int l1, .null, .ref l3, .int l4, .int l5, .null] [] h Q := by
  refine r_aload_n dX2_run_98 rfl rfl ?_
  obtain ⟨k1, H⟩ := H
  refine r_getF fr_X2_144_4 (by decide) dX2_run_99 k1 (by decide) ?_
  refine r_bipush dX2_run_102 rfl ?_
  refine r_icmp_ne (tgt := 128) dX2_run_104 rfl (fun b2 => ?_) (fun b2 => ?_)
  · replace H := H.1 b2
    exact v_X2_run_128 H
  · replace H := H.2 b2
    refine r_aload_n dX2_run_107 rfl rfl ?_
    refine r_aload_n dX2_run_108 rfl rfl ?_
    obtain ⟨k3, H⟩ := H
    refine r_invV (y := m_X2_hasHat) dX2_run_109 rfl (lw_V q2468 q2469 q2470 q108 q2471) py_X2_hasHat (Nat.le_of_ble_eq_true rfl) (args := [_]) rfl rfl (Nat.le_of_ble_eq_true rfl) k3 (by decide) rfl (C.monoE H (fun o h4 _ x6 K => cont_I K (fun v5 H => ?_) (fun r HX => XR_nc rfl HX)))
    refine r_if_eq (tgt := 128) dX2_run_112 rfl (fun b7 => ?_) (fun b7 => ?_)
    · replace H := H.1 b7
      exact v_X2_run_128 H
    · replace H := H.2 b7
      refine r_aload_n dX2_run_115 rfl rfl ?_
      refine r_getG fr_X2_28_2 (by decide) dX2_run_116 (x6.kd k3 (by decide)) (by decide) ?_
      refine r_aload_n dX2_run_119 rfl rfl ?_
      refine r_getF fr_X2_119_4 (by decide) dX2_run_120 (x6.kd k1 (by decide)) (by decide) ?_
      refine r_aload_n dX2_run_123 rfl rfl ?_
      refine r_getF fr_X2_49_2 (by decide) dX2_run_124 (x6.kd k3 (by decide)) (by decide) ?_
      obtain ⟨k8, H⟩ := H
      obtain ⟨k9, H⟩ := H
      obtain ⟨k10, H⟩ := H
      replace H := H _ rfl
      refine r_iast dX2_run_127 k8 k9 k10 ?_
      exact v_X2_run_128 H
abbrev w_X2_run_54 (g : PG) (d : Nat) (l0 : Nat) (l1 : Int32) (l2 : Int32) (l3 : Nat) (l4 : Int32) (l5 : Int32) (l6 : Int32) (h : PH) (Q : Out → PH → Prop) : Prop := ((l2 ≤ l6) → w_X2_run_98 g d l0 l1 l3 l4 l5 h Q) ∧ ((¬ l2 ≤ l6) → hkd h l3 = 4 ∧ C g d m_X6_isGone [.ref l3] h (oI (fun v4 h3 => ((¬ v4 = 0) → w_X2_run_98 g d l0 l1 l3 l4 l5 h3 Q) ∧ ((v4 = 0) → ∀ h7, h7 = setF 9 l3 ((hF h3 9 l3) + (1 : Int32)) h3 → ∀ h8, h8 = setF 12 l3 ((hF h7 12 l3) + (1 : Int32)) h7 → hkd h8 l0 = 2 ∧ C g d m_X2_act [.ref l0, .ref l3] h8 (oV (fun h10 => R g d m_X2_run 54 [.ref l0, .int l1, .int l2, .ref l3, .int l4, .int l5, .int (l6 + 1)] [] h10 Q) (fun r hx => Q (.inr r) hx)))) (fun r hx => Q (.inr r) hx)))
theorem v_X2_run_54 {g : PG} {d : Nat} {l0 : Nat} {l1 : Int32} {l2 : Int32} {l3 : Nat} {l4 : Int32} {l5 : Int32} {l6 : Int32} {h : PH} {Q : Out → PH → Prop} (H : w_X2_run_54 g d l0 l1 l2 l3 l4 l5 l6 h Q) : R g d m_X2_run 54 [.ref l0, .int l1, .int l2, .ref l3, .int l4, .int l5, .int l6] [] h Q := by
  refine r_iload dX2_run_54 rfl ?_
  refine r_iload_n dX2_run_56 rfl rfl ?_
  refine r_icmp_ge (tgt := 98) dX2_run_57 rfl (fun b1 => ?_) (fun b1 => ?_)
  · replace H := H.1 b1
    exact R.forget (v_X2_run_98 H) ⟨Or.inl rfl, ⟨Or.inl rfl, ⟨Or.inr rfl, ⟨Or.inl rfl, ⟨Or.inl rfl, ⟨Or.inl rfl, ⟨Or.inr rfl, trivial⟩⟩⟩⟩⟩⟩⟩
  · replace H := H.2 b1
    refine r_aload_n dX2_run_60 rfl rfl ?_
    obtain ⟨k2, H⟩ := H
    refine r_invV (y := m_X6_isGone) dX2_run_61 rfl (lw_V q2473 q2474 q2475 q142 q2476) py_X6_isGone (Nat.le_of_ble_eq_true rfl) (args := []) rfl rfl (Nat.le_of_ble_eq_true rfl) k2 (by decide) rfl (C.monoE H (fun o h3 _ x5 K => cont_I K (fun v4 H => ?_) (fun r HX => XR_nc rfl HX)))
    refine r_if_ne (tgt := 98) dX2_run_64 rfl (fun b6 => ?_) (fun b6 => ?_)
    · replace H := H.1 b6
      exact R.forget (v_X2_run_98 H) ⟨Or.inl rfl, ⟨Or.inl rfl, ⟨Or.inr rfl, ⟨Or.inl rfl, ⟨Or.inl rfl, ⟨Or.inl rfl, ⟨Or.inr rfl, trivial⟩⟩⟩⟩⟩⟩⟩
    · replace H := H.2 b6
      refine r_aload_n dX2_run_67 rfl rfl ?_
      refine r_dup dX2_run_68 rfl ?_
      refine r_getF fr_X2_144_4 (by decide) dX2_run_69 (x5.kd k2 (by decide)) (by decide) ?_
      refine r_iconst dX2_run_72 rfl ?_
      refine r_iadd dX2_run_73 ?_
      replace H := H _ rfl
      refine r_putF fw_X2_144_4 (by decide) dX2_run_74 (x5.kd k2 (by decide)) (by decide) rfl rfl ?_
      refine r_aload_n dX2_run_77 rfl rfl ?_
      refine r_dup dX2_run_78 rfl ?_
      refine r_getF fr_X2_239_4 (by decide) dX2_run_79 (x5.kd k2 (by decide)) (by decide) ?_
      refine r_iconst dX2_run_82 rfl ?_
      refine r_iadd dX2_run_83 ?_
      replace H := H _ rfl
      refine r_putF fw_X2_239_4 (by decide) dX2_run_84 (x5.kd k2 (by decide)) (by decide) rfl rfl ?_
      refine r_aload_n dX2_run_87 rfl rfl ?_
      refine r_aload_n dX2_run_88 rfl rfl ?_
      obtain ⟨k9, H⟩ := H
      refine r_invV (y := m_X2_act) dX2_run_89 rfl (lw_V q2477 q2479 qp33 q108 q2480) py_X2_act (Nat.le_of_ble_eq_true rfl) (args := [_]) rfl rfl (Nat.le_of_ble_eq_true rfl) k9 (by decide) rfl (C.monoE H (fun o h10 _ x12 K => cont_V K (fun H => ?_) (fun r HX => XR_nc rfl HX)))
      refine r_iinc dX2_run_92 rfl rfl (Nat.le_of_ble_eq_true rfl) rfl (slS (slS (slS (slS (slS (slS sl0)))))) ?_
      refine r_goto (tgt := 54) dX2_run_95 rfl ?_
      exact H
abbrev w_X2_run_25 (g : PG) (d : Nat) (l1 : Int32) (s0 : Nat) (h : PH) (Q : Out → PH → Prop) : Prop := ∀ h1, h1 = hnew 7 0 9 h → 0 < (hnx h) ∧ C g d m_X7_init_2 [.ref (hnx h), .int 3, .int l1, .ref s0] h1 (oV (fun h3 => (hkd h3 (hnx h) ≠ 0 ∧ hkd h3 (hnx h) < 100) ∧ Q (.inr (hnx h)) h3) (fun r hx => Q (.inr r) hx))
theorem v_X2_run_25 {g : PG} {d : Nat} {l1 : Int32} {s0 : Nat} {h : PH} {Q : Out → PH → Prop} (H : w_X2_run_25 g d l1 s0 h Q) : R g d m_X2_run 25 [.null, .int l1, .null, .null, .null, .null, .null] [.ref s0] h Q := by
  refine r_astore dX2_run_25 (Nat.le_of_ble_eq_true rfl) rfl (slS (slS (slS (slS sl0)))) ?_
  replace H := H _ rfl
  refine r_new (ci := 7) dX2_run_27 rfl (by decide) q2455 q2420 q161 ?_
  refine r_dup dX2_run_30 rfl ?_
  refine r_iconst dX2_run_31 rfl ?_
  refine r_iload_n dX2_run_32 rfl rfl ?_
  refine r_aload dX2_run_33 rfl ?_
  obtain ⟨k2, H⟩ := H
  refine r_invI (y := m_X7_init_2) dX2_run_35 rfl rfl q2433 q161 q2472 q2432 rfl py_X7_init_2 (Nat.le_of_ble_eq_true rfl) (args := [_, _, _]) rfl rfl (Nat.le_of_ble_eq_true rfl) k2 (C.monoE H (fun o h3 _ x5 K => cont_V K (fun H => ?_) (fun r HX => XR_nc rfl HX)))
  exact r_athrow dX2_run_38 H.1 (XR_nc rfl H.2)
abbrev w_X2_run_0 (g : PG) (d : Nat) (l0 : Nat) (l1 : Int32) (l2 : Int32) (h : PH) (Q : Out → PH → Prop) : Prop := C g d m_X1_inRange [.int l2, .int 1, .int 9] h (oI (fun v2 h1 => C g d m_X1_checkArgument [.int v2] h1 (oV (fun h4 => hkd h4 l0 = 2 ∧ C g d m_X2_told [.ref l0, .int l1] h4 (oR (fun v9 h8 => C g d m_X2_checkLeg [.ref l0, .ref v9, .int l2] h8 (oV (fun h11 => hkd h11 v9 = 4 ∧ R g d m_X2_run 54 [.ref l0, .int l1, .int l2, .ref v9, .int (hF h11 9 v9), .int (hF h11 10 v9), .int 0] [] h11 Q) (fun r hx => XR g d m_X2_run 19 [.ref l0, .int l1, .int l2, .ref v9, .null, .null, .null] r hx Q))) (fun r hx => Q (.inr r) hx))) (fun r hx => Q (.inr r) hx))) (fun r hx => Q (.inr r) hx))
theorem v_X2_run_0 {g : PG} {d : Nat} {l0 : Nat} {l1 : Int32} {l2 : Int32} {h : PH} {Q : Out → PH → Prop} (H : w_X2_run_0 g d l0 l1 l2 h Q) : R g d m_X2_run 0 [.ref l0, .int l1, .int l2, .null, .null, .null, .null] [] h Q := by
  refine r_iload_n dX2_run_0 rfl rfl ?_
  refine r_iconst dX2_run_1 rfl ?_
  refine r_bipush dX2_run_2 rfl ?_
  refine r_invSN (y := m_X1_inRange) dX2_run_4 rfl q2414 q1612 q107 q1611 py_X1_inRange (Nat.le_of_ble_eq_true rfl) (args := [_, _, _]) rfl rfl (Nat.le_of_ble_eq_true rfl) (C.monoE H (fun o h1 _ x3 K => cont_I K (fun v2 H => ?_) (fun r HX => XR_nc rfl HX)))
  refine r_invSN (y := m_X1_checkArgument) dX2_run_7 rfl q2415 q2408 q107 q2407 py_X1_checkArgument (Nat.le_of_ble_eq_true rfl) (args := [_]) rfl rfl (Nat.le_of_ble_eq_true rfl) (C.monoE H (fun o h4 _ x6 K => cont_V K (fun H => ?_) (fun r HX => XR_nc rfl HX)))
  refine r_aload_n dX2_run_10 rfl rfl ?_
  refine r_iload_n dX2_run_11 rfl rfl ?_
  obtain ⟨k7, H⟩ := H
  refine r_invV (y := m_X2_told) dX2_run_12 rfl (lw_V q2456 q2458 qp30 q108 q2459) py_X2_told (Nat.le_of_ble_eq_true rfl) (args := [_]) rfl rfl (Nat.le_of_ble_eq_true rfl) k7 (by decide) rfl (C.monoE H (fun o h8 _ x10 K => cont_R K (fun v9 H => ?_) (fun r HX => XR_nc rfl HX)))
  refine r_astore_n dX2_run_15 rfl (Nat.le_of_ble_eq_true rfl) rfl (slS (slS (slS sl0))) ?_
  refine r_aload_n dX2_run_16 rfl rfl ?_
  refine r_aload_n dX2_run_17 rfl rfl ?_
  refine r_iload_n dX2_run_18 rfl rfl ?_
  refine r_invV (y := m_X2_checkLeg) dX2_run_19 rfl (lw_V q2460 q2462 qp31 q108 q2463) py_X2_checkLeg (Nat.le_of_ble_eq_true rfl) (args := [_, _]) rfl rfl (Nat.le_of_ble_eq_true rfl) (x10.kd k7 (by decide)) (by decide) rfl (C.monoE H (fun o h11 _ x13 K => cont_V K (fun H => ?_) (fun r HX => HX)))
  refine r_goto (tgt := 39) dX2_run_22 rfl ?_
  refine r_aload_n dX2_run_39 rfl rfl ?_
  obtain ⟨k14, H⟩ := H
  refine r_getF fr_X2_144_4 (by decide) dX2_run_40 k14 (by decide) ?_
  refine r_istore dX2_run_43 (Nat.le_of_ble_eq_true rfl) rfl (slS (slS (slS (slS sl0)))) ?_
  refine r_aload_n dX2_run_45 rfl rfl ?_
  refine r_getF fr_X2_157_4 (by decide) dX2_run_46 k14 (by decide) ?_
  refine r_istore dX2_run_49 (Nat.le_of_ble_eq_true rfl) rfl (slS (slS (slS (slS (slS sl0))))) ?_
  refine r_iconst dX2_run_51 rfl ?_
  refine r_istore dX2_run_52 (Nat.le_of_ble_eq_true rfl) rfl (slS (slS (slS (slS (slS (slS sl0)))))) ?_
  exact H
theorem c_X2_run_0 {g : PG} {d : Nat} {l0 : Nat} {l1 : Int32} {l2 : Int32} {h : PH} {Q : Out → PH → Prop} (H : w_X2_run_0 g d l0 l1 l2 h Q) : C g (d + 1) m_X2_run [.ref l0, .int l1, .int l2] h Q := C_of_R rfl rfl (Nat.le_of_ble_eq_true rfl) rfl (v_X2_run_0 H)
abbrev w_X2_told_22 (g : PG) (d : Nat) (l0 : Nat) (l1 : Int32) (s0 : Int32) (h : PH) (Q : Out → PH → Prop) : Prop := hkd h l0 = 2 ∧ hkd h (hG h 507 l0) = 13 ∧ C g d m_J2_size [.ref (hG h 507 l0)] h (oI (fun v4 h3 => C g d m_X1_refuse [.int s0, .int 2, .int v4] h3 (oV (fun h6 => hkd h6 (hG h6 507 l0) = 13 ∧ C g d m_J2_get [.ref (hG h6 507 l0), .int l1] h6 (oR (fun v11 h10 => (v11 = 0 ∨ hkd h10 v11 = 4) ∧ Q (.inl (some (.ref v11))) h10) (fun r hx => Q (.inr r) hx))) (fun r hx => Q (.inr r) hx))) (fun r hx => Q (.inr r) hx))
theorem v_X2_told_22 {g : PG} {d : Nat} {l0 : Nat} {l1 : Int32} {s0 : Int32} {h : PH} {Q : Out → PH → Prop} (H : w_X2_told_22 g d l0 l1 s0 h Q) : R g d m_X2_told 22 [.ref l0, .int l1] [.int s0] h Q := by
  refine r_iconst dX2_told_22 rfl ?_
  refine r_aload_n dX2_told_23 rfl rfl ?_
  obtain ⟨k1, H⟩ := H
  refine r_getG fr_X2_20_2 (by decide) dX2_told_24 k1 (by decide) ?_
  obtain ⟨k2, H⟩ := H
  refine r_invV (y := m_J2_size) dX2_told_27 rfl (lw_V q2416 q913 q3681 q111 q914) py_J2_size (Nat.le_of_ble_eq_true rfl) (args := []) rfl rfl (Nat.le_of_ble_eq_true rfl) k2 (by decide) rfl (C.monoE H (fun o h3 _ x5 K => cont_I K (fun v4 H => ?_) (fun r HX => XR_nc rfl HX)))
  refine r_invSN (y := m_X1_refuse) dX2_told_30 rfl q2417 q2419 q107 q2418 py_X1_refuse (Nat.le_of_ble_eq_true rfl) (args := [_, _, _]) rfl rfl (Nat.le_of_ble_eq_true rfl) (C.monoE H (fun o h6 _ x8 K => cont_V K (fun H => ?_) (fun r HX => XR_nc rfl HX)))
  refine r_aload_n dX2_told_33 rfl rfl ?_
  refine r_getG fr_X2_20_2 (by decide) dX2_told_34 (x8.kd (x5.kd k1 (by decide)) (by decide)) (by decide) ?_
  refine r_iload_n dX2_told_37 rfl rfl ?_
  obtain ⟨k9, H⟩ := H
  refine r_invV (y := m_J2_get) dX2_told_38 rfl (lw_V q1637 q979 q3682 q111 q980) py_J2_get (Nat.le_of_ble_eq_true rfl) (args := [_]) rfl rfl (Nat.le_of_ble_eq_true rfl) k9 (by decide) rfl (C.monoE H (fun o h10 _ x12 K => cont_R K (fun v11 H => ?_) (fun r HX => XR_nc rfl HX)))
  obtain ⟨k13, H⟩ := H
  refine r_castO (kv := 4) dX2_told_41 q1638 (by decide) (Or.inr rfl) k13 ?_
  exact r_aret dX2_told_44 rfl H
abbrev w_X2_told_0 (g : PG) (d : Nat) (l0 : Nat) (l1 : Int32) (h : PH) (Q : Out → PH → Prop) : Prop := hkd h l0 = 2 ∧ hkd h (hG h 507 l0) = 13 ∧ C g d m_J2_size [.ref (hG h 507 l0)] h (oI (fun v4 h3 => C g d m_X1_inRange [.int l1, .int 0, .int (v4 - (1 : Int32))] h3 (oI (fun v7 h6 => ((¬ v7 = 0) → w_X2_told_22 g d l0 l1 (0 : Int32) h6 Q) ∧ ((v7 = 0) → w_X2_told_22 g d l0 l1 (1 : Int32) h6 Q)) (fun r hx => Q (.inr r) hx))) (fun r hx => Q (.inr r) hx))
theorem v_X2_told_0 {g : PG} {d : Nat} {l0 : Nat} {l1 : Int32} {h : PH} {Q : Out → PH → Prop} (H : w_X2_told_0 g d l0 l1 h Q) : R g d m_X2_told 0 [.ref l0, .int l1] [] h Q := by
  refine r_iload_n dX2_told_0 rfl rfl ?_
  refine r_iconst dX2_told_1 rfl ?_
  refine r_aload_n dX2_told_2 rfl rfl ?_
  obtain ⟨k1, H⟩ := H
  refine r_getG fr_X2_20_2 (by decide) dX2_told_3 k1 (by decide) ?_
  obtain ⟨k2, H⟩ := H
  refine r_invV (y := m_J2_size) dX2_told_6 rfl (lw_V q2416 q913 q3681 q111 q914) py_J2_size (Nat.le_of_ble_eq_true rfl) (args := []) rfl rfl (Nat.le_of_ble_eq_true rfl) k2 (by decide) rfl (C.monoE H (fun o h3 _ x5 K => cont_I K (fun v4 H => ?_) (fun r HX => XR_nc rfl HX)))
  refine r_iconst dX2_told_9 rfl ?_
  refine r_isub dX2_told_10 ?_
  refine r_invSN (y := m_X1_inRange) dX2_told_11 rfl q2414 q1612 q107 q1611 py_X1_inRange (Nat.le_of_ble_eq_true rfl) (args := [_, _, _]) rfl rfl (Nat.le_of_ble_eq_true rfl) (C.monoE H (fun o h6 _ x8 K => cont_I K (fun v7 H => ?_) (fun r HX => XR_nc rfl HX)))
  refine r_if_ne (tgt := 21) dX2_told_14 rfl (fun b9 => ?_) (fun b9 => ?_)
  · replace H := H.1 b9
    refine r_iconst dX2_told_21 rfl ?_
    exact v_X2_told_22 H
  · replace H := H.2 b9
    refine r_iconst dX2_told_17 rfl ?_
    refine r_goto (tgt := 22) dX2_told_18 rfl ?_
    exact v_X2_told_22 H
theorem c_X2_told_0 {g : PG} {d : Nat} {l0 : Nat} {l1 : Int32} {h : PH} {Q : Out → PH → Prop} (H : w_X2_told_0 g d l0 l1 h Q) : C g (d + 1) m_X2_told [.ref l0, .int l1] h Q := C_of_R rfl rfl (Nat.le_of_ble_eq_true rfl) rfl (v_X2_told_0 H)
abbrev w_X2_checkLeg_52 (g : PG) (d : Nat) (l1 : Nat) (s0 : Int32) (h : PH) (Q : Out → PH → Prop) : Prop := hkd h l1 = 4 ∧ C g d m_X1_refuse [.int s0, .int 6, .int ((11 : Int32) - (hF h 9 l1))] h (oV (fun h2 => Q (.inl none) h2) (fun r hx => Q (.inr r) hx))
theorem v_X2_checkLeg_52 {g : PG} {d : Nat} {l1 : Nat} {s0 : Int32} {h : PH} {Q : Out → PH → Prop} (H : w_X2_checkLeg_52 g d l1 s0 h Q) : R g d m_X2_checkLeg 52 [.null, .ref l1, .null] [.int s0] h Q := by
  refine r_bipush dX2_checkLeg_52 rfl ?_
  refine r_bipush dX2_checkLeg_54 rfl ?_
  refine r_aload_n dX2_checkLeg_56 rfl rfl ?_
  obtain ⟨k1, H⟩ := H
  refine r_getF fr_X2_144_4 (by decide) dX2_checkLeg_57 k1 (by decide) ?_
  refine r_isub dX2_checkLeg_60 ?_
  refine r_invSN (y := m_X1_refuse) dX2_checkLeg_61 rfl q2417 q2419 q107 q2418 py_X1_refuse (Nat.le_of_ble_eq_true rfl) (args := [_, _, _]) rfl rfl (Nat.le_of_ble_eq_true rfl) (C.monoE H (fun o h2 _ x4 K => cont_V K (fun H => ?_) (fun r HX => XR_nc rfl HX)))
  exact r_vret dX2_checkLeg_64 rfl H
abbrev w_X2_checkLeg_23 (g : PG) (d : Nat) (l0 : Nat) (l1 : Nat) (l2 : Int32) (s0 : Int32) (h : PH) (Q : Out → PH → Prop) : Prop := hkd h l0 = 2 ∧ hkd h l1 = 4 ∧ hkd h (hG h 509 l0) / 100 = 1 ∧ vp_in (hF h 8 l1) (hln h (hG h 509 l0)) ∧ C g d m_X1_refuse [.int s0, .int 5, .int (hA h (hG h 509 l0) (hF h 8 l1).toNatClampNeg)] h (oV (fun h5 => ((((hF h5 9 l1) + l2) ≤ (11 : Int32)) → w_X2_checkLeg_52 g d l1 (0 : Int32) h5 Q) ∧ ((¬ ((hF h5 9 l1) + l2) ≤ (11 : Int32)) → w_X2_checkLeg_52 g d l1 (1 : Int32) h5 Q)) (fun r hx => Q (.inr r) hx))
theorem v_X2_checkLeg_23 {g : PG} {d : Nat} {l0 : Nat} {l1 : Nat} {l2 : Int32} {s0 : Int32} {h : PH} {Q : Out → PH → Prop} (H : w_X2_checkLeg_23 g d l0 l1 l2 s0 h Q) : R g d m_X2_checkLeg 23 [.ref l0, .ref l1, .int l2] [.int s0] h Q := by
  refine r_iconst dX2_checkLeg_23 rfl ?_
  refine r_aload_n dX2_checkLeg_24 rfl rfl ?_
  obtain ⟨k1, H⟩ := H
  refine r_getG fr_X2_28_2 (by decide) dX2_checkLeg_25 k1 (by decide) ?_
  refine r_aload_n dX2_checkLeg_28 rfl rfl ?_
  obtain ⟨k2, H⟩ := H
  refine r_getF fr_X2_119_4 (by decide) dX2_checkLeg_29 k2 (by decide) ?_
  obtain ⟨k3, H⟩ := H
  obtain ⟨k4, H⟩ := H
  refine r_iald dX2_checkLeg_32 k3 k4 ?_
  refine r_invSN (y := m_X1_refuse) dX2_checkLeg_33 rfl q2417 q2419 q107 q2418 py_X1_refuse (Nat.le_of_ble_eq_true rfl) (args := [_, _, _]) rfl rfl (Nat.le_of_ble_eq_true rfl) (C.monoE H (fun o h5 _ x7 K => cont_V K (fun H => ?_) (fun r HX => XR_nc rfl HX)))
  refine r_aload_n dX2_checkLeg_36 rfl rfl ?_
  refine r_getF fr_X2_144_4 (by decide) dX2_checkLeg_37 (x7.kd k2 (by decide)) (by decide) ?_
  refine r_iload_n dX2_checkLeg_40 rfl rfl ?_
  refine r_iadd dX2_checkLeg_41 ?_
  refine r_bipush dX2_checkLeg_42 rfl ?_
  refine r_icmp_le (tgt := 51) dX2_checkLeg_44 rfl (fun b8 => ?_) (fun b8 => ?_)
  · replace H := H.1 b8
    refine r_iconst dX2_checkLeg_51 rfl ?_
    exact R.forget (v_X2_checkLeg_52 H) ⟨Or.inr rfl, ⟨Or.inl rfl, ⟨Or.inr rfl, trivial⟩⟩⟩
  · replace H := H.2 b8
    refine r_iconst dX2_checkLeg_47 rfl ?_
    refine r_goto (tgt := 52) dX2_checkLeg_48 rfl ?_
    exact R.forget (v_X2_checkLeg_52 H) ⟨Or.inr rfl, ⟨Or.inl rfl, ⟨Or.inr rfl, trivial⟩⟩⟩
abbrev w_X2_checkLeg_0 (g : PG) (d : Nat) (l0 : Nat) (l1 : Nat) (l2 : Int32) (h : PH) (Q : Out → PH → Prop) : Prop := hkd h l0 = 2 ∧ C g d m_X2_checkHat [.ref l0, .ref l1] h (oV (fun h2 => hkd h2 l1 = 4 ∧ hkd h2 (hG h2 509 l0) / 100 = 1 ∧ vp_in (hF h2 8 l1) (hln h2 (hG h2 509 l0)) ∧ (((hA h2 (hG h2 509 l0) (hF h2 8 l1).toNatClampNeg) = (-1 : Int32)) → w_X2_checkLeg_23 g d l0 l1 l2 (0 : Int32) h2 Q) ∧ ((¬ (hA h2 (hG h2 509 l0) (hF h2 8 l1).toNatClampNeg) = (-1 : Int32)) → w_X2_checkLeg_23 g d l0 l1 l2 (1 : Int32) h2 Q)) (fun r hx => Q (.inr r) hx))
theorem v_X2_checkLeg_0 {g : PG} {d : Nat} {l0 : Nat} {l1 : Nat} {l2 : Int32} {h : PH} {Q : Out → PH → Prop} (H : w_X2_checkLeg_0 g d l0 l1 l2 h Q) : R g d m_X2_checkLeg 0 [.ref l0, .ref l1, .int l2] [] h Q := by
  refine r_aload_n dX2_checkLeg_0 rfl rfl ?_
  refine r_aload_n dX2_checkLeg_1 rfl rfl ?_
  obtain ⟨k1, H⟩ := H
  refine r_invV (y := m_X2_checkHat) dX2_checkLeg_2 rfl (lw_V q2464 q2466 qp32 q108 q2467) py_X2_checkHat (Nat.le_of_ble_eq_true rfl) (args := [_]) rfl rfl (Nat.le_of_ble_eq_true rfl) k1 (by decide) rfl (C.monoE H (fun o h2 _ x4 K => cont_V K (fun H => ?_) (fun r HX => XR_nc rfl HX)))
  refine r_aload_n dX2_checkLeg_5 rfl rfl ?_
  refine r_getG fr_X2_28_2 (by decide) dX2_checkLeg_6 (x4.kd k1 (by decide)) (by decide) ?_
  refine r_aload_n dX2_checkLeg_9 rfl rfl ?_
  obtain ⟨k5, H⟩ := H
  refine r_getF fr_X2_119_4 (by decide) dX2_checkLeg_10 k5 (by decide) ?_
  obtain ⟨k6, H⟩ := H
  obtain ⟨k7, H⟩ := H
  refine r_iald dX2_checkLeg_13 k6 k7 ?_
  refine r_iconst dX2_checkLeg_14 rfl ?_
  refine r_icmp_eq (tgt := 22) dX2_checkLeg_15 rfl (fun b8 => ?_) (fun b8 => ?_)
  · replace H := H.1 b8
    refine r_iconst dX2_checkLeg_22 rfl ?_
    exact v_X2_checkLeg_23 H
  · replace H := H.2 b8
    refine r_iconst dX2_checkLeg_18 rfl ?_
    refine r_goto (tgt := 23) dX2_checkLeg_19 rfl ?_
    exact v_X2_checkLeg_23 H
theorem c_X2_checkLeg_0 {g : PG} {d : Nat} {l0 : Nat} {l1 : Nat} {l2 : Int32} {h : PH} {Q : Out → PH → Prop} (H : w_X2_checkLeg_0 g d l0 l1 l2 h Q) : C g (d + 1) m_X2_checkLeg [.ref l0, .ref l1, .int l2] h Q := C_of_R rfl rfl (Nat.le_of_ble_eq_true rfl) rfl (v_X2_checkLeg_0 H)
abbrev w_X2_checkHat_13 (g : PG) (d : Nat) (l0 : Nat) (l1 : Nat) (s0 : Int32) (h : PH) (Q : Out → PH → Prop) : Prop := hkd h l0 = 2 ∧ hkd h l1 = 4 ∧ hkd h (hG h 508 l0) / 100 = 1 ∧ vp_in (hF h 8 l1) (hln h (hG h 508 l0)) ∧ C g d m_X1_refuse [.int s0, .int 4, .int (hA h (hG h 508 l0) (hF h 8 l1).toNatClampNeg)] h (oV (fun h5 => Q (.inl none) h5) (fun r hx => Q (.inr r) hx))
theorem v_X2_checkHat_13 {g : PG} {d : Nat} {l0 : Nat} {l1 : Nat} {s0 : Int32} {h : PH} {Q : Out → PH → Prop} (H : w_X2_checkHat_13 g d l0 l1 s0 h Q) : R g d m_X2_checkHat 13 [.ref l0, .ref l1] [.int s0] h Q := by
  refine r_iconst dX2_checkHat_13 rfl ?_
  refine r_aload_n dX2_checkHat_14 rfl rfl ?_
  obtain ⟨k1, H⟩ := H
  refine r_getG fr_X2_24_2 (by decide) dX2_checkHat_15 k1 (by decide) ?_
  refine r_aload_n dX2_checkHat_18 rfl rfl ?_
  obtain ⟨k2, H⟩ := H
  refine r_getF fr_X2_119_4 (by decide) dX2_checkHat_19 k2 (by decide) ?_
  obtain ⟨k3, H⟩ := H
  obtain ⟨k4, H⟩ := H
  refine r_iald dX2_checkHat_22 k3 k4 ?_
  refine r_invSN (y := m_X1_refuse) dX2_checkHat_23 rfl q2417 q2419 q107 q2418 py_X1_refuse (Nat.le_of_ble_eq_true rfl) (args := [_, _, _]) rfl rfl (Nat.le_of_ble_eq_true rfl) (C.monoE H (fun o h5 _ x7 K => cont_V K (fun H => ?_) (fun r HX => XR_nc rfl HX)))
  exact r_vret dX2_checkHat_26 rfl H
abbrev w_X2_checkHat_0 (g : PG) (d : Nat) (l0 : Nat) (l1 : Nat) (h : PH) (Q : Out → PH → Prop) : Prop := hkd h l0 = 2 ∧ C g d m_X2_hasHat [.ref l0, .ref l1] h (oI (fun v3 h2 => ((¬ v3 = 0) → w_X2_checkHat_13 g d l0 l1 (0 : Int32) h2 Q) ∧ ((v3 = 0) → w_X2_checkHat_13 g d l0 l1 (1 : Int32) h2 Q)) (fun r hx => Q (.inr r) hx))
theorem v_X2_checkHat_0 {g : PG} {d : Nat} {l0 : Nat} {l1 : Nat} {h : PH} {Q : Out → PH → Prop} (H : w_X2_checkHat_0 g d l0 l1 h Q) : R g d m_X2_checkHat 0 [.ref l0, .ref l1] [] h Q := by
  refine r_aload_n dX2_checkHat_0 rfl rfl ?_
  refine r_aload_n dX2_checkHat_1 rfl rfl ?_
  obtain ⟨k1, H⟩ := H
  refine r_invV (y := m_X2_hasHat) dX2_checkHat_2 rfl (lw_V q2468 q2469 q2470 q108 q2471) py_X2_hasHat (Nat.le_of_ble_eq_true rfl) (args := [_]) rfl rfl (Nat.le_of_ble_eq_true rfl) k1 (by decide) rfl (C.monoE H (fun o h2 _ x4 K => cont_I K (fun v3 H => ?_) (fun r HX => XR_nc rfl HX)))
  refine r_if_ne (tgt := 12) dX2_checkHat_5 rfl (fun b5 => ?_) (fun b5 => ?_)
  · replace H := H.1 b5
    refine r_iconst dX2_checkHat_12 rfl ?_
    exact v_X2_checkHat_13 H
  · replace H := H.2 b5
    refine r_iconst dX2_checkHat_8 rfl ?_
    refine r_goto (tgt := 13) dX2_checkHat_9 rfl ?_
    exact v_X2_checkHat_13 H
theorem c_X2_checkHat_0 {g : PG} {d : Nat} {l0 : Nat} {l1 : Nat} {h : PH} {Q : Out → PH → Prop} (H : w_X2_checkHat_0 g d l0 l1 h Q) : C g (d + 1) m_X2_checkHat [.ref l0, .ref l1] h Q := C_of_R rfl rfl (Nat.le_of_ble_eq_true rfl) rfl (v_X2_checkHat_0 H)
abbrev w_X2_hasHat_0 (g : PG) (d : Nat) (l0 : Nat) (l1 : Nat) (h : PH) (Q : Out → PH → Prop) : Prop := hkd h l0 = 2 ∧ hkd h l1 = 4 ∧ hkd h (hG h 508 l0) / 100 = 1 ∧ vp_in (hF h 8 l1) (hln h (hG h 508 l0)) ∧ ((¬ (hA h (hG h 508 l0) (hF h 8 l1).toNatClampNeg) = (hF h 7 l1)) → Q (.inl (some (.int 0))) h) ∧ (((hA h (hG h 508 l0) (hF h 8 l1).toNatClampNeg) = (hF h 7 l1)) → Q (.inl (some (.int 1))) h)
theorem v_X2_hasHat_0 {g : PG} {d : Nat} {l0 : Nat} {l1 : Nat} {h : PH} {Q : Out → PH → Prop} (H : w_X2_hasHat_0 g d l0 l1 h Q) : R g d m_X2_hasHat 0 [.ref l0, .ref l1] [] h Q := by
  refine r_aload_n dX2_hasHat_0 rfl rfl ?_
  obtain ⟨k1, H⟩ := H
  refine r_getG fr_X2_24_2 (by decide) dX2_hasHat_1 k1 (by decide) ?_
  refine r_aload_n dX2_hasHat_4 rfl rfl ?_
  obtain ⟨k2, H⟩ := H
  refine r_getF fr_X2_119_4 (by decide) dX2_hasHat_5 k2 (by decide) ?_
  obtain ⟨k3, H⟩ := H
  obtain ⟨k4, H⟩ := H
  refine r_iald dX2_hasHat_8 k3 k4 ?_
  refine r_aload_n dX2_hasHat_9 rfl rfl ?_
  refine r_getF fr_X2_122_4 (by decide) dX2_hasHat_10 k2 (by decide) ?_
  refine r_icmp_ne (tgt := 20) dX2_hasHat_13 rfl (fun b5 => ?_) (fun b5 => ?_)
  · replace H := H.1 b5
    refine r_iconst dX2_hasHat_20 rfl ?_
    exact r_zret dX2_hasHat_21 rfl rfl H
  · replace H := H.2 b5
    refine r_iconst dX2_hasHat_16 rfl ?_
    refine r_goto (tgt := 21) dX2_hasHat_17 rfl ?_
    exact r_zret dX2_hasHat_21 rfl rfl H
theorem c_X2_hasHat_0 {g : PG} {d : Nat} {l0 : Nat} {l1 : Nat} {h : PH} {Q : Out → PH → Prop} (H : w_X2_hasHat_0 g d l0 l1 h Q) : C g (d + 1) m_X2_hasHat [.ref l0, .ref l1] h Q := C_of_R rfl rfl (Nat.le_of_ble_eq_true rfl) rfl (v_X2_hasHat_0 H)
abbrev w_X2_act_84 (g : PG) (d : Nat) (l0 : Nat) (l1 : Nat) (h : PH) (Q : Out → PH → Prop) : Prop := hkd h l1 = 4 ∧ C g d m_X6_isGone [.ref l1] h (oI (fun v3 h2 => ((v3 = 0) → Q (.inl none) h2) ∧ ((¬ v3 = 0) → hkd h2 l0 = 2 ∧ C g d m_X2_hasHat [.ref l0, .ref l1] h2 (oI (fun v8 h7 => ((v8 = 0) → Q (.inl none) h7) ∧ ((¬ v8 = 0) → hkd h7 (hG h7 508 l0) / 100 = 1 ∧ hkd h7 (hG h7 508 l0) % 100 < 50 ∧ vp_in (hF h7 8 l1) (hln h7 (hG h7 508 l0)) ∧ ∀ h14, h14 = setA (hG h7 508 l0) (hF h7 8 l1).toNatClampNeg (-1 : Int32) h7 → C g d m_J26_valueOf [.int (hF h14 8 l1)] h14 (oR (fun v16 h15 => C g d m_J26_valueOf [.int (hF h15 9 l1)] h15 (oR (fun v19 h18 => hkd h18 (hG h14 511 l0) = 15 ∧ C g d m_J4_put [.ref (hG h14 511 l0), .ref v16, .ref v19] h18 (oR (fun v23 h22 => (v23 = 0 ∨ ko h22 v23 30) ∧ Q (.inl none) h22) (fun r hx => Q (.inr r) hx))) (fun r hx => Q (.inr r) hx))) (fun r hx => Q (.inr r) hx)))) (fun r hx => Q (.inr r) hx)))) (fun r hx => Q (.inr r) hx))
theorem v_X2_act_84 {g : PG} {d : Nat} {l0 : Nat} {l1 : Nat} {h : PH} {Q : Out → PH → Prop} (H : w_X2_act_84 g d l0 l1 h Q) : R g d m_X2_act 84 [.ref l0, .ref l1, .null, .null, .null] [] h Q := by
  refine r_aload_n dX2_act_84 rfl rfl ?_
  obtain ⟨k1, H⟩ := H
  refine r_invV (y := m_X6_isGone) dX2_act_85 rfl (lw_V q2473 q2474 q2475 q142 q2476) py_X6_isGone (Nat.le_of_ble_eq_true rfl) (args := []) rfl rfl (Nat.le_of_ble_eq_true rfl) k1 (by decide) rfl (C.monoE H (fun o h2 _ x4 K => cont_I K (fun v3 H => ?_) (fun r HX => XR_nc rfl HX)))
  refine r_if_eq (tgt := 135) dX2_act_88 rfl (fun b5 => ?_) (fun b5 => ?_)
  · replace H := H.1 b5
    exact r_vret dX2_act_135 rfl H
  · replace H := H.2 b5
    refine r_aload_n dX2_act_91 rfl rfl ?_
    refine r_aload_n dX2_act_92 rfl rfl ?_
    obtain ⟨k6, H⟩ := H
    refine r_invV (y := m_X2_hasHat) dX2_act_93 rfl (lw_V q2468 q2469 q2470 q108 q2471) py_X2_hasHat (Nat.le_of_ble_eq_true rfl) (args := [_]) rfl rfl (Nat.le_of_ble_eq_true rfl) k6 (by decide) rfl (C.monoE H (fun o h7 _ x9 K => cont_I K (fun v8 H => ?_) (fun r HX => XR_nc rfl HX)))
    refine r_if_eq (tgt := 135) dX2_act_96 rfl (fun b10 => ?_) (fun b10 => ?_)
    · replace H := H.1 b10
      exact r_vret dX2_act_135 rfl H
    · replace H := H.2 b10
      refine r_aload_n dX2_act_99 rfl rfl ?_
      refine r_getG fr_X2_24_2 (by decide) dX2_act_100 (x9.kd k6 (by decide)) (by decide) ?_
      refine r_aload_n dX2_act_103 rfl rfl ?_
      refine r_getF fr_X2_119_4 (by decide) dX2_act_104 (x9.kd (x4.kd k1 (by decide)) (by decide)) (by decide) ?_
      refine r_iconst dX2_act_107 rfl ?_
      obtain ⟨k11, H⟩ := H
      obtain ⟨k12, H⟩ := H
      obtain ⟨k13, H⟩ := H
      replace H := H _ rfl
      refine r_iast dX2_act_108 k11 k12 k13 ?_
      refine r_aload_n dX2_act_109 rfl rfl ?_
      refine r_getG fr_X2_37_2 (by decide) dX2_act_110 (x9.kd k6 (by decide)) (by decide) ?_
      refine r_aload_n dX2_act_113 rfl rfl ?_
      refine r_getF fr_X2_119_4 (by decide) dX2_act_114 (x9.kd (x4.kd k1 (by decide)) (by decide)) (by decide) ?_
      refine r_invS (y := m_J26_valueOf) dX2_act_117 rfl (lw_S q1254 q1255 q139 q1256) py_J26_valueOf (Nat.le_of_ble_eq_true rfl) (args := [_]) rfl rfl (Nat.le_of_ble_eq_true rfl) (C.monoE H (fun o h15 _ x17 K => cont_R K (fun v16 H => ?_) (fun r HX => XR_nc rfl HX)))
      refine r_aload_n dX2_act_120 rfl rfl ?_
      refine r_getF fr_X2_144_4 (by decide) dX2_act_121 (x17.kd (x9.kd (x4.kd k1 (by decide)) (by decide)) (by decide)) (by decide) ?_
      refine r_invS (y := m_J26_valueOf) dX2_act_124 rfl (lw_S q1254 q1255 q139 q1256) py_J26_valueOf (Nat.le_of_ble_eq_true rfl) (args := [_]) rfl rfl (Nat.le_of_ble_eq_true rfl) (C.monoE H (fun o h18 _ x20 K => cont_R K (fun v19 H => ?_) (fun r HX => XR_nc rfl HX)))
      obtain ⟨k21, H⟩ := H
      refine r_invV (y := m_J4_put) dX2_act_127 rfl (lw_V q2483 q1674 q1675 q113 q1676) py_J4_put (Nat.le_of_ble_eq_true rfl) (args := [_, _]) rfl rfl (Nat.le_of_ble_eq_true rfl) k21 (by decide) rfl (C.monoE H (fun o h22 _ x24 K => cont_R K (fun v23 H => ?_) (fun r HX => XR_nc rfl HX)))
      obtain ⟨k25, H⟩ := H
      refine r_castOc (kv := 30) dX2_act_130 q1249 (by decide) (Or.inr rfl) k25 ?_
      refine r_astore dX2_act_133 (Nat.le_of_ble_eq_true rfl) rfl (slS (slS (slS (slS sl0)))) ?_
      exact r_vret dX2_act_135 rfl H
abbrev w_X2_act_0 (g : PG) (d : Nat) (l0 : Nat) (l1 : Nat) (h : PH) (Q : Out → PH → Prop) : Prop := hkd h l0 = 2 ∧ hkd h l1 = 4 ∧ hkd h (hG h 506 l0) / 100 = 7 ∧ vp_in (hF h 9 l1) (hln h (hG h 506 l0)) ∧ hkd h (hB h (hG h 506 l0) (hF h 9 l1).toNatClampNeg) = 3 ∧ C g d m_X3_melts [.ref (hB h (hG h 506 l0) (hF h 9 l1).toNatClampNeg), .int (hF h 10 l1)] h (oI (fun v7 h6 => ∀ h9, h9 = setF 10 l1 ((hF h6 10 l1) - v7) h6 → ∀ h10, h10 = setF 5 (hB h (hG h 506 l0) (hF h 9 l1).toNatClampNeg) ((hF h9 5 (hB h (hG h 506 l0) (hF h 9 l1).toNatClampNeg)) + v7) h9 → ∀ h11, h11 = setF 13 l1 ((hF h10 13 l1) + (i32max (0 : Int32) v7)) h10 → (((hF h11 11 l1) = 0) → w_X2_act_84 g d l0 l1 h11 Q) ∧ ((¬ (hF h11 11 l1) = 0) → (((10 : Int32) ≤ (hF h11 10 l1)) → w_X2_act_84 g d l0 l1 h11 Q) ∧ ((¬ (10 : Int32) ≤ (hF h11 10 l1)) → ∀ h14, h14 = setF 11 l1 (0 : Int32) h11 → ∀ h15, h15 = setF 6 (hB h (hG h 506 l0) (hF h 9 l1).toNatClampNeg) ((hF h14 6 (hB h (hG h 506 l0) (hF h 9 l1).toNatClampNeg)) + (1 : Int32)) h14 → w_X2_act_84 g d l0 l1 h15 Q))) (fun r hx => Q (.inr r) hx))
theorem v_X2_act_0 {g : PG} {d : Nat} {l0 : Nat} {l1 : Nat} {h : PH} {Q : Out → PH → Prop} (H : w_X2_act_0 g d l0 l1 h Q) : R g d m_X2_act 0 [.ref l0, .ref l1, .null, .null, .null] [] h Q := by
  refine r_aload_n dX2_act_0 rfl rfl ?_
  obtain ⟨k1, H⟩ := H
  refine r_getG fr_X2_11_2 (by decide) dX2_act_1 k1 (by decide) ?_
  refine r_aload_n dX2_act_4 rfl rfl ?_
  obtain ⟨k2, H⟩ := H
  refine r_getF fr_X2_144_4 (by decide) dX2_act_5 k2 (by decide) ?_
  obtain ⟨k3, H⟩ := H
  obtain ⟨k4, H⟩ := H
  refine r_aald dX2_act_8 (m := 7) (by decide) k3 k4 ?_
  refine r_astore_n dX2_act_9 rfl (Nat.le_of_ble_eq_true rfl) rfl (slS (slS sl0)) ?_
  refine r_aload_n dX2_act_10 rfl rfl ?_
  refine r_aload_n dX2_act_11 rfl rfl ?_
  refine r_getF fr_X2_157_4 (by decide) dX2_act_12 k2 (by decide) ?_
  obtain ⟨k5, H⟩ := H
  refine r_invV (y := m_X3_melts) dX2_act_15 rfl (lw_V q2481 q1315 q1316 q116 q1317) py_X3_melts (Nat.le_of_ble_eq_true rfl) (args := [_]) rfl rfl (Nat.le_of_ble_eq_true rfl) k5 (by decide) rfl (C.monoE H (fun o h6 _ x8 K => cont_I K (fun v7 H => ?_) (fun r HX => XR_nc rfl HX)))
  refine r_istore_n dX2_act_18 rfl (Nat.le_of_ble_eq_true rfl) rfl (slS (slS (slS sl0))) ?_
  refine r_aload_n dX2_act_19 rfl rfl ?_
  refine r_dup dX2_act_20 rfl ?_
  refine r_getF fr_X2_157_4 (by decide) dX2_act_21 (x8.kd k2 (by decide)) (by decide) ?_
  refine r_iload_n dX2_act_24 rfl rfl ?_
  refine r_isub dX2_act_25 ?_
  replace H := H _ rfl
  refine r_putF fw_X2_157_4 (by decide) dX2_act_26 (x8.kd k2 (by decide)) (by decide) rfl rfl ?_
  refine r_aload_n dX2_act_29 rfl rfl ?_
  refine r_dup dX2_act_30 rfl ?_
  refine r_getF fr_X2_163_3 (by decide) dX2_act_31 (x8.kd k5 (by decide)) (by decide) ?_
  refine r_iload_n dX2_act_34 rfl rfl ?_
  refine r_iadd dX2_act_35 ?_
  replace H := H _ rfl
  refine r_putF fw_X2_163_3 (by decide) dX2_act_36 (x8.kd k5 (by decide)) (by decide) rfl rfl ?_
  refine r_aload_n dX2_act_39 rfl rfl ?_
  refine r_dup dX2_act_40 rfl ?_
  refine r_getF fr_X2_166_4 (by decide) dX2_act_41 (x8.kd k2 (by decide)) (by decide) ?_
  refine r_iconst dX2_act_44 rfl ?_
  refine r_iload_n dX2_act_45 rfl rfl ?_
  refine r_mmax dX2_act_46 q2482 q467 q134 q468 (Nat.le_of_ble_eq_true rfl) ?_
  refine r_iadd dX2_act_49 ?_
  replace H := H _ rfl
  refine r_putF fw_X2_166_4 (by decide) dX2_act_50 (x8.kd k2 (by decide)) (by decide) rfl rfl ?_
  refine r_aload_n dX2_act_53 rfl rfl ?_
  refine r_getF fr_X2_175_4 (by decide) dX2_act_54 (x8.kd k2 (by decide)) (by decide) ?_
  refine r_if_eq (tgt := 84) dX2_act_57 rfl (fun b12 => ?_) (fun b12 => ?_)
  · replace H := H.1 b12
    exact R.forget (v_X2_act_84 H) ⟨Or.inl rfl, ⟨Or.inl rfl, ⟨Or.inr rfl, ⟨Or.inr rfl, ⟨Or.inl rfl, trivial⟩⟩⟩⟩⟩
  · replace H := H.2 b12
    refine r_aload_n dX2_act_60 rfl rfl ?_
    refine r_getF fr_X2_157_4 (by decide) dX2_act_61 (x8.kd k2 (by decide)) (by decide) ?_
    refine r_bipush dX2_act_64 rfl ?_
    refine r_icmp_ge (tgt := 84) dX2_act_66 rfl (fun b13 => ?_) (fun b13 => ?_)
    · replace H := H.1 b13
      exact R.forget (v_X2_act_84 H) ⟨Or.inl rfl, ⟨Or.inl rfl, ⟨Or.inr rfl, ⟨Or.inr rfl, ⟨Or.inl rfl, trivial⟩⟩⟩⟩⟩
    · replace H := H.2 b13
      refine r_aload_n dX2_act_69 rfl rfl ?_
      refine r_iconst dX2_act_70 rfl ?_
      replace H := H _ rfl
      refine r_putF fw_X2_175_4 (by decide) dX2_act_71 (x8.kd k2 (by decide)) (by decide) rfl rfl ?_
      refine r_aload_n dX2_act_74 rfl rfl ?_
      refine r_dup dX2_act_75 rfl ?_
      refine r_getF fr_X2_179_3 (by decide) dX2_act_76 (x8.kd k5 (by decide)) (by decide) ?_
      refine r_iconst dX2_act_79 rfl ?_
      refine r_iadd dX2_act_80 ?_
      replace H := H _ rfl
      refine r_putF fw_X2_179_3 (by decide) dX2_act_81 (x8.kd k5 (by decide)) (by decide) rfl rfl ?_
      exact R.forget (v_X2_act_84 H) ⟨Or.inl rfl, ⟨Or.inl rfl, ⟨Or.inr rfl, ⟨Or.inr rfl, ⟨Or.inl rfl, trivial⟩⟩⟩⟩⟩
theorem c_X2_act_0 {g : PG} {d : Nat} {l0 : Nat} {l1 : Nat} {h : PH} {Q : Out → PH → Prop} (H : w_X2_act_0 g d l0 l1 h Q) : C g (d + 1) m_X2_act [.ref l0, .ref l1] h Q := C_of_R rfl rfl (Nat.le_of_ble_eq_true rfl) rfl (v_X2_act_0 H)
abbrev w_X2_pass_23 (g : PG) (d : Nat) (l1 : Int32) (s0 : Nat) (h : PH) (Q : Out → PH → Prop) : Prop := ∀ h1, h1 = hnew 7 0 9 h → 0 < (hnx h) ∧ C g d m_X7_init_2 [.ref (hnx h), .int 7, .int l1, .ref s0] h1 (oV (fun h3 => (hkd h3 (hnx h) ≠ 0 ∧ hkd h3 (hnx h) < 100) ∧ Q (.inr (hnx h)) h3) (fun r hx => Q (.inr r) hx))
theorem v_X2_pass_23 {g : PG} {d : Nat} {l1 : Int32} {s0 : Nat} {h : PH} {Q : Out → PH → Prop} (H : w_X2_pass_23 g d l1 s0 h Q) : R g d m_X2_pass 23 [.null, .int l1, .null, .null, .null, .null] [.ref s0] h Q := by
  refine r_astore dX2_pass_23 (Nat.le_of_ble_eq_true rfl) rfl (slS (slS (slS (slS (slS sl0))))) ?_
  replace H := H _ rfl
  refine r_new (ci := 7) dX2_pass_25 rfl (by decide) q2455 q2420 q161 ?_
  refine r_dup dX2_pass_28 rfl ?_
  refine r_bipush dX2_pass_29 rfl ?_
  refine r_iload_n dX2_pass_31 rfl rfl ?_
  refine r_aload dX2_pass_32 rfl ?_
  obtain ⟨k2, H⟩ := H
  refine r_invI (y := m_X7_init_2) dX2_pass_34 rfl rfl q2433 q161 q2472 q2432 rfl py_X7_init_2 (Nat.le_of_ble_eq_true rfl) (args := [_, _, _]) rfl rfl (Nat.le_of_ble_eq_true rfl) k2 (C.monoE H (fun o h3 _ x5 K => cont_V K (fun H => ?_) (fun r HX => XR_nc rfl HX)))
  exact r_athrow dX2_pass_37 H.1 (XR_nc rfl H.2)
abbrev w_X2_pass_0 (g : PG) (d : Nat) (l0 : Nat) (l1 : Int32) (l2 : Int32) (h : PH) (Q : Out → PH → Prop) : Prop := hkd h l0 = 2 ∧ C g d m_X2_told [.ref l0, .int l1] h (oR (fun v3 h2 => C g d m_X2_told [.ref l0, .int l2] h2 (oR (fun v6 h5 => C g d m_X2_checkPass [.ref l0, .ref v3, .ref v6] h5 (oV (fun h8 => hkd h8 v3 = 4 ∧ hkd h8 (hG h8 508 l0) / 100 = 1 ∧ hkd h8 (hG h8 508 l0) % 100 < 50 ∧ vp_in (hF h8 8 v3) (hln h8 (hG h8 508 l0)) ∧ ∀ h15, h15 = setA (hG h8 508 l0) (hF h8 8 v3).toNatClampNeg l2 h8 → hkd h15 (hG h15 510 l0) / 100 = 1 ∧ vp_in (hF h15 8 v3) (hln h15 (hG h15 510 l0)) ∧ hkd h15 (hG h15 510 l0) % 100 < 50 ∧ ∀ h21, h21 = setA (hG h15 510 l0) (hF h15 8 v3).toNatClampNeg ((hA h15 (hG h15 510 l0) (hF h15 8 v3).toNatClampNeg) + (1 : Int32)) h15 → hkd h21 v6 = 4 ∧ Q (.inl (some (.int (hF h21 9 v6)))) h21) (fun r hx => XR g d m_X2_pass 17 [.ref l0, .int l1, .int l2, .ref v3, .ref v6, .null] r hx Q))) (fun r hx => Q (.inr r) hx))) (fun r hx => Q (.inr r) hx))
theorem v_X2_pass_0 {g : PG} {d : Nat} {l0 : Nat} {l1 : Int32} {l2 : Int32} {h : PH} {Q : Out → PH → Prop} (H : w_X2_pass_0 g d l0 l1 l2 h Q) : R g d m_X2_pass 0 [.ref l0, .int l1, .int l2, .null, .null, .null] [] h Q := by
  refine r_aload_n dX2_pass_0 rfl rfl ?_
  refine r_iload_n dX2_pass_1 rfl rfl ?_
  obtain ⟨k1, H⟩ := H
  refine r_invV (y := m_X2_told) dX2_pass_2 rfl (lw_V q2456 q2458 qp30 q108 q2459) py_X2_told (Nat.le_of_ble_eq_true rfl) (args := [_]) rfl rfl (Nat.le_of_ble_eq_true rfl) k1 (by decide) rfl (C.monoE H (fun o h2 _ x4 K => cont_R K (fun v3 H => ?_) (fun r HX => XR_nc rfl HX)))
  refine r_astore_n dX2_pass_5 rfl (Nat.le_of_ble_eq_true rfl) rfl (slS (slS (slS sl0))) ?_
  refine r_aload_n dX2_pass_6 rfl rfl ?_
  refine r_iload_n dX2_pass_7 rfl rfl ?_
  refine r_invV (y := m_X2_told) dX2_pass_8 rfl (lw_V q2456 q2458 qp30 q108 q2459) py_X2_told (Nat.le_of_ble_eq_true rfl) (args := [_]) rfl rfl (Nat.le_of_ble_eq_true rfl) (x4.kd k1 (by decide)) (by decide) rfl (C.monoE H (fun o h5 _ x7 K => cont_R K (fun v6 H => ?_) (fun r HX => XR_nc rfl HX)))
  refine r_astore dX2_pass_11 (Nat.le_of_ble_eq_true rfl) rfl (slS (slS (slS (slS sl0)))) ?_
  refine r_aload_n dX2_pass_13 rfl rfl ?_
  refine r_aload_n dX2_pass_14 rfl rfl ?_
  refine r_aload dX2_pass_15 rfl ?_
  refine r_invV (y := m_X2_checkPass) dX2_pass_17 rfl (lw_V q2529 q2531 qp36 q108 q2532) py_X2_checkPass (Nat.le_of_ble_eq_true rfl) (args := [_, _]) rfl rfl (Nat.le_of_ble_eq_true rfl) (x7.kd (x4.kd k1 (by decide)) (by decide)) (by decide) rfl (C.monoE H (fun o h8 _ x10 K => cont_V K (fun H => ?_) (fun r HX => HX)))
  refine r_goto (tgt := 38) dX2_pass_20 rfl ?_
  refine r_aload_n dX2_pass_38 rfl rfl ?_
  refine r_getG fr_X2_24_2 (by decide) dX2_pass_39 (x10.kd (x7.kd (x4.kd k1 (by decide)) (by decide)) (by decide)) (by decide) ?_
  refine r_aload_n dX2_pass_42 rfl rfl ?_
  obtain ⟨k11, H⟩ := H
  refine r_getF fr_X2_119_4 (by decide) dX2_pass_43 k11 (by decide) ?_
  refine r_iload_n dX2_pass_46 rfl rfl ?_
  obtain ⟨k12, H⟩ := H
  obtain ⟨k13, H⟩ := H
  obtain ⟨k14, H⟩ := H
  replace H := H _ rfl
  refine r_iast dX2_pass_47 k12 k13 k14 ?_
  refine r_aload_n dX2_pass_48 rfl rfl ?_
  refine r_getG fr_X2_31_2 (by decide) dX2_pass_49 (x10.kd (x7.kd (x4.kd k1 (by decide)) (by decide)) (by decide)) (by decide) ?_
  refine r_aload_n dX2_pass_52 rfl rfl ?_
  refine r_getF fr_X2_119_4 (by decide) dX2_pass_53 k11 (by decide) ?_
  refine r_dup2 dX2_pass_56 rfl rfl ?_
  obtain ⟨k16, H⟩ := H
  obtain ⟨k17, H⟩ := H
  refine r_iald dX2_pass_57 k16 k17 ?_
  refine r_iconst dX2_pass_58 rfl ?_
  refine r_iadd dX2_pass_59 ?_
  obtain ⟨k19, H⟩ := H
  replace H := H _ rfl
  refine r_iast dX2_pass_60 k16 k19 k17 ?_
  refine r_aload dX2_pass_61 rfl ?_
  obtain ⟨k22, H⟩ := H
  refine r_getF fr_X2_144_4 (by decide) dX2_pass_63 k22 (by decide) ?_
  exact r_iret dX2_pass_66 rfl H
theorem c_X2_pass_0 {g : PG} {d : Nat} {l0 : Nat} {l1 : Int32} {l2 : Int32} {h : PH} {Q : Out → PH → Prop} (H : w_X2_pass_0 g d l0 l1 l2 h Q) : C g (d + 1) m_X2_pass [.ref l0, .int l1, .int l2] h Q := C_of_R rfl rfl (Nat.le_of_ble_eq_true rfl) rfl (v_X2_pass_0 H)
abbrev w_X2_checkPass_71 (g : PG) (d : Nat) (l3 : Int32) (s0 : Int32) (h : PH) (Q : Out → PH → Prop) : Prop := C g d m_X1_refuse [.int s0, .int 10, .int l3] h (oV (fun h1 => Q (.inl none) h1) (fun r hx => Q (.inr r) hx))
theorem v_X2_checkPass_71 {g : PG} {d : Nat} {l3 : Int32} {s0 : Int32} {h : PH} {Q : Out → PH → Prop} (H : w_X2_checkPass_71 g d l3 s0 h Q) : R g d m_X2_checkPass 71 [.null, .null, .null, .int l3] [.int s0] h Q := by
  refine r_bipush dX2_checkPass_71 rfl ?_
  refine r_iload_n dX2_checkPass_73 rfl rfl ?_
  refine r_invSN (y := m_X1_refuse) dX2_checkPass_74 rfl q2417 q2419 q107 q2418 py_X1_refuse (Nat.le_of_ble_eq_true rfl) (args := [_, _, _]) rfl rfl (Nat.le_of_ble_eq_true rfl) (C.monoE H (fun o h1 _ x3 K => cont_V K (fun H => ?_) (fun r HX => XR_nc rfl HX)))
  exact r_vret dX2_checkPass_77 rfl H
abbrev w_X2_checkPass_26 (g : PG) (d : Nat) (l1 : Nat) (l2 : Nat) (s0 : Int32) (h : PH) (Q : Out → PH → Prop) : Prop := hkd h l2 = 4 ∧ C g d m_X1_refuse [.int s0, .int 8, .int (hF h 8 l2)] h (oV (fun h2 => C g d m_X6_isGone [.ref l2] h2 (oI (fun v6 h5 => C g d m_X1_refuse [.int v6, .int 9, .int (hF h5 9 l2)] h5 (oV (fun h8 => hkd h8 l1 = 4 ∧ (((i32abs ((hF h8 9 l2) - (hF h8 9 l1))) ≤ (1 : Int32)) → w_X2_checkPass_71 g d (i32abs ((hF h8 9 l2) - (hF h8 9 l1))) (0 : Int32) h8 Q) ∧ ((¬ (i32abs ((hF h8 9 l2) - (hF h8 9 l1))) ≤ (1 : Int32)) → w_X2_checkPass_71 g d (i32abs ((hF h8 9 l2) - (hF h8 9 l1))) (1 : Int32) h8 Q)) (fun r hx => Q (.inr r) hx))) (fun r hx => Q (.inr r) hx))) (fun r hx => Q (.inr r) hx))
theorem v_X2_checkPass_26 {g : PG} {d : Nat} {l1 : Nat} {l2 : Nat} {s0 : Int32} {h : PH} {Q : Out → PH → Prop} (H : w_X2_checkPass_26 g d l1 l2 s0 h Q) : R g d m_X2_checkPass 26 [.null, .ref l1, .ref l2, .null] [.int s0] h Q := by
  refine r_bipush dX2_checkPass_26 rfl ?_
  refine r_aload_n dX2_checkPass_28 rfl rfl ?_
  obtain ⟨k1, H⟩ := H
  refine r_getF fr_X2_119_4 (by decide) dX2_checkPass_29 k1 (by decide) ?_
  refine r_invSN (y := m_X1_refuse) dX2_checkPass_32 rfl q2417 q2419 q107 q2418 py_X1_refuse (Nat.le_of_ble_eq_true rfl) (args := [_, _, _]) rfl rfl (Nat.le_of_ble_eq_true rfl) (C.monoE H (fun o h2 _ x4 K => cont_V K (fun H => ?_) (fun r HX => XR_nc rfl HX)))
  refine r_aload_n dX2_checkPass_35 rfl rfl ?_
  refine r_invV (y := m_X6_isGone) dX2_checkPass_36 rfl (lw_V q2473 q2474 q2475 q142 q2476) py_X6_isGone (Nat.le_of_ble_eq_true rfl) (args := []) rfl rfl (Nat.le_of_ble_eq_true rfl) (x4.kd k1 (by decide)) (by decide) rfl (C.monoE H (fun o h5 _ x7 K => cont_I K (fun v6 H => ?_) (fun r HX => XR_nc rfl HX)))
  refine r_bipush dX2_checkPass_39 rfl ?_
  refine r_aload_n dX2_checkPass_41 rfl rfl ?_
  refine r_getF fr_X2_144_4 (by decide) dX2_checkPass_42 (x7.kd (x4.kd k1 (by decide)) (by decide)) (by decide) ?_
  refine r_invSN (y := m_X1_refuse) dX2_checkPass_45 rfl q2417 q2419 q107 q2418 py_X1_refuse (Nat.le_of_ble_eq_true rfl) (args := [_, _, _]) rfl rfl (Nat.le_of_ble_eq_true rfl) (C.monoE H (fun o h8 _ x10 K => cont_V K (fun H => ?_) (fun r HX => XR_nc rfl HX)))
  refine r_aload_n dX2_checkPass_48 rfl rfl ?_
  refine r_getF fr_X2_144_4 (by decide) dX2_checkPass_49 (x10.kd (x7.kd (x4.kd k1 (by decide)) (by decide)) (by decide)) (by decide) ?_
  refine r_aload_n dX2_checkPass_52 rfl rfl ?_
  obtain ⟨k11, H⟩ := H
  refine r_getF fr_X2_144_4 (by decide) dX2_checkPass_53 k11 (by decide) ?_
  refine r_isub dX2_checkPass_56 ?_
  refine r_mabs dX2_checkPass_57 q2533 q2534 q134 q2535 (Nat.le_of_ble_eq_true rfl) ?_
  refine r_istore_n dX2_checkPass_60 rfl (Nat.le_of_ble_eq_true rfl) rfl (slS (slS (slS sl0))) ?_
  refine r_iload_n dX2_checkPass_61 rfl rfl ?_
  refine r_iconst dX2_checkPass_62 rfl ?_
  refine r_icmp_le (tgt := 70) dX2_checkPass_63 rfl (fun b12 => ?_) (fun b12 => ?_)
  · replace H := H.1 b12
    refine r_iconst dX2_checkPass_70 rfl ?_
    exact R.forget (v_X2_checkPass_71 H) ⟨Or.inl rfl, ⟨Or.inr rfl, ⟨Or.inr rfl, ⟨Or.inl rfl, trivial⟩⟩⟩⟩
  · replace H := H.2 b12
    refine r_iconst dX2_checkPass_66 rfl ?_
    refine r_goto (tgt := 71) dX2_checkPass_67 rfl ?_
    exact R.forget (v_X2_checkPass_71 H) ⟨Or.inl rfl, ⟨Or.inr rfl, ⟨Or.inr rfl, ⟨Or.inl rfl, trivial⟩⟩⟩⟩
abbrev w_X2_checkPass_21 (g : PG) (d : Nat) (l1 : Nat) (l2 : Nat) (h : PH) (Q : Out → PH → Prop) : Prop := w_X2_checkPass_26 g d l1 l2 (1 : Int32) h Q
theorem v_X2_checkPass_21 {g : PG} {d : Nat} {l1 : Nat} {l2 : Nat} {h : PH} {Q : Out → PH → Prop} (H : w_X2_checkPass_21 g d l1 l2 h Q) : R g d m_X2_checkPass 21 [.null, .ref l1, .ref l2, .null] [] h Q := by
  refine r_iconst dX2_checkPass_21 rfl ?_
  refine r_goto (tgt := 26) dX2_checkPass_22 rfl ?_
  exact v_X2_checkPass_26 H
abbrev w_X2_checkPass_0 (g : PG) (d : Nat) (l0 : Nat) (l1 : Nat) (l2 : Nat) (h : PH) (Q : Out → PH → Prop) : Prop := hkd h l0 = 2 ∧ C g d m_X2_checkHat [.ref l0, .ref l1] h (oV (fun h2 => ((l2 = l1) → w_X2_checkPass_21 g d l1 l2 h2 Q) ∧ ((¬ l2 = l1) → hkd h2 l2 = 4 ∧ hkd h2 l1 = 4 ∧ (((hF h2 8 l2) = (hF h2 8 l1)) → w_X2_checkPass_26 g d l1 l2 (0 : Int32) h2 Q) ∧ ((¬ (hF h2 8 l2) = (hF h2 8 l1)) → w_X2_checkPass_21 g d l1 l2 h2 Q))) (fun r hx => Q (.inr r) hx))
theorem v_X2_checkPass_0 {g : PG} {d : Nat} {l0 : Nat} {l1 : Nat} {l2 : Nat} {h : PH} {Q : Out → PH → Prop} (H : w_X2_checkPass_0 g d l0 l1 l2 h Q) : R g d m_X2_checkPass 0 [.ref l0, .ref l1, .ref l2, .null] [] h Q := by
  refine r_aload_n dX2_checkPass_0 rfl rfl ?_
  refine r_aload_n dX2_checkPass_1 rfl rfl ?_
  obtain ⟨k1, H⟩ := H
  refine r_invV (y := m_X2_checkHat) dX2_checkPass_2 rfl (lw_V q2464 q2466 qp32 q108 q2467) py_X2_checkHat (Nat.le_of_ble_eq_true rfl) (args := [_]) rfl rfl (Nat.le_of_ble_eq_true rfl) k1 (by decide) rfl (C.monoE H (fun o h2 _ x4 K => cont_V K (fun H => ?_) (fun r HX => XR_nc rfl HX)))
  refine r_aload_n dX2_checkPass_5 rfl rfl ?_
  refine r_aload_n dX2_checkPass_6 rfl rfl ?_
  refine r_acmp_eq (tgt := 21) dX2_checkPass_7 rfl (fun b5 => ?_) (fun b5 => ?_)
  · replace H := H.1 b5
    exact R.forget (v_X2_checkPass_21 H) ⟨Or.inr rfl, ⟨Or.inl rfl, ⟨Or.inl rfl, ⟨Or.inl rfl, trivial⟩⟩⟩⟩
  · replace H := H.2 b5
    refine r_aload_n dX2_checkPass_10 rfl rfl ?_
    obtain ⟨k6, H⟩ := H
    refine r_getF fr_X2_119_4 (by decide) dX2_checkPass_11 k6 (by decide) ?_
    refine r_aload_n dX2_checkPass_14 rfl rfl ?_
    obtain ⟨k7, H⟩ := H
    refine r_getF fr_X2_119_4 (by decide) dX2_checkPass_15 k7 (by decide) ?_
    refine r_icmp_eq (tgt := 25) dX2_checkPass_18 rfl (fun b8 => ?_) (fun b8 => ?_)
    · replace H := H.1 b8
      refine r_iconst dX2_checkPass_25 rfl ?_
      exact R.forget (v_X2_checkPass_26 H) ⟨Or.inr rfl, ⟨Or.inl rfl, ⟨Or.inl rfl, ⟨Or.inl rfl, trivial⟩⟩⟩⟩
    · replace H := H.2 b8
      exact R.forget (v_X2_checkPass_21 H) ⟨Or.inr rfl, ⟨Or.inl rfl, ⟨Or.inl rfl, ⟨Or.inl rfl, trivial⟩⟩⟩⟩
theorem c_X2_checkPass_0 {g : PG} {d : Nat} {l0 : Nat} {l1 : Nat} {l2 : Nat} {h : PH} {Q : Out → PH → Prop} (H : w_X2_checkPass_0 g d l0 l1 l2 h Q) : C g (d + 1) m_X2_checkPass [.ref l0, .ref l1, .ref l2] h Q := C_of_R rfl rfl (Nat.le_of_ble_eq_true rfl) rfl (v_X2_checkPass_0 H)
abbrev w_X2_pick_146 (g : PG) (d : Nat) (l3 : Int32) (l4 : Int32) (h : PH) (Q : Out → PH → Prop) : Prop := C g d m_X1_number [.int l4] h (oI (fun v2 h1 => C g d m_X1_number [.int l3] h1 (oI (fun v5 h4 => Q (.inl (some (.int (v2 + ((2 : Int32) * v5))))) h4) (fun r hx => Q (.inr r) hx))) (fun r hx => Q (.inr r) hx))
theorem v_X2_pick_146 {g : PG} {d : Nat} {l3 : Int32} {l4 : Int32} {h : PH} {Q : Out → PH → Prop} (H : w_X2_pick_146 g d l3 l4 h Q) : R g d m_X2_pick 146 [.null, .null, .null, .int l3, .int l4, .null] [] h Q := by
  refine r_iload dX2_pick_146 rfl ?_
  refine r_invSN (y := m_X1_number) dX2_pick_148 rfl q1533 q1535 q107 q1534 py_X1_number (Nat.le_of_ble_eq_true rfl) (args := [_]) rfl rfl (Nat.le_of_ble_eq_true rfl) (C.monoE H (fun o h1 _ x3 K => cont_I K (fun v2 H => ?_) (fun r HX => XR_nc rfl HX)))
  refine r_iconst dX2_pick_151 rfl ?_
  refine r_iload_n dX2_pick_152 rfl rfl ?_
  refine r_invSN (y := m_X1_number) dX2_pick_153 rfl q1533 q1535 q107 q1534 py_X1_number (Nat.le_of_ble_eq_true rfl) (args := [_]) rfl rfl (Nat.le_of_ble_eq_true rfl) (C.monoE H (fun o h4 _ x6 K => cont_I K (fun v5 H => ?_) (fun r HX => XR_nc rfl HX)))
  refine r_imul dX2_pick_156 ?_
  refine r_iadd dX2_pick_157 ?_
  exact r_iret dX2_pick_158 rfl H
abbrev w_X2_pick_78 (g : PG) (d : Nat) (l0 : Nat) (l1 : Int32) (l2 : Nat) (l3 : Int32) (s0 : Int32) (h : PH) (Q : Out → PH → Prop) : Prop := hkd h l2 = 4 ∧ narrow .boolean (.int ((hF h 11 l2) ||| s0)) = .int ((hF h 11 l2) ||| s0) ∧ fits .boolean (.int ((hF h 11 l2) ||| s0)) = true ∧ ∀ h2, h2 = setF 11 l2 ((hF h 11 l2) ||| s0) h → hkd h2 l0 = 2 ∧ hkd h2 (hG h2 506 l0) / 100 = 7 ∧ vp_in (hF h2 9 l2) (hln h2 (hG h2 506 l0)) ∧ hkd h2 (hB h2 (hG h2 506 l0) (hF h2 9 l2).toNatClampNeg) = 3 ∧ C g d m_X1_number [.int s0] h2 (oI (fun v8 h7 => ∀ h10, h10 = setF 6 (hB h2 (hG h2 506 l0) (hF h2 9 l2).toNatClampNeg) ((hF h2 6 (hB h2 (hG h2 506 l0) (hF h2 9 l2).toNatClampNeg)) - v8) h7 → ((l3 = 0) → w_X2_pick_146 g d l3 s0 h10 Q) ∧ ((¬ l3 = 0) → C g d m_J26_valueOf [.int (hF h10 8 l2)] h10 (oR (fun v13 h12 => hkd h12 (hG h10 511 l0) = 15 ∧ C g d m_J4_remove [.ref (hG h10 511 l0), .ref v13] h12 (oR (fun v17 h16 => (v17 = 0 ∨ ko h16 v17 30) ∧ hkd h16 (hG h16 508 l0) / 100 = 1 ∧ hkd h16 (hG h16 508 l0) % 100 < 50 ∧ vp_in (hF h16 8 l2) (hln h16 (hG h16 508 l0)) ∧ ∀ h23, h23 = setA (hG h16 508 l0) (hF h16 8 l2).toNatClampNeg l1 h16 → w_X2_pick_146 g d l3 s0 h23 Q) (fun r hx => Q (.inr r) hx))) (fun r hx => Q (.inr r) hx)))) (fun r hx => Q (.inr r) hx))
theorem v_X2_pick_78 {g : PG} {d : Nat} {l0 : Nat} {l1 : Int32} {l2 : Nat} {l3 : Int32} {s0 : Int32} {h : PH} {Q : Out → PH → Prop} (H : w_X2_pick_78 g d l0 l1 l2 l3 s0 h Q) : R g d m_X2_pick 78 [.ref l0, .int l1, .ref l2, .int l3, .null, .null] [.int s0] h Q := by
  refine r_istore dX2_pick_78 (Nat.le_of_ble_eq_true rfl) rfl (slS (slS (slS (slS sl0)))) ?_
  refine r_aload_n dX2_pick_80 rfl rfl ?_
  refine r_dup dX2_pick_81 rfl ?_
  obtain ⟨k1, H⟩ := H
  refine r_getF fr_X2_175_4 (by decide) dX2_pick_82 k1 (by decide) ?_
  refine r_iload dX2_pick_85 rfl ?_
  refine r_ior dX2_pick_87 ?_
  obtain ⟨k24, H⟩ := H
  obtain ⟨k25, H⟩ := H
  replace H := H _ rfl
  refine r_putF fw_X2_175_4 (by decide) dX2_pick_88 k1 (by decide) k24 k25 ?_
  refine r_aload_n dX2_pick_91 rfl rfl ?_
  obtain ⟨k3, H⟩ := H
  refine r_getG fr_X2_11_2 (by decide) dX2_pick_92 k3 (by decide) ?_
  refine r_aload_n dX2_pick_95 rfl rfl ?_
  refine r_getF fr_X2_144_4 (by decide) dX2_pick_96 k1 (by decide) ?_
  obtain ⟨k4, H⟩ := H
  obtain ⟨k5, H⟩ := H
  refine r_aald dX2_pick_99 (m := 7) (by decide) k4 k5 ?_
  refine r_dup dX2_pick_100 rfl ?_
  obtain ⟨k6, H⟩ := H
  refine r_getF fr_X2_179_3 (by decide) dX2_pick_101 k6 (by decide) ?_
  refine r_iload dX2_pick_104 rfl ?_
  refine r_invSN (y := m_X1_number) dX2_pick_106 rfl q1533 q1535 q107 q1534 py_X1_number (Nat.le_of_ble_eq_true rfl) (args := [_]) rfl rfl (Nat.le_of_ble_eq_true rfl) (C.monoE H (fun o h7 _ x9 K => cont_I K (fun v8 H => ?_) (fun r HX => XR_nc rfl HX)))
  refine r_isub dX2_pick_109 ?_
  replace H := H _ rfl
  refine r_putF fw_X2_179_3 (by decide) dX2_pick_110 (x9.kd k6 (by decide)) (by decide) rfl rfl ?_
  refine r_iload_n dX2_pick_113 rfl rfl ?_
  refine r_if_eq (tgt := 146) dX2_pick_114 rfl (fun b11 => ?_) (fun b11 => ?_)
  · replace H := H.1 b11
    exact R.forget (v_X2_pick_146 H) ⟨Or.inr rfl, ⟨Or.inr rfl, ⟨Or.inr rfl, ⟨Or.inl rfl, ⟨Or.inl rfl, ⟨Or.inl rfl, trivial⟩⟩⟩⟩⟩⟩
  · replace H := H.2 b11
    refine r_aload_n dX2_pick_117 rfl rfl ?_
    refine r_getG fr_X2_37_2 (by decide) dX2_pick_118 (x9.kd k3 (by decide)) (by decide) ?_
    refine r_aload_n dX2_pick_121 rfl rfl ?_
    refine r_getF fr_X2_119_4 (by decide) dX2_pick_122 (x9.kd k1 (by decide)) (by decide) ?_
    refine r_invS (y := m_J26_valueOf) dX2_pick_125 rfl (lw_S q1254 q1255 q139 q1256) py_J26_valueOf (Nat.le_of_ble_eq_true rfl) (args := [_]) rfl rfl (Nat.le_of_ble_eq_true rfl) (C.monoE H (fun o h12 _ x14 K => cont_R K (fun v13 H => ?_) (fun r HX => XR_nc rfl HX)))
    obtain ⟨k15, H⟩ := H
    refine r_invV (y := m_J4_remove) dX2_pick_128 rfl (lw_V q2544 q2545 q2546 q113 q2547) py_J4_remove (Nat.le_of_ble_eq_true rfl) (args := [_]) rfl rfl (Nat.le_of_ble_eq_true rfl) k15 (by decide) rfl (C.monoE H (fun o h16 _ x18 K => cont_R K (fun v17 H => ?_) (fun r HX => XR_nc rfl HX)))
    obtain ⟨k19, H⟩ := H
    refine r_castOc (kv := 30) dX2_pick_131 q1249 (by decide) (Or.inr rfl) k19 ?_
    refine r_astore dX2_pick_134 (Nat.le_of_ble_eq_true rfl) rfl (slS (slS (slS (slS (slS sl0))))) ?_
    refine r_aload_n dX2_pick_136 rfl rfl ?_
    refine r_getG fr_X2_24_2 (by decide) dX2_pick_137 (x18.kd (x14.kd (x9.kd k3 (by decide)) (by decide)) (by decide)) (by decide) ?_
    refine r_aload_n dX2_pick_140 rfl rfl ?_
    refine r_getF fr_X2_119_4 (by decide) dX2_pick_141 (x18.kd (x14.kd (x9.kd k1 (by decide)) (by decide)) (by decide)) (by decide) ?_
    refine r_iload_n dX2_pick_144 rfl rfl ?_
    obtain ⟨k20, H⟩ := H
    obtain ⟨k21, H⟩ := H
    obtain ⟨k22, H⟩ := H
    replace H := H _ rfl
    refine r_iast dX2_pick_145 k20 k21 k22 ?_
    exact R.forget (v_X2_pick_146 H) ⟨Or.inr rfl, ⟨Or.inr rfl, ⟨Or.inr rfl, ⟨Or.inl rfl, ⟨Or.inl rfl, ⟨Or.inr rfl, trivial⟩⟩⟩⟩⟩⟩
abbrev w_X2_pick_77 (g : PG) (d : Nat) (l0 : Nat) (l1 : Int32) (l2 : Nat) (l3 : Int32) (h : PH) (Q : Out → PH → Prop) : Prop := w_X2_pick_78 g d l0 l1 l2 l3 (0 : Int32) h Q
theorem v_X2_pick_77 {g : PG} {d : Nat} {l0 : Nat} {l1 : Int32} {l2 : Nat} {l3 : Int32} {h : PH} {Q : Out → PH → Prop} (H : w_X2_pick_77 g d l0 l1 l2 l3 h Q) : R g d m_X2_pick 77 [.ref l0, .int l1, .ref l2, .int l3, .null, .null] [] h Q := by
  refine r_iconst dX2_pick_77 rfl ?_
  exact v_X2_pick_78 H
abbrev w_X2_pick_36 (g : PG) (d : Nat) (l1 : Int32) (s0 : Nat) (h : PH) (Q : Out → PH → Prop) : Prop := ∀ h1, h1 = hnew 7 0 9 h → 0 < (hnx h) ∧ C g d m_X7_init_2 [.ref (hnx h), .int 12, .int l1, .ref s0] h1 (oV (fun h3 => (hkd h3 (hnx h) ≠ 0 ∧ hkd h3 (hnx h) < 100) ∧ Q (.inr (hnx h)) h3) (fun r hx => Q (.inr r) hx))
theorem v_X2_pick_36 {g : PG} {d : Nat} {l1 : Int32} {s0 : Nat} {h : PH} {Q : Out → PH → Prop} (H : w_X2_pick_36 g d l1 s0 h Q) : R g d m_X2_pick 36 [.null, .int l1, .null, .null, .null, .null] [.ref s0] h Q := by
  refine r_astore dX2_pick_36 (Nat.le_of_ble_eq_true rfl) rfl (slS (slS (slS (slS sl0)))) ?_
  replace H := H _ rfl
  refine r_new (ci := 7) dX2_pick_38 rfl (by decide) q2455 q2420 q161 ?_
  refine r_dup dX2_pick_41 rfl ?_
  refine r_bipush dX2_pick_42 rfl ?_
  refine r_iload_n dX2_pick_44 rfl rfl ?_
  refine r_aload dX2_pick_45 rfl ?_
  obtain ⟨k2, H⟩ := H
  refine r_invI (y := m_X7_init_2) dX2_pick_47 rfl rfl q2433 q161 q2472 q2432 rfl py_X7_init_2 (Nat.le_of_ble_eq_true rfl) (args := [_, _, _]) rfl rfl (Nat.le_of_ble_eq_true rfl) k2 (C.monoE H (fun o h3 _ x5 K => cont_V K (fun H => ?_) (fun r HX => XR_nc rfl HX)))
  exact r_athrow dX2_pick_50 H.1 (XR_nc rfl H.2)
abbrev w_X2_pick_26 (g : PG) (d : Nat) (l0 : Nat) (l1 : Int32) (l2 : Nat) (s0 : Int32) (h : PH) (Q : Out → PH → Prop) : Prop := hkd h l0 = 2 ∧ C g d m_X2_checkPick [.ref l0, .ref l2, .int s0] h (oV (fun h2 => hkd h2 l2 = 4 ∧ ((¬ (hF h2 11 l2) = 0) → w_X2_pick_77 g d l0 l1 l2 s0 h2 Q) ∧ (((hF h2 11 l2) = 0) → hkd h2 (hG h2 506 l0) / 100 = 7 ∧ vp_in (hF h2 9 l2) (hln h2 (hG h2 506 l0)) ∧ hkd h2 (hB h2 (hG h2 506 l0) (hF h2 9 l2).toNatClampNeg) = 3 ∧ (((hF h2 6 (hB h2 (hG h2 506 l0) (hF h2 9 l2).toNatClampNeg)) ≤ 0) → w_X2_pick_77 g d l0 l1 l2 s0 h2 Q) ∧ ((¬ (hF h2 6 (hB h2 (hG h2 506 l0) (hF h2 9 l2).toNatClampNeg)) ≤ 0) → w_X2_pick_78 g d l0 l1 l2 s0 (1 : Int32) h2 Q))) (fun r hx => XR g d m_X2_pick 30 [.ref l0, .int l1, .ref l2, .int s0, .null, .null] r hx Q))
theorem v_X2_pick_26 {g : PG} {d : Nat} {l0 : Nat} {l1 : Int32} {l2 : Nat} {s0 : Int32} {h : PH} {Q : Out → PH → Prop} (H : w_X2_pick_26 g d l0 l1 l2 s0 h Q) : R g d m_X2_pick 26 [.ref l0, .int l1, .ref l2, .null, .null, .null] [.int s0] h Q := by
  refine r_istore_n dX2_pick_26 rfl (Nat.le_of_ble_eq_true rfl) rfl (slS (slS (slS sl0))) ?_
  refine r_aload_n dX2_pick_27 rfl rfl ?_
  refine r_aload_n dX2_pick_28 rfl rfl ?_
  refine r_iload_n dX2_pick_29 rfl rfl ?_
  obtain ⟨k1, H⟩ := H
  refine r_invV (y := m_X2_checkPick) dX2_pick_30 rfl (lw_V q2540 q2542 qp37 q108 q2543) py_X2_checkPick (Nat.le_of_ble_eq_true rfl) (args := [_, _]) rfl rfl (Nat.le_of_ble_eq_true rfl) k1 (by decide) rfl (C.monoE H (fun o h2 _ x4 K => cont_V K (fun H => ?_) (fun r HX => HX)))
  refine r_goto (tgt := 51) dX2_pick_33 rfl ?_
  refine r_aload_n dX2_pick_51 rfl rfl ?_
  obtain ⟨k5, H⟩ := H
  refine r_getF fr_X2_175_4 (by decide) dX2_pick_52 k5 (by decide) ?_
  refine r_if_ne (tgt := 77) dX2_pick_55 rfl (fun b6 => ?_) (fun b6 => ?_)
  · replace H := H.1 b6
    exact v_X2_pick_77 H
  · replace H := H.2 b6
    refine r_aload_n dX2_pick_58 rfl rfl ?_
    refine r_getG fr_X2_11_2 (by decide) dX2_pick_59 (x4.kd k1 (by decide)) (by decide) ?_
    refine r_aload_n dX2_pick_62 rfl rfl ?_
    refine r_getF fr_X2_144_4 (by decide) dX2_pick_63 k5 (by decide) ?_
    obtain ⟨k7, H⟩ := H
    obtain ⟨k8, H⟩ := H
    refine r_aald dX2_pick_66 (m := 7) (by decide) k7 k8 ?_
    obtain ⟨k9, H⟩ := H
    refine r_getF fr_X2_179_3 (by decide) dX2_pick_67 k9 (by decide) ?_
    refine r_if_le (tgt := 77) dX2_pick_70 rfl (fun b10 => ?_) (fun b10 => ?_)
    · replace H := H.1 b10
      exact v_X2_pick_77 H
    · replace H := H.2 b10
      refine r_iconst dX2_pick_73 rfl ?_
      refine r_goto (tgt := 78) dX2_pick_74 rfl ?_
      exact v_X2_pick_78 H
abbrev w_X2_pick_0 (g : PG) (d : Nat) (l0 : Nat) (l1 : Int32) (h : PH) (Q : Out → PH → Prop) : Prop := hkd h l0 = 2 ∧ C g d m_X2_told [.ref l0, .int l1] h (oR (fun v3 h2 => hkd h2 v3 = 4 ∧ C g d m_X2_liesOn [.ref l0, .int (hF h2 8 v3)] h2 (oI (fun v7 h6 => ((¬ v7 = (hF h6 9 v3)) → w_X2_pick_26 g d l0 l1 v3 (0 : Int32) h6 Q) ∧ ((v7 = (hF h6 9 v3)) → w_X2_pick_26 g d l0 l1 v3 (1 : Int32) h6 Q)) (fun r hx => Q (.inr r) hx))) (fun r hx => Q (.inr r) hx))
theorem v_X2_pick_0 {g : PG} {d : Nat} {l0 : Nat} {l1 : Int32} {h : PH} {Q : Out → PH → Prop} (H : w_X2_pick_0 g d l0 l1 h Q) : R g d m_X2_pick 0 [.ref l0, .int l1, .null, .null, .null, .null] [] h Q := by
  refine r_aload_n dX2_pick_0 rfl rfl ?_
  refine r_iload_n dX2_pick_1 rfl rfl ?_
  obtain ⟨k1, H⟩ := H
  refine r_invV (y := m_X2_told) dX2_pick_2 rfl (lw_V q2456 q2458 qp30 q108 q2459) py_X2_told (Nat.le_of_ble_eq_true rfl) (args := [_]) rfl rfl (Nat.le_of_ble_eq_true rfl) k1 (by decide) rfl (C.monoE H (fun o h2 _ x4 K => cont_R K (fun v3 H => ?_) (fun r HX => XR_nc rfl HX)))
  refine r_astore_n dX2_pick_5 rfl (Nat.le_of_ble_eq_true rfl) rfl (slS (slS sl0)) ?_
  refine r_aload_n dX2_pick_6 rfl rfl ?_
  refine r_aload_n dX2_pick_7 rfl rfl ?_
  obtain ⟨k5, H⟩ := H
  refine r_getF fr_X2_119_4 (by decide) dX2_pick_8 k5 (by decide) ?_
  refine r_invV (y := m_X2_liesOn) dX2_pick_11 rfl (lw_V q1629 q1631 qp11 q108 q1632) py_X2_liesOn (Nat.le_of_ble_eq_true rfl) (args := [_]) rfl rfl (Nat.le_of_ble_eq_true rfl) (x4.kd k1 (by decide)) (by decide) rfl (C.monoE H (fun o h6 _ x8 K => cont_I K (fun v7 H => ?_) (fun r HX => XR_nc rfl HX)))
  refine r_aload_n dX2_pick_14 rfl rfl ?_
  refine r_getF fr_X2_144_4 (by decide) dX2_pick_15 (x8.kd k5 (by decide)) (by decide) ?_
  refine r_icmp_ne (tgt := 25) dX2_pick_18 rfl (fun b9 => ?_) (fun b9 => ?_)
  · replace H := H.1 b9
    refine r_iconst dX2_pick_25 rfl ?_
    exact v_X2_pick_26 H
  · replace H := H.2 b9
    refine r_iconst dX2_pick_21 rfl ?_
    refine r_goto (tgt := 26) dX2_pick_22 rfl ?_
    exact v_X2_pick_26 H
theorem c_X2_pick_0 {g : PG} {d : Nat} {l0 : Nat} {l1 : Int32} {h : PH} {Q : Out → PH → Prop} (H : w_X2_pick_0 g d l0 l1 h Q) : C g (d + 1) m_X2_pick [.ref l0, .int l1] h Q := C_of_R rfl rfl (Nat.le_of_ble_eq_true rfl) rfl (v_X2_pick_0 H)
abbrev w_X2_checkPick_62 (g : PG) (d : Nat) (l1 : Nat) (s0 : Int32) (h : PH) (Q : Out → PH → Prop) : Prop := hkd h l1 = 4 ∧ C g d m_X1_refuse [.int s0, .int 14, .int (hF h 9 l1)] h (oV (fun h2 => Q (.inl none) h2) (fun r hx => Q (.inr r) hx))
theorem v_X2_checkPick_62 {g : PG} {d : Nat} {l1 : Nat} {s0 : Int32} {h : PH} {Q : Out → PH → Prop} (H : w_X2_checkPick_62 g d l1 s0 h Q) : R g d m_X2_checkPick 62 [.null, .ref l1, .null] [.int s0] h Q := by
  refine r_bipush dX2_checkPick_62 rfl ?_
  refine r_aload_n dX2_checkPick_64 rfl rfl ?_
  obtain ⟨k1, H⟩ := H
  refine r_getF fr_X2_144_4 (by decide) dX2_checkPick_65 k1 (by decide) ?_
  refine r_invSN (y := m_X1_refuse) dX2_checkPick_68 rfl q2417 q2419 q107 q2418 py_X1_refuse (Nat.le_of_ble_eq_true rfl) (args := [_, _, _]) rfl rfl (Nat.le_of_ble_eq_true rfl) (C.monoE H (fun o h2 _ x4 K => cont_V K (fun H => ?_) (fun r HX => XR_nc rfl HX)))
  exact r_vret dX2_checkPick_71 rfl H
abbrev w_X2_checkPick_61 (g : PG) (d : Nat) (l1 : Nat) (h : PH) (Q : Out → PH → Prop) : Prop := w_X2_checkPick_62 g d l1 (0 : Int32) h Q
theorem v_X2_checkPick_61 {g : PG} {d : Nat} {l1 : Nat} {h : PH} {Q : Out → PH → Prop} (H : w_X2_checkPick_61 g d l1 h Q) : R g d m_X2_checkPick 61 [.null, .ref l1, .null] [] h Q := by
  refine r_iconst dX2_checkPick_61 rfl ?_
  exact v_X2_checkPick_62 H
abbrev w_X2_checkPick_29 (g : PG) (d : Nat) (l0 : Nat) (l1 : Nat) (l2 : Int32) (s0 : Int32) (h : PH) (Q : Out → PH → Prop) : Prop := hkd h l1 = 4 ∧ C g d m_X1_refuse [.int s0, .int 13, .int (hF h 9 l1)] h (oV (fun h2 => ((¬ l2 = 0) → w_X2_checkPick_61 g d l1 h2 Q) ∧ ((l2 = 0) → hkd h2 l0 = 2 ∧ hkd h2 (hG h2 506 l0) / 100 = 7 ∧ vp_in (hF h2 9 l1) (hln h2 (hG h2 506 l0)) ∧ hkd h2 (hB h2 (hG h2 506 l0) (hF h2 9 l1).toNatClampNeg) = 3 ∧ ((¬ (hF h2 6 (hB h2 (hG h2 506 l0) (hF h2 9 l1).toNatClampNeg)) = 0) → w_X2_checkPick_61 g d l1 h2 Q) ∧ (((hF h2 6 (hB h2 (hG h2 506 l0) (hF h2 9 l1).toNatClampNeg)) = 0) → w_X2_checkPick_62 g d l1 (1 : Int32) h2 Q))) (fun r hx => Q (.inr r) hx))
theorem v_X2_checkPick_29 {g : PG} {d : Nat} {l0 : Nat} {l1 : Nat} {l2 : Int32} {s0 : Int32} {h : PH} {Q : Out → PH → Prop} (H : w_X2_checkPick_29 g d l0 l1 l2 s0 h Q) : R g d m_X2_checkPick 29 [.ref l0, .ref l1, .int l2] [.int s0] h Q := by
  refine r_bipush dX2_checkPick_29 rfl ?_
  refine r_aload_n dX2_checkPick_31 rfl rfl ?_
  obtain ⟨k1, H⟩ := H
  refine r_getF fr_X2_144_4 (by decide) dX2_checkPick_32 k1 (by decide) ?_
  refine r_invSN (y := m_X1_refuse) dX2_checkPick_35 rfl q2417 q2419 q107 q2418 py_X1_refuse (Nat.le_of_ble_eq_true rfl) (args := [_, _, _]) rfl rfl (Nat.le_of_ble_eq_true rfl) (C.monoE H (fun o h2 _ x4 K => cont_V K (fun H => ?_) (fun r HX => XR_nc rfl HX)))
  refine r_iload_n dX2_checkPick_38 rfl rfl ?_
  refine r_if_ne (tgt := 61) dX2_checkPick_39 rfl (fun b5 => ?_) (fun b5 => ?_)
  · replace H := H.1 b5
    exact R.forget (v_X2_checkPick_61 H) ⟨Or.inr rfl, ⟨Or.inl rfl, ⟨Or.inr rfl, trivial⟩⟩⟩
  · replace H := H.2 b5
    refine r_aload_n dX2_checkPick_42 rfl rfl ?_
    obtain ⟨k6, H⟩ := H
    refine r_getG fr_X2_11_2 (by decide) dX2_checkPick_43 k6 (by decide) ?_
    refine r_aload_n dX2_checkPick_46 rfl rfl ?_
    refine r_getF fr_X2_144_4 (by decide) dX2_checkPick_47 (x4.kd k1 (by decide)) (by decide) ?_
    obtain ⟨k7, H⟩ := H
    obtain ⟨k8, H⟩ := H
    refine r_aald dX2_checkPick_50 (m := 7) (by decide) k7 k8 ?_
    obtain ⟨k9, H⟩ := H
    refine r_getF fr_X2_179_3 (by decide) dX2_checkPick_51 k9 (by decide) ?_
    refine r_if_ne (tgt := 61) dX2_checkPick_54 rfl (fun b10 => ?_) (fun b10 => ?_)
    · replace H := H.1 b10
      exact R.forget (v_X2_checkPick_61 H) ⟨Or.inr rfl, ⟨Or.inl rfl, ⟨Or.inr rfl, trivial⟩⟩⟩
    · replace H := H.2 b10
      refine r_iconst dX2_checkPick_57 rfl ?_
      refine r_goto (tgt := 62) dX2_checkPick_58 rfl ?_
      exact R.forget (v_X2_checkPick_62 H) ⟨Or.inr rfl, ⟨Or.inl rfl, ⟨Or.inr rfl, trivial⟩⟩⟩
abbrev w_X2_checkPick_28 (g : PG) (d : Nat) (l0 : Nat) (l1 : Nat) (l2 : Int32) (h : PH) (Q : Out → PH → Prop) : Prop := w_X2_checkPick_29 g d l0 l1 l2 (0 : Int32) h Q
theorem v_X2_checkPick_28 {g : PG} {d : Nat} {l0 : Nat} {l1 : Nat} {l2 : Int32} {h : PH} {Q : Out → PH → Prop} (H : w_X2_checkPick_28 g d l0 l1 l2 h Q) : R g d m_X2_checkPick 28 [.ref l0, .ref l1, .int l2] [] h Q := by
  refine r_iconst dX2_checkPick_28 rfl ?_
  exact v_X2_checkPick_29 H
abbrev w_X2_checkPick_0 (g : PG) (d : Nat) (l0 : Nat) (l1 : Nat) (l2 : Int32) (h : PH) (Q : Out → PH → Prop) : Prop := hkd h l1 = 4 ∧ C g d m_X6_isGone [.ref l1] h (oI (fun v3 h2 => C g d m_X1_refuse [.int v3, .int 9, .int (hF h2 9 l1)] h2 (oV (fun h5 => (((hF h5 11 l1) = 0) → w_X2_checkPick_28 g d l0 l1 l2 h5 Q) ∧ ((¬ (hF h5 11 l1) = 0) → ((¬ l2 = 0) → w_X2_checkPick_28 g d l0 l1 l2 h5 Q) ∧ ((l2 = 0) → w_X2_checkPick_29 g d l0 l1 l2 (1 : Int32) h5 Q))) (fun r hx => Q (.inr r) hx))) (fun r hx => Q (.inr r) hx))
theorem v_X2_checkPick_0 {g : PG} {d : Nat} {l0 : Nat} {l1 : Nat} {l2 : Int32} {h : PH} {Q : Out → PH → Prop} (H : w_X2_checkPick_0 g d l0 l1 l2 h Q) : R g d m_X2_checkPick 0 [.ref l0, .ref l1, .int l2] [] h Q := by
  refine r_aload_n dX2_checkPick_0 rfl rfl ?_
  obtain ⟨k1, H⟩ := H
  refine r_invV (y := m_X6_isGone) dX2_checkPick_1 rfl (lw_V q2473 q2474 q2475 q142 q2476) py_X6_isGone (Nat.le_of_ble_eq_true rfl) (args := []) rfl rfl (Nat.le_of_ble_eq_true rfl) k1 (by decide) rfl (C.monoE H (fun o h2 _ x4 K => cont_I K (fun v3 H => ?_) (fun r HX => XR_nc rfl HX)))
  refine r_bipush dX2_checkPick_4 rfl ?_
  refine r_aload_n dX2_checkPick_6 rfl rfl ?_
  refine r_getF fr_X2_144_4 (by decide) dX2_checkPick_7 (x4.kd k1 (by decide)) (by decide) ?_
  refine r_invSN (y := m_X1_refuse) dX2_checkPick_10 rfl q2417 q2419 q107 q2418 py_X1_refuse (Nat.le_of_ble_eq_true rfl) (args := [_, _, _]) rfl rfl (Nat.le_of_ble_eq_true rfl) (C.monoE H (fun o h5 _ x7 K => cont_V K (fun H => ?_) (fun r HX => XR_nc rfl HX)))
  refine r_aload_n dX2_checkPick_13 rfl rfl ?_
  refine r_getF fr_X2_175_4 (by decide) dX2_checkPick_14 (x7.kd (x4.kd k1 (by decide)) (by decide)) (by decide) ?_
  refine r_if_eq (tgt := 28) dX2_checkPick_17 rfl (fun b8 => ?_) (fun b8 => ?_)
  · replace H := H.1 b8
    exact v_X2_checkPick_28 H
  · replace H := H.2 b8
    refine r_iload_n dX2_checkPick_20 rfl rfl ?_
    refine r_if_ne (tgt := 28) dX2_checkPick_21 rfl (fun b9 => ?_) (fun b9 => ?_)
    · replace H := H.1 b9
      exact v_X2_checkPick_28 H
    · replace H := H.2 b9
      refine r_iconst dX2_checkPick_24 rfl ?_
      refine r_goto (tgt := 29) dX2_checkPick_25 rfl ?_
      exact v_X2_checkPick_29 H
theorem c_X2_checkPick_0 {g : PG} {d : Nat} {l0 : Nat} {l1 : Nat} {l2 : Int32} {h : PH} {Q : Out → PH → Prop} (H : w_X2_checkPick_0 g d l0 l1 l2 h Q) : C g (d + 1) m_X2_checkPick [.ref l0, .ref l1, .int l2] h Q := C_of_R rfl rfl (Nat.le_of_ble_eq_true rfl) rfl (v_X2_checkPick_0 H)
abbrev w_X2_warm_34 (g : PG) (d : Nat) (l2 : Int32) (l3 : Nat) (l4 : Int32) (s0 : Int32) (h : PH) (Q : Out → PH → Prop) : Prop := C g d m_X1_refuse [.int s0, .int 11, .int l2] h (oV (fun h1 => hkd h1 l3 = 3 ∧ ∀ h5, h5 = setF 4 l3 l2 h1 → Q (.inl (some (.int l4))) h5) (fun r hx => Q (.inr r) hx))
theorem v_X2_warm_34 {g : PG} {d : Nat} {l2 : Int32} {l3 : Nat} {l4 : Int32} {s0 : Int32} {h : PH} {Q : Out → PH → Prop} (H : w_X2_warm_34 g d l2 l3 l4 s0 h Q) : R g d m_X2_warm 34 [.null, .null, .int l2, .ref l3, .int l4] [.int s0] h Q := by
  refine r_bipush dX2_warm_34 rfl ?_
  refine r_iload_n dX2_warm_36 rfl rfl ?_
  refine r_invSN (y := m_X1_refuse) dX2_warm_37 rfl q2417 q2419 q107 q2418 py_X1_refuse (Nat.le_of_ble_eq_true rfl) (args := [_, _, _]) rfl rfl (Nat.le_of_ble_eq_true rfl) (C.monoE H (fun o h1 _ x3 K => cont_V K (fun H => ?_) (fun r HX => XR_nc rfl HX)))
  refine r_aload_n dX2_warm_40 rfl rfl ?_
  refine r_iload_n dX2_warm_41 rfl rfl ?_
  obtain ⟨k4, H⟩ := H
  replace H := H _ rfl
  refine r_putF fw_X2_209_3 (by decide) dX2_warm_42 k4 (by decide) rfl rfl ?_
  refine r_iload dX2_warm_45 rfl ?_
  exact r_iret dX2_warm_47 rfl H
abbrev w_X2_warm_0 (g : PG) (d : Nat) (l0 : Nat) (l1 : Int32) (l2 : Int32) (h : PH) (Q : Out → PH → Prop) : Prop := hkd h l0 = 2 ∧ C g d m_X2_plank [.ref l0, .int l1] h (oR (fun v3 h2 => C g d m_X1_inRange [.int l2, .int (-5 : Int32), .int 9] h2 (oI (fun v6 h5 => C g d m_X1_checkArgument [.int v6] h5 (oV (fun h8 => hkd h8 v3 = 3 ∧ ((¬ (hF h8 4 v3) = l2) → w_X2_warm_34 g d l2 v3 (hF h8 4 v3) (0 : Int32) h8 Q) ∧ (((hF h8 4 v3) = l2) → w_X2_warm_34 g d l2 v3 (hF h8 4 v3) (1 : Int32) h8 Q)) (fun r hx => Q (.inr r) hx))) (fun r hx => Q (.inr r) hx))) (fun r hx => Q (.inr r) hx))
theorem v_X2_warm_0 {g : PG} {d : Nat} {l0 : Nat} {l1 : Int32} {l2 : Int32} {h : PH} {Q : Out → PH → Prop} (H : w_X2_warm_0 g d l0 l1 l2 h Q) : R g d m_X2_warm 0 [.ref l0, .int l1, .int l2, .null, .null] [] h Q := by
  refine r_aload_n dX2_warm_0 rfl rfl ?_
  refine r_iload_n dX2_warm_1 rfl rfl ?_
  obtain ⟨k1, H⟩ := H
  refine r_invV (y := m_X2_plank) dX2_warm_2 rfl (lw_V q2561 q2562 q2563 q108 q2564) py_X2_plank (Nat.le_of_ble_eq_true rfl) (args := [_]) rfl rfl (Nat.le_of_ble_eq_true rfl) k1 (by decide) rfl (C.monoE H (fun o h2 _ x4 K => cont_R K (fun v3 H => ?_) (fun r HX => XR_nc rfl HX)))
  refine r_astore_n dX2_warm_5 rfl (Nat.le_of_ble_eq_true rfl) rfl (slS (slS (slS sl0))) ?_
  refine r_iload_n dX2_warm_6 rfl rfl ?_
  refine r_bipush dX2_warm_7 rfl ?_
  refine r_bipush dX2_warm_9 rfl ?_
  refine r_invSN (y := m_X1_inRange) dX2_warm_11 rfl q2414 q1612 q107 q1611 py_X1_inRange (Nat.le_of_ble_eq_true rfl) (args := [_, _, _]) rfl rfl (Nat.le_of_ble_eq_true rfl) (C.monoE H (fun o h5 _ x7 K => cont_I K (fun v6 H => ?_) (fun r HX => XR_nc rfl HX)))
  refine r_invSN (y := m_X1_checkArgument) dX2_warm_14 rfl q2415 q2408 q107 q2407 py_X1_checkArgument (Nat.le_of_ble_eq_true rfl) (args := [_]) rfl rfl (Nat.le_of_ble_eq_true rfl) (C.monoE H (fun o h8 _ x10 K => cont_V K (fun H => ?_) (fun r HX => XR_nc rfl HX)))
  refine r_aload_n dX2_warm_17 rfl rfl ?_
  obtain ⟨k11, H⟩ := H
  refine r_getF fr_X2_209_3 (by decide) dX2_warm_18 k11 (by decide) ?_
  refine r_istore dX2_warm_21 (Nat.le_of_ble_eq_true rfl) rfl (slS (slS (slS (slS sl0)))) ?_
  refine r_iload dX2_warm_23 rfl ?_
  refine r_iload_n dX2_warm_25 rfl rfl ?_
  refine r_icmp_ne (tgt := 33) dX2_warm_26 rfl (fun b12 => ?_) (fun b12 => ?_)
  · replace H := H.1 b12
    refine r_iconst dX2_warm_33 rfl ?_
    exact R.forget (v_X2_warm_34 H) ⟨Or.inr rfl, ⟨Or.inr rfl, ⟨Or.inl rfl, ⟨Or.inl rfl, ⟨Or.inl rfl, trivial⟩⟩⟩⟩⟩
  · replace H := H.2 b12
    refine r_iconst dX2_warm_29 rfl ?_
    refine r_goto (tgt := 34) dX2_warm_30 rfl ?_
    exact R.forget (v_X2_warm_34 H) ⟨Or.inr rfl, ⟨Or.inr rfl, ⟨Or.inl rfl, ⟨Or.inl rfl, ⟨Or.inl rfl, trivial⟩⟩⟩⟩⟩
theorem c_X2_warm_0 {g : PG} {d : Nat} {l0 : Nat} {l1 : Int32} {l2 : Int32} {h : PH} {Q : Out → PH → Prop} (H : w_X2_warm_0 g d l0 l1 l2 h Q) : C g (d + 1) m_X2_warm [.ref l0, .int l1, .int l2] h Q := C_of_R rfl rfl (Nat.le_of_ble_eq_true rfl) rfl (v_X2_warm_0 H)
abbrev w_X2_plank_0 (g : PG) (d : Nat) (l0 : Nat) (l1 : Int32) (h : PH) (Q : Out → PH → Prop) : Prop := C g d m_X1_checkIndex [.int l1, .int 12] h (oV (fun h1 => hkd h1 l0 = 2 ∧ hkd h1 (hG h1 506 l0) / 100 = 7 ∧ vp_in l1 (hln h1 (hG h1 506 l0)) ∧ Q (.inl (some (.ref (hB h1 (hG h1 506 l0) l1.toNatClampNeg)))) h1) (fun r hx => Q (.inr r) hx))
theorem v_X2_plank_0 {g : PG} {d : Nat} {l0 : Nat} {l1 : Int32} {h : PH} {Q : Out → PH → Prop} (H : w_X2_plank_0 g d l0 l1 h Q) : R g d m_X2_plank 0 [.ref l0, .int l1] [] h Q := by
  refine r_iload_n dX2_plank_0 rfl rfl ?_
  refine r_bipush dX2_plank_1 rfl ?_
  refine r_invSN (y := m_X1_checkIndex) dX2_plank_3 rfl q2395 q2397 q107 q2396 py_X1_checkIndex (Nat.le_of_ble_eq_true rfl) (args := [_, _]) rfl rfl (Nat.le_of_ble_eq_true rfl) (C.monoE H (fun o h1 _ x3 K => cont_V K (fun H => ?_) (fun r HX => XR_nc rfl HX)))
  refine r_aload_n dX2_plank_6 rfl rfl ?_
  obtain ⟨k4, H⟩ := H
  refine r_getG fr_X2_11_2 (by decide) dX2_plank_7 k4 (by decide) ?_
  refine r_iload_n dX2_plank_10 rfl rfl ?_
  obtain ⟨k5, H⟩ := H
  obtain ⟨k6, H⟩ := H
  refine r_aald dX2_plank_11 (m := 7) (by decide) k5 k6 ?_
  exact r_aret dX2_plank_12 rfl H
theorem c_X2_plank_0 {g : PG} {d : Nat} {l0 : Nat} {l1 : Int32} {h : PH} {Q : Out → PH → Prop} (H : w_X2_plank_0 g d l0 l1 h Q) : C g (d + 1) m_X2_plank [.ref l0, .int l1] h Q := C_of_R rfl rfl (Nat.le_of_ble_eq_true rfl) rfl (v_X2_plank_0 H)
abbrev w_X2_passAll_14 (g : PG) (d : Nat) (l0 : Nat) (l1 : Int32) (l2 : Int32) (l3 : Int32) (h : PH) (Q : Out → PH → Prop) : Prop := ((l1 ≤ l3) → Q (.inl (some (.int l2))) h) ∧ ((¬ l1 ≤ l3) → hkd h l0 = 2 ∧ C g d m_X2_passOne [.ref l0] h (oI (fun v4 h3 => R g d m_X2_passAll 14 [.ref l0, .int l1, .int (l2 + v4), .int (l3 + 1)] [] h3 Q) (fun r hx => Q (.inr r) hx)))
theorem v_X2_passAll_14 {g : PG} {d : Nat} {l0 : Nat} {l1 : Int32} {l2 : Int32} {l3 : Int32} {h : PH} {Q : Out → PH → Prop} (H : w_X2_passAll_14 g d l0 l1 l2 l3 h Q) : R g d m_X2_passAll 14 [.ref l0, .int l1, .int l2, .int l3] [] h Q := by
  refine r_iload_n dX2_passAll_14 rfl rfl ?_
  refine r_iload_n dX2_passAll_15 rfl rfl ?_
  refine r_icmp_ge (tgt := 32) dX2_passAll_16 rfl (fun b1 => ?_) (fun b1 => ?_)
  · replace H := H.1 b1
    refine r_iload_n dX2_passAll_32 rfl rfl ?_
    exact r_iret dX2_passAll_33 rfl H
  · replace H := H.2 b1
    refine r_iload_n dX2_passAll_19 rfl rfl ?_
    refine r_aload_n dX2_passAll_20 rfl rfl ?_
    obtain ⟨k2, H⟩ := H
    refine r_invV (y := m_X2_passOne) dX2_passAll_21 rfl (lw_V q2569 q2570 q2571 q108 q2572) py_X2_passOne (Nat.le_of_ble_eq_true rfl) (args := []) rfl rfl (Nat.le_of_ble_eq_true rfl) k2 (by decide) rfl (C.monoE H (fun o h3 _ x5 K => cont_I K (fun v4 H => ?_) (fun r HX => XR_nc rfl HX)))
    refine r_iadd dX2_passAll_24 ?_
    refine r_istore_n dX2_passAll_25 rfl (Nat.le_of_ble_eq_true rfl) rfl (slS (slS sl0)) ?_
    refine r_iinc dX2_passAll_26 rfl rfl (Nat.le_of_ble_eq_true rfl) rfl (slS (slS (slS sl0))) ?_
    refine r_goto (tgt := 14) dX2_passAll_29 rfl ?_
    exact H
abbrev w_X2_passAll_0 (g : PG) (d : Nat) (l0 : Nat) (l1 : Int32) (h : PH) (Q : Out → PH → Prop) : Prop := C g d m_X1_inRange [.int l1, .int 1, .int 24] h (oI (fun v2 h1 => C g d m_X1_checkArgument [.int v2] h1 (oV (fun h4 => R g d m_X2_passAll 14 [.ref l0, .int l1, .int 0, .int 0] [] h4 Q) (fun r hx => Q (.inr r) hx))) (fun r hx => Q (.inr r) hx))
theorem v_X2_passAll_0 {g : PG} {d : Nat} {l0 : Nat} {l1 : Int32} {h : PH} {Q : Out → PH → Prop} (H : w_X2_passAll_0 g d l0 l1 h Q) : R g d m_X2_passAll 0 [.ref l0, .int l1, .null, .null] [] h Q := by
  refine r_iload_n dX2_passAll_0 rfl rfl ?_
  refine r_iconst dX2_passAll_1 rfl ?_
  refine r_bipush dX2_passAll_2 rfl ?_
  refine r_invSN (y := m_X1_inRange) dX2_passAll_4 rfl q2414 q1612 q107 q1611 py_X1_inRange (Nat.le_of_ble_eq_true rfl) (args := [_, _, _]) rfl rfl (Nat.le_of_ble_eq_true rfl) (C.monoE H (fun o h1 _ x3 K => cont_I K (fun v2 H => ?_) (fun r HX => XR_nc rfl HX)))
  refine r_invSN (y := m_X1_checkArgument) dX2_passAll_7 rfl q2415 q2408 q107 q2407 py_X1_checkArgument (Nat.le_of_ble_eq_true rfl) (args := [_]) rfl rfl (Nat.le_of_ble_eq_true rfl) (C.monoE H (fun o h4 _ x6 K => cont_V K (fun H => ?_) (fun r HX => XR_nc rfl HX)))
  refine r_iconst dX2_passAll_10 rfl ?_
  refine r_istore_n dX2_passAll_11 rfl (Nat.le_of_ble_eq_true rfl) rfl (slS (slS sl0)) ?_
  refine r_iconst dX2_passAll_12 rfl ?_
  refine r_istore_n dX2_passAll_13 rfl (Nat.le_of_ble_eq_true rfl) rfl (slS (slS (slS sl0))) ?_
  exact H
theorem c_X2_passAll_0 {g : PG} {d : Nat} {l0 : Nat} {l1 : Int32} {h : PH} {Q : Out → PH → Prop} (H : w_X2_passAll_0 g d l0 l1 h Q) : C g (d + 1) m_X2_passAll [.ref l0, .int l1] h Q := C_of_R rfl rfl (Nat.le_of_ble_eq_true rfl) rfl (v_X2_passAll_0 H)
abbrev w_X2_passOne_130 (g : PG) (d : Nat) (l0 : Nat) (l1 : Int32) (l2 : Int32) (l3 : Nat) (l4 : Int32) (l5 : Int32) (s0 : Nat) (s1 : Int32) (h : PH) (Q : Out → PH → Prop) : Prop := hkd h s0 = 3 ∧ ∀ h2, h2 = setF 4 s0 s1 h → R g d m_X2_passOne 84 [.ref l0, .int l1, .int l2, .ref l3, .int l4, .int (l5 + 1), .null] [] h2 Q
theorem v_X2_passOne_130 {g : PG} {d : Nat} {l0 : Nat} {l1 : Int32} {l2 : Int32} {l3 : Nat} {l4 : Int32} {l5 : Int32} {s0 : Nat} {s1 : Int32} {h : PH} {Q : Out → PH → Prop} (H : w_X2_passOne_130 g d l0 l1 l2 l3 l4 l5 s0 s1 h Q) : R g d m_X2_passOne 130 [.ref l0, .int l1, .int l2, .ref l3, .int l4, .int l5, .null] [.int s1, .ref s0] h Q := by
  obtain ⟨k1, H⟩ := H
  replace H := H _ rfl
  refine r_putF fw_X2_209_3 (by decide) dX2_passOne_130 k1 (by decide) rfl rfl ?_
  refine r_iinc dX2_passOne_133 rfl rfl (Nat.le_of_ble_eq_true rfl) rfl (slS (slS (slS (slS (slS sl0))))) ?_
  refine r_goto (tgt := 84) dX2_passOne_136 rfl ?_
  exact H
abbrev w_X2_passOne_84 (g : PG) (d : Nat) (l0 : Nat) (l1 : Int32) (l2 : Int32) (l3 : Nat) (l4 : Int32) (l5 : Int32) (h : PH) (Q : Out → PH → Prop) : Prop := ((l4 ≤ l5) → hkd h l0 = 2 ∧ ∀ h3, h3 = setF 1 l0 ((hF h 1 l0) + (1 : Int32)) h → Q (.inl (some (.int l1))) h3) ∧ ((¬ l4 ≤ l5) → hkd h l3 / 100 = 7 ∧ vp_in l5 (hln h l3) ∧ ((l2 = 0) → hkd h (hB h l3 l5.toNatClampNeg) = 3 ∧ w_X2_passOne_130 g d l0 l1 l2 l3 l4 l5 (hB h l3 l5.toNatClampNeg) (i32max (-5 : Int32) ((hF h 4 (hB h l3 l5.toNatClampNeg)) - (1 : Int32))) h Q) ∧ ((¬ l2 = 0) → hkd h (hB h l3 l5.toNatClampNeg) = 3 ∧ w_X2_passOne_130 g d l0 l1 l2 l3 l4 l5 (hB h l3 l5.toNatClampNeg) (i32min (9 : Int32) ((hF h 4 (hB h l3 l5.toNatClampNeg)) + (1 : Int32))) h Q))
theorem v_X2_passOne_84 {g : PG} {d : Nat} {l0 : Nat} {l1 : Int32} {l2 : Int32} {l3 : Nat} {l4 : Int32} {l5 : Int32} {h : PH} {Q : Out → PH → Prop} (H : w_X2_passOne_84 g d l0 l1 l2 l3 l4 l5 h Q) : R g d m_X2_passOne 84 [.ref l0, .int l1, .int l2, .ref l3, .int l4, .int l5, .null] [] h Q := by
  refine r_iload dX2_passOne_84 rfl ?_
  refine r_iload dX2_passOne_86 rfl ?_
  refine r_icmp_ge (tgt := 139) dX2_passOne_88 rfl (fun b1 => ?_) (fun b1 => ?_)
  · replace H := H.1 b1
    refine r_aload_n dX2_passOne_139 rfl rfl ?_
    refine r_dup dX2_passOne_140 rfl ?_
    obtain ⟨k2, H⟩ := H
    refine r_getF fr_X2_49_2 (by decide) dX2_passOne_141 k2 (by decide) ?_
    refine r_iconst dX2_passOne_144 rfl ?_
    refine r_iadd dX2_passOne_145 ?_
    replace H := H _ rfl
    refine r_putF fw_X2_49_2 (by decide) dX2_passOne_146 k2 (by decide) rfl rfl ?_
    refine r_iload_n dX2_passOne_149 rfl rfl ?_
    exact r_iret dX2_passOne_150 rfl H
  · replace H := H.2 b1
    refine r_aload_n dX2_passOne_91 rfl rfl ?_
    refine r_iload dX2_passOne_92 rfl ?_
    obtain ⟨k4, H⟩ := H
    obtain ⟨k5, H⟩ := H
    refine r_aald dX2_passOne_94 (m := 7) (by decide) k4 k5 ?_
    refine r_astore dX2_passOne_95 (Nat.le_of_ble_eq_true rfl) rfl (slS (slS (slS (slS (slS (slS sl0)))))) ?_
    refine r_aload dX2_passOne_97 rfl ?_
    refine r_iload_n dX2_passOne_99 rfl rfl ?_
    refine r_if_eq (tgt := 118) dX2_passOne_100 rfl (fun b6 => ?_) (fun b6 => ?_)
    · replace H := H.1 b6
      refine r_bipush dX2_passOne_118 rfl ?_
      refine r_aload dX2_passOne_120 rfl ?_
      obtain ⟨k7, H⟩ := H
      refine r_getF fr_X2_209_3 (by decide) dX2_passOne_122 k7 (by decide) ?_
      refine r_iconst dX2_passOne_125 rfl ?_
      refine r_isub dX2_passOne_126 ?_
      refine r_mmax dX2_passOne_127 q2482 q467 q134 q468 (Nat.le_of_ble_eq_true rfl) ?_
      exact R.forget (v_X2_passOne_130 H) ⟨Or.inl rfl, ⟨Or.inl rfl, ⟨Or.inl rfl, ⟨Or.inl rfl, ⟨Or.inl rfl, ⟨Or.inl rfl, ⟨Or.inr rfl, trivial⟩⟩⟩⟩⟩⟩⟩
    · replace H := H.2 b6
      refine r_bipush dX2_passOne_103 rfl ?_
      refine r_aload dX2_passOne_105 rfl ?_
      obtain ⟨k8, H⟩ := H
      refine r_getF fr_X2_209_3 (by decide) dX2_passOne_107 k8 (by decide) ?_
      refine r_iconst dX2_passOne_110 rfl ?_
      refine r_iadd dX2_passOne_111 ?_
      refine r_mmin dX2_passOne_112 q1305 q485 q134 q486 (Nat.le_of_ble_eq_true rfl) ?_
      refine r_goto (tgt := 130) dX2_passOne_115 rfl ?_
      exact R.forget (v_X2_passOne_130 H) ⟨Or.inl rfl, ⟨Or.inl rfl, ⟨Or.inl rfl, ⟨Or.inl rfl, ⟨Or.inl rfl, ⟨Or.inl rfl, ⟨Or.inr rfl, trivial⟩⟩⟩⟩⟩⟩⟩
abbrev w_X2_passOne_71 (g : PG) (d : Nat) (l0 : Nat) (l1 : Int32) (s0 : Int32) (h : PH) (Q : Out → PH → Prop) : Prop := hkd h l0 = 2 ∧ hkd h (hG h 506 l0) / 100 = 7 ∧ R g d m_X2_passOne 84 [.ref l0, .int l1, .int s0, .ref (hG h 506 l0), .int (nI (hln h (hG h 506 l0))), .int 0, .null] [] h Q
theorem v_X2_passOne_71 {g : PG} {d : Nat} {l0 : Nat} {l1 : Int32} {s0 : Int32} {h : PH} {Q : Out → PH → Prop} (H : w_X2_passOne_71 g d l0 l1 s0 h Q) : R g d m_X2_passOne 71 [.ref l0, .int l1, .null, .null, .null, .null, .null] [.int s0] h Q := by
  refine r_istore_n dX2_passOne_71 rfl (Nat.le_of_ble_eq_true rfl) rfl (slS (slS sl0)) ?_
  refine r_aload_n dX2_passOne_72 rfl rfl ?_
  obtain ⟨k1, H⟩ := H
  refine r_getG fr_X2_11_2 (by decide) dX2_passOne_73 k1 (by decide) ?_
  refine r_astore_n dX2_passOne_76 rfl (Nat.le_of_ble_eq_true rfl) rfl (slS (slS (slS sl0))) ?_
  refine r_aload_n dX2_passOne_77 rfl rfl ?_
  obtain ⟨k2, H⟩ := H
  refine r_alen (m := 7) dX2_passOne_78 (by decide) k2 ?_
  refine r_istore dX2_passOne_79 (Nat.le_of_ble_eq_true rfl) rfl (slS (slS (slS (slS sl0)))) ?_
  refine r_iconst dX2_passOne_81 rfl ?_
  refine r_istore dX2_passOne_82 (Nat.le_of_ble_eq_true rfl) rfl (slS (slS (slS (slS (slS sl0))))) ?_
  exact H
abbrev w_X2_passOne_51 (g : PG) (d : Nat) (l0 : Nat) (l1 : Int32) (l2 : Nat) (h : PH) (Q : Out → PH → Prop) : Prop := R g d m_X2_passOne 10 [.ref l0, .int l1, .ref l2, .null, .null, .null, .null] [] h Q
theorem v_X2_passOne_51 {g : PG} {d : Nat} {l0 : Nat} {l1 : Int32} {l2 : Nat} {h : PH} {Q : Out → PH → Prop} (H : w_X2_passOne_51 g d l0 l1 l2 h Q) : R g d m_X2_passOne 51 [.ref l0, .int l1, .ref l2, .null, .null, .null, .null] [] h Q := by
  refine r_goto (tgt := 10) dX2_passOne_51 rfl ?_
  exact H
abbrev w_X2_passOne_10 (g : PG) (d : Nat) (l0 : Nat) (l1 : Int32) (l2 : Nat) (h : PH) (Q : Out → PH → Prop) : Prop := hkd h l2 = 14 ∧ C g d m_J18_hasNext [.ref l2] h (oI (fun v3 h2 => ((v3 = 0) → hkd h2 l0 = 2 ∧ ((¬ (((hF h2 1 l0) / (6 : Int32)) - ((hF h2 1 l0) / (6 : Int32)) / (2 : Int32) * (2 : Int32)) = 0) → w_X2_passOne_71 g d l0 l1 (0 : Int32) h2 Q) ∧ (((((hF h2 1 l0) / (6 : Int32)) - ((hF h2 1 l0) / (6 : Int32)) / (2 : Int32) * (2 : Int32)) = 0) → w_X2_passOne_71 g d l0 l1 (1 : Int32) h2 Q)) ∧ ((¬ v3 = 0) → C g d m_J18_next [.ref l2] h2 (oR (fun v11 h10 => (v11 = 0 ∨ hkd h10 v11 = 4) ∧ hkd h10 v11 = 4 ∧ C g d m_X6_isGone [.ref v11] h10 (oI (fun v16 h15 => ((¬ v16 = 0) → w_X2_passOne_51 g d l0 l1 l2 h15 Q) ∧ ((v16 = 0) → hkd h15 l0 = 2 ∧ C g d m_X2_act [.ref l0, .ref v11] h15 (oV (fun h20 => C g d m_X6_isGone [.ref v11] h20 (oI (fun v24 h23 => C g d m_X1_number [.int v24] h23 (oI (fun v27 h26 => w_X2_passOne_51 g d l0 (l1 + v27) l2 h26 Q) (fun r hx => Q (.inr r) hx))) (fun r hx => Q (.inr r) hx))) (fun r hx => Q (.inr r) hx)))) (fun r hx => Q (.inr r) hx))) (fun r hx => Q (.inr r) hx)))) (fun r hx => Q (.inr r) hx))
theorem v_X2_passOne_10 {g : PG} {d : Nat} {l0 : Nat} {l1 : Int32} {l2 : Nat} {h : PH} {Q : Out → PH → Prop} (H : w_X2_passOne_10 g d l0 l1 l2 h Q) : R g d m_X2_passOne 10 [.ref l0, .int l1, .ref l2, .null, .null, .null, .null] [] h Q := by
  refine r_aload_n dX2_passOne_10 rfl rfl ?_
  obtain ⟨k1, H⟩ := H
  refine r_invF (y := m_J18_hasNext) (Cn := "java/util/ArrayList$Itr") (x := ⟨"java/util/Iterator", "hasNext", "()Z"⟩) dX2_passOne_11 rfl (lw_F q900 q925 q927 q130 q929) fw_t2 (n := 0) (by decide +kernel) (Nat.le_of_ble_eq_true rfl) (args := []) rfl rfl (Nat.le_of_ble_eq_true rfl) k1 (by decide) rfl (C.monoE H (fun o h2 _ x4 K => cont_I K (fun v3 H => ?_) (fun r HX => XR_nc rfl HX)))
  refine r_if_eq (tgt := 54) dX2_passOne_16 rfl (fun b5 => ?_) (fun b5 => ?_)
  · replace H := H.1 b5
    refine r_aload_n dX2_passOne_54 rfl rfl ?_
    obtain ⟨k6, H⟩ := H
    refine r_getF fr_X2_49_2 (by decide) dX2_passOne_55 k6 (by decide) ?_
    refine r_bipush dX2_passOne_58 rfl ?_
    refine r_idiv dX2_passOne_60 (by decide) ?_
    refine r_iconst dX2_passOne_61 rfl ?_
    refine r_irem dX2_passOne_62 (by decide) ?_
    refine r_if_ne (tgt := 70) dX2_passOne_63 rfl (fun b9 => ?_) (fun b9 => ?_)
    · replace H := H.1 b9
      refine r_iconst dX2_passOne_70 rfl ?_
      exact R.forget (v_X2_passOne_71 H) ⟨Or.inl rfl, ⟨Or.inl rfl, ⟨Or.inr rfl, ⟨Or.inl rfl, ⟨Or.inl rfl, ⟨Or.inl rfl, ⟨Or.inl rfl, trivial⟩⟩⟩⟩⟩⟩⟩
    · replace H := H.2 b9
      refine r_iconst dX2_passOne_66 rfl ?_
      refine r_goto (tgt := 71) dX2_passOne_67 rfl ?_
      exact R.forget (v_X2_passOne_71 H) ⟨Or.inl rfl, ⟨Or.inl rfl, ⟨Or.inr rfl, ⟨Or.inl rfl, ⟨Or.inl rfl, ⟨Or.inl rfl, ⟨Or.inl rfl, trivial⟩⟩⟩⟩⟩⟩⟩
  · replace H := H.2 b5
    refine r_aload_n dX2_passOne_19 rfl rfl ?_
    refine r_invF (y := m_J18_next) (Cn := "java/util/ArrayList$Itr") (x := ⟨"java/util/Iterator", "next", "()Ljava/lang/Object;"⟩) dX2_passOne_20 rfl (lw_F q962 q1167 q1169 q130 q1171) fw_t7 (n := 0) (by decide +kernel) (Nat.le_of_ble_eq_true rfl) (args := []) rfl rfl (Nat.le_of_ble_eq_true rfl) (x4.kd k1 (by decide)) (by decide) rfl (C.monoE H (fun o h10 _ x12 K => cont_R K (fun v11 H => ?_) (fun r HX => XR_nc rfl HX)))
    obtain ⟨k13, H⟩ := H
    refine r_castO (kv := 4) dX2_passOne_25 q1638 (by decide) (Or.inr rfl) k13 ?_
    refine r_astore_n dX2_passOne_28 rfl (Nat.le_of_ble_eq_true rfl) rfl (slS (slS (slS sl0))) ?_
    refine r_aload_n dX2_passOne_29 rfl rfl ?_
    obtain ⟨k14, H⟩ := H
    refine r_invV (y := m_X6_isGone) dX2_passOne_30 rfl (lw_V q2473 q2474 q2475 q142 q2476) py_X6_isGone (Nat.le_of_ble_eq_true rfl) (args := []) rfl rfl (Nat.le_of_ble_eq_true rfl) k14 (by decide) rfl (C.monoE H (fun o h15 _ x17 K => cont_I K (fun v16 H => ?_) (fun r HX => XR_nc rfl HX)))
    refine r_if_ne (tgt := 51) dX2_passOne_33 rfl (fun b18 => ?_) (fun b18 => ?_)
    · replace H := H.1 b18
      exact R.forget (v_X2_passOne_51 H) ⟨Or.inl rfl, ⟨Or.inl rfl, ⟨Or.inl rfl, ⟨Or.inr rfl, ⟨Or.inl rfl, ⟨Or.inl rfl, ⟨Or.inl rfl, trivial⟩⟩⟩⟩⟩⟩⟩
    · replace H := H.2 b18
      refine r_aload_n dX2_passOne_36 rfl rfl ?_
      refine r_aload_n dX2_passOne_37 rfl rfl ?_
      obtain ⟨k19, H⟩ := H
      refine r_invV (y := m_X2_act) dX2_passOne_38 rfl (lw_V q2477 q2479 qp33 q108 q2480) py_X2_act (Nat.le_of_ble_eq_true rfl) (args := [_]) rfl rfl (Nat.le_of_ble_eq_true rfl) k19 (by decide) rfl (C.monoE H (fun o h20 _ x22 K => cont_V K (fun H => ?_) (fun r HX => XR_nc rfl HX)))
      refine r_iload_n dX2_passOne_41 rfl rfl ?_
      refine r_aload_n dX2_passOne_42 rfl rfl ?_
      refine r_invV (y := m_X6_isGone) dX2_passOne_43 rfl (lw_V q2473 q2474 q2475 q142 q2476) py_X6_isGone (Nat.le_of_ble_eq_true rfl) (args := []) rfl rfl (Nat.le_of_ble_eq_true rfl) (x22.kd (x17.kd k14 (by decide)) (by decide)) (by decide) rfl (C.monoE H (fun o h23 _ x25 K => cont_I K (fun v24 H => ?_) (fun r HX => XR_nc rfl HX)))
      refine r_invSN (y := m_X1_number) dX2_passOne_46 rfl q1533 q1535 q107 q1534 py_X1_number (Nat.le_of_ble_eq_true rfl) (args := [_]) rfl rfl (Nat.le_of_ble_eq_true rfl) (C.monoE H (fun o h26 _ x28 K => cont_I K (fun v27 H => ?_) (fun r HX => XR_nc rfl HX)))
      refine r_iadd dX2_passOne_49 ?_
      refine r_istore_n dX2_passOne_50 rfl (Nat.le_of_ble_eq_true rfl) rfl (slS sl0) ?_
      exact R.forget (v_X2_passOne_51 H) ⟨Or.inl rfl, ⟨Or.inl rfl, ⟨Or.inl rfl, ⟨Or.inr rfl, ⟨Or.inl rfl, ⟨Or.inl rfl, ⟨Or.inl rfl, trivial⟩⟩⟩⟩⟩⟩⟩
abbrev w_X2_passOne_0 (g : PG) (d : Nat) (l0 : Nat) (h : PH) (Q : Out → PH → Prop) : Prop := hkd h l0 = 2 ∧ hkd h (hG h 507 l0) = 13 ∧ C g d m_J2_iterator [.ref (hG h 507 l0)] h (oR (fun v4 h3 => R g d m_X2_passOne 10 [.ref l0, .int 0, .ref v4, .null, .null, .null, .null] [] h3 Q) (fun r hx => Q (.inr r) hx))
theorem v_X2_passOne_0 {g : PG} {d : Nat} {l0 : Nat} {h : PH} {Q : Out → PH → Prop} (H : w_X2_passOne_0 g d l0 h Q) : R g d m_X2_passOne 0 [.ref l0, .null, .null, .null, .null, .null, .null] [] h Q := by
  refine r_iconst dX2_passOne_0 rfl ?_
  refine r_istore_n dX2_passOne_1 rfl (Nat.le_of_ble_eq_true rfl) rfl (slS sl0) ?_
  refine r_aload_n dX2_passOne_2 rfl rfl ?_
  obtain ⟨k1, H⟩ := H
  refine r_getG fr_X2_20_2 (by decide) dX2_passOne_3 k1 (by decide) ?_
  obtain ⟨k2, H⟩ := H
  refine r_invV (y := m_J2_iterator) dX2_passOne_6 rfl (lw_V q2070 q1552 q1553 q111 q1554) py_J2_iterator (Nat.le_of_ble_eq_true rfl) (args := []) rfl rfl (Nat.le_of_ble_eq_true rfl) k2 (by decide) rfl (C.monoE H (fun o h3 _ x5 K => cont_R K (fun v4 H => ?_) (fun r HX => XR_nc rfl HX)))
  refine r_astore_n dX2_passOne_9 rfl (Nat.le_of_ble_eq_true rfl) rfl (slS (slS sl0)) ?_
  exact H
theorem c_X2_passOne_0 {g : PG} {d : Nat} {l0 : Nat} {h : PH} {Q : Out → PH → Prop} (H : w_X2_passOne_0 g d l0 h Q) : C g (d + 1) m_X2_passOne [.ref l0] h Q := C_of_R rfl rfl (Nat.le_of_ble_eq_true rfl) rfl (v_X2_passOne_0 H)
abbrev w_X2_snowman_0 (g : PG) (d : Nat) (l0 : Nat) (l1 : Int32) (h : PH) (Q : Out → PH → Prop) : Prop := hkd h l0 = 2 ∧ hkd h (hG h 507 l0) = 13 ∧ C g d m_J2_size [.ref (hG h 507 l0)] h (oI (fun v4 h3 => C g d m_X1_checkIndex [.int l1, .int v4] h3 (oV (fun h6 => hkd h6 (hG h6 507 l0) = 13 ∧ C g d m_J2_get [.ref (hG h6 507 l0), .int l1] h6 (oR (fun v11 h10 => (v11 = 0 ∨ hkd h10 v11 = 4) ∧ Q (.inl (some (.ref v11))) h10) (fun r hx => Q (.inr r) hx))) (fun r hx => Q (.inr r) hx))) (fun r hx => Q (.inr r) hx))
theorem v_X2_snowman_0 {g : PG} {d : Nat} {l0 : Nat} {l1 : Int32} {h : PH} {Q : Out → PH → Prop} (H : w_X2_snowman_0 g d l0 l1 h Q) : R g d m_X2_snowman 0 [.ref l0, .int l1] [] h Q := by
  refine r_iload_n dX2_snowman_0 rfl rfl ?_
  refine r_aload_n dX2_snowman_1 rfl rfl ?_
  obtain ⟨k1, H⟩ := H
  refine r_getG fr_X2_20_2 (by decide) dX2_snowman_2 k1 (by decide) ?_
  obtain ⟨k2, H⟩ := H
  refine r_invV (y := m_J2_size) dX2_snowman_5 rfl (lw_V q2416 q913 q3681 q111 q914) py_J2_size (Nat.le_of_ble_eq_true rfl) (args := []) rfl rfl (Nat.le_of_ble_eq_true rfl) k2 (by decide) rfl (C.monoE H (fun o h3 _ x5 K => cont_I K (fun v4 H => ?_) (fun r HX => XR_nc rfl HX)))
  refine r_invSN (y := m_X1_checkIndex) dX2_snowman_8 rfl q2395 q2397 q107 q2396 py_X1_checkIndex (Nat.le_of_ble_eq_true rfl) (args := [_, _]) rfl rfl (Nat.le_of_ble_eq_true rfl) (C.monoE H (fun o h6 _ x8 K => cont_V K (fun H => ?_) (fun r HX => XR_nc rfl HX)))
  refine r_aload_n dX2_snowman_11 rfl rfl ?_
  refine r_getG fr_X2_20_2 (by decide) dX2_snowman_12 (x8.kd (x5.kd k1 (by decide)) (by decide)) (by decide) ?_
  refine r_iload_n dX2_snowman_15 rfl rfl ?_
  obtain ⟨k9, H⟩ := H
  refine r_invV (y := m_J2_get) dX2_snowman_16 rfl (lw_V q1637 q979 q3682 q111 q980) py_J2_get (Nat.le_of_ble_eq_true rfl) (args := [_]) rfl rfl (Nat.le_of_ble_eq_true rfl) k9 (by decide) rfl (C.monoE H (fun o h10 _ x12 K => cont_R K (fun v11 H => ?_) (fun r HX => XR_nc rfl HX)))
  obtain ⟨k13, H⟩ := H
  refine r_castO (kv := 4) dX2_snowman_19 q1638 (by decide) (Or.inr rfl) k13 ?_
  exact r_aret dX2_snowman_22 rfl H
theorem c_X2_snowman_0 {g : PG} {d : Nat} {l0 : Nat} {l1 : Int32} {h : PH} {Q : Out → PH → Prop} (H : w_X2_snowman_0 g d l0 l1 h Q) : C g (d + 1) m_X2_snowman [.ref l0, .int l1] h Q := C_of_R rfl rfl (Nat.le_of_ble_eq_true rfl) rfl (v_X2_snowman_0 H)
abbrev w_X3_init_0 (g : PG) (d : Nat) (l0 : Nat) (h : PH) (Q : Out → PH → Prop) : Prop := 0 < l0 ∧ hkd h l0 = 3 ∧ ∀ h3, h3 = setF 4 l0 (1 : Int32) h → Q (.inl none) h3
theorem v_X3_init_0 {g : PG} {d : Nat} {l0 : Nat} {h : PH} {Q : Out → PH → Prop} (H : w_X3_init_0 g d l0 h Q) : R g d m_X3_init 0 [.ref l0] [] h Q := by
  refine r_aload_n dX3_init_0 rfl rfl ?_
  obtain ⟨k1, H⟩ := H
  refine r_oinit dX3_init_1 q288 q182 q183 k1 (Nat.le_of_ble_eq_true rfl) ?_
  refine r_aload_n dX3_init_4 rfl rfl ?_
  refine r_iconst dX3_init_5 rfl ?_
  obtain ⟨k2, H⟩ := H
  replace H := H _ rfl
  refine r_putF fw_X3_9_3_i (by decide) dX3_init_6 k2 (by decide) rfl rfl ?_
  exact r_vret dX3_init_9 rfl H
theorem c_X3_init_0 {g : PG} {d : Nat} {l0 : Nat} {h : PH} {Q : Out → PH → Prop} (H : w_X3_init_0 g d l0 h Q) : C g (d + 1) m_X3_init [.ref l0] h Q := C_of_R rfl rfl (Nat.le_of_ble_eq_true rfl) rfl (v_X3_init_0 H)
abbrev w_X3_behind_0 (g : PG) (d : Nat) (l0 : Nat) (l1 : Int32) (h : PH) (Q : Out → PH → Prop) : Prop := ((¬ l1 = 0) → hkd h l0 = 3 ∧ C g d m_X3_melts [.ref l0, .int l1] h (oI (fun v4 h3 => Q (.inl (some (.int (l1 - v4)))) h3) (fun r hx => Q (.inr r) hx))) ∧ ((l1 = 0) → Q (.inl (some (.int 0))) h)
theorem v_X3_behind_0 {g : PG} {d : Nat} {l0 : Nat} {l1 : Int32} {h : PH} {Q : Out → PH → Prop} (H : w_X3_behind_0 g d l0 l1 h Q) : R g d m_X3_behind 0 [.ref l0, .int l1] [] h Q := by
  refine r_iload_n dX3_behind_0 rfl rfl ?_
  refine r_if_ne (tgt := 8) dX3_behind_1 rfl (fun b1 => ?_) (fun b1 => ?_)
  · replace H := H.1 b1
    refine r_iload_n dX3_behind_8 rfl rfl ?_
    refine r_aload_n dX3_behind_9 rfl rfl ?_
    refine r_iload_n dX3_behind_10 rfl rfl ?_
    obtain ⟨k2, H⟩ := H
    refine r_invV (y := m_X3_melts) dX3_behind_11 rfl (lw_V q1314 q1315 q1316 q116 q1317) py_X3_melts (Nat.le_of_ble_eq_true rfl) (args := [_]) rfl rfl (Nat.le_of_ble_eq_true rfl) k2 (by decide) rfl (C.monoE H (fun o h3 _ x5 K => cont_I K (fun v4 H => ?_) (fun r HX => XR_nc rfl HX)))
    refine r_isub dX3_behind_14 ?_
    exact r_iret dX3_behind_15 rfl H
  · replace H := H.2 b1
    refine r_iconst dX3_behind_4 rfl ?_
    refine r_goto (tgt := 15) dX3_behind_5 rfl ?_
    exact r_iret dX3_behind_15 rfl H
theorem c_X3_behind_0 {g : PG} {d : Nat} {l0 : Nat} {l1 : Int32} {h : PH} {Q : Out → PH → Prop} (H : w_X3_behind_0 g d l0 l1 h Q) : C g (d + 1) m_X3_behind [.ref l0, .int l1] h Q := C_of_R rfl rfl (Nat.le_of_ble_eq_true rfl) rfl (v_X3_behind_0 H)
abbrev w_X3_melts_0 (g : PG) (d : Nat) (l0 : Nat) (l1 : Int32) (h : PH) (Q : Out → PH → Prop) : Prop := hkd h l0 = 3 ∧ (((hF h 4 l0) ≤ 0) → Q (.inl (some (.int (-(i32min (i32min (-(hF h 4 l0)) (hF h 5 l0)) ((60 : Int32) - l1)))))) h) ∧ ((¬ (hF h 4 l0) ≤ 0) → Q (.inl (some (.int (i32min (hF h 4 l0) l1)))) h)
theorem v_X3_melts_0 {g : PG} {d : Nat} {l0 : Nat} {l1 : Int32} {h : PH} {Q : Out → PH → Prop} (H : w_X3_melts_0 g d l0 l1 h Q) : R g d m_X3_melts 0 [.ref l0, .int l1] [] h Q := by
  refine r_aload_n dX3_melts_0 rfl rfl ?_
  obtain ⟨k1, H⟩ := H
  refine r_getF fr_X3_9_3 (by decide) dX3_melts_1 k1 (by decide) ?_
  refine r_if_le (tgt := 18) dX3_melts_4 rfl (fun b2 => ?_) (fun b2 => ?_)
  · replace H := H.1 b2
    refine r_aload_n dX3_melts_18 rfl rfl ?_
    refine r_getF fr_X3_9_3 (by decide) dX3_melts_19 k1 (by decide) ?_
    refine r_ineg dX3_melts_22 ?_
    refine r_aload_n dX3_melts_23 rfl rfl ?_
    refine r_getF fr_X3_15_3 (by decide) dX3_melts_24 k1 (by decide) ?_
    refine r_mmin dX3_melts_27 q1318 q485 q134 q486 (Nat.le_of_ble_eq_true rfl) ?_
    refine r_bipush dX3_melts_30 rfl ?_
    refine r_iload_n dX3_melts_32 rfl rfl ?_
    refine r_isub dX3_melts_33 ?_
    refine r_mmin dX3_melts_34 q1318 q485 q134 q486 (Nat.le_of_ble_eq_true rfl) ?_
    refine r_ineg dX3_melts_37 ?_
    exact r_iret dX3_melts_38 rfl H
  · replace H := H.2 b2
    refine r_aload_n dX3_melts_7 rfl rfl ?_
    refine r_getF fr_X3_9_3 (by decide) dX3_melts_8 k1 (by decide) ?_
    refine r_iload_n dX3_melts_11 rfl rfl ?_
    refine r_mmin dX3_melts_12 q1318 q485 q134 q486 (Nat.le_of_ble_eq_true rfl) ?_
    refine r_goto (tgt := 38) dX3_melts_15 rfl ?_
    exact r_iret dX3_melts_38 rfl H
theorem c_X3_melts_0 {g : PG} {d : Nat} {l0 : Nat} {l1 : Int32} {h : PH} {Q : Out → PH → Prop} (H : w_X3_melts_0 g d l0 l1 h Q) : C g (d + 1) m_X3_melts [.ref l0, .int l1] h Q := C_of_R rfl rfl (Nat.le_of_ble_eq_true rfl) rfl (v_X3_melts_0 H)
abbrev w_X3_init_2_0 (g : PG) (d : Nat) (l0 : Nat) (l1 : Nat) (h : PH) (Q : Out → PH → Prop) : Prop := 0 < l0 ∧ hkd h l0 = 3 ∧ ∀ h3, h3 = setF 4 l0 (1 : Int32) h → hkd h3 l1 = 3 ∧ ∀ h5, h5 = setF 4 l0 (hF h3 4 l1) h3 → ∀ h6, h6 = setF 5 l0 (hF h5 5 l1) h5 → ∀ h7, h7 = setF 6 l0 (hF h6 6 l1) h6 → Q (.inl none) h7
theorem v_X3_init_2_0 {g : PG} {d : Nat} {l0 : Nat} {l1 : Nat} {h : PH} {Q : Out → PH → Prop} (H : w_X3_init_2_0 g d l0 l1 h Q) : R g d m_X3_init_2 0 [.ref l0, .ref l1] [] h Q := by
  refine r_aload_n dX3_init_2_0 rfl rfl ?_
  obtain ⟨k1, H⟩ := H
  refine r_oinit dX3_init_2_1 q288 q182 q183 k1 (Nat.le_of_ble_eq_true rfl) ?_
  refine r_aload_n dX3_init_2_4 rfl rfl ?_
  refine r_iconst dX3_init_2_5 rfl ?_
  obtain ⟨k2, H⟩ := H
  replace H := H _ rfl
  refine r_putF fw_X3_9_3_i (by decide) dX3_init_2_6 k2 (by decide) rfl rfl ?_
  refine r_aload_n dX3_init_2_9 rfl rfl ?_
  refine r_aload_n dX3_init_2_10 rfl rfl ?_
  obtain ⟨k4, H⟩ := H
  refine r_getF fr_X3_9_3 (by decide) dX3_init_2_11 k4 (by decide) ?_
  replace H := H _ rfl
  refine r_putF fw_X3_9_3_i (by decide) dX3_init_2_14 k2 (by decide) rfl rfl ?_
  refine r_aload_n dX3_init_2_17 rfl rfl ?_
  refine r_aload_n dX3_init_2_18 rfl rfl ?_
  refine r_getF fr_X3_15_3 (by decide) dX3_init_2_19 k4 (by decide) ?_
  replace H := H _ rfl
  refine r_putF fw_X3_15_3_i (by decide) dX3_init_2_22 k2 (by decide) rfl rfl ?_
  refine r_aload_n dX3_init_2_25 rfl rfl ?_
  refine r_aload_n dX3_init_2_26 rfl rfl ?_
  refine r_getF fr_X3_18_3 (by decide) dX3_init_2_27 k4 (by decide) ?_
  replace H := H _ rfl
  refine r_putF fw_X3_18_3_i (by decide) dX3_init_2_30 k2 (by decide) rfl rfl ?_
  exact r_vret dX3_init_2_33 rfl H
theorem c_X3_init_2_0 {g : PG} {d : Nat} {l0 : Nat} {l1 : Nat} {h : PH} {Q : Out → PH → Prop} (H : w_X3_init_2_0 g d l0 l1 h Q) : C g (d + 1) m_X3_init_2 [.ref l0, .ref l1] h Q := C_of_R rfl rfl (Nat.le_of_ble_eq_true rfl) rfl (v_X3_init_2_0 H)
abbrev w_X5_init_0 (g : PG) (d : Nat) (l0 : Nat) (l1 : Nat) (l2 : Int32) (l3 : Int32) (l4 : Int32) (h : PH) (Q : Out → PH → Prop) : Prop := 0 < l0 ∧ C g d m_J17_init [.ref l0] h (oV (fun h2 => hkd h2 l0 = 6 ∧ ∀ h6, h6 = setG 513 l0 l1 h2 → ∀ h7, h7 = setF 19 l0 l2 h6 → ∀ h8, h8 = setF 20 l0 l3 h7 → ∀ h9, h9 = setF 21 l0 l4 h8 → Q (.inl none) h9) (fun r hx => Q (.inr r) hx))
theorem v_X5_init_0 {g : PG} {d : Nat} {l0 : Nat} {l1 : Nat} {l2 : Int32} {l3 : Int32} {l4 : Int32} {h : PH} {Q : Out → PH → Prop} (H : w_X5_init_0 g d l0 l1 l2 l3 l4 h Q) : R g d m_X5_init 0 [.ref l0, .ref l1, .int l2, .int l3, .int l4] [] h Q := by
  refine r_aload_n dX5_init_0 rfl rfl ?_
  obtain ⟨k1, H⟩ := H
  refine r_invI (y := m_J17_init) dX5_init_1 rfl rfl q2300 q128 q2298 q2299 rfl py_J17_init (Nat.le_of_ble_eq_true rfl) (args := []) rfl rfl (Nat.le_of_ble_eq_true rfl) k1 (C.monoE H (fun o h2 _ x4 K => cont_V K (fun H => ?_) (fun r HX => XR_nc rfl HX)))
  refine r_aload_n dX5_init_4 rfl rfl ?_
  refine r_aload_n dX5_init_5 rfl rfl ?_
  obtain ⟨k5, H⟩ := H
  replace H := H _ rfl
  refine r_putG fw_X5_9_6_i (by decide) dX5_init_6 k5 (by decide) rfl ?_
  refine r_aload_n dX5_init_9 rfl rfl ?_
  refine r_iload_n dX5_init_10 rfl rfl ?_
  replace H := H _ rfl
  refine r_putF fw_X5_15_6_i (by decide) dX5_init_11 k5 (by decide) rfl rfl ?_
  refine r_aload_n dX5_init_14 rfl rfl ?_
  refine r_iload_n dX5_init_15 rfl rfl ?_
  replace H := H _ rfl
  refine r_putF fw_X5_19_6_i (by decide) dX5_init_16 k5 (by decide) rfl rfl ?_
  refine r_aload_n dX5_init_19 rfl rfl ?_
  refine r_iload dX5_init_20 rfl ?_
  replace H := H _ rfl
  refine r_putF fw_X5_22_6_i (by decide) dX5_init_22 k5 (by decide) rfl rfl ?_
  exact r_vret dX5_init_25 rfl H
theorem c_X5_init_0 {g : PG} {d : Nat} {l0 : Nat} {l1 : Nat} {l2 : Int32} {l3 : Int32} {l4 : Int32} {h : PH} {Q : Out → PH → Prop} (H : w_X5_init_0 g d l0 l1 l2 l3 l4 h Q) : C g (d + 1) m_X5_init [.ref l0, .ref l1, .int l2, .int l3, .int l4] h Q := C_of_R rfl rfl (Nat.le_of_ble_eq_true rfl) rfl (v_X5_init_0 H)
abbrev w_X5_carryOut_127 (g : PG) (d : Nat) (l0 : Nat) (l1 : Nat) (l3 : Int32) (h : PH) (Q : Out → PH → Prop) : Prop := (l3 = 0 → hkd h l0 = 6 ∧ hkd h l1 = 2 ∧ C g d m_X2_come [.ref l1, .int (hF h 19 l0), .int (hF h 20 l0), .int (hF h 21 l0)] h (oI (fun v5 h4 => Q (.inl (some (.int v5))) h4) (fun r hx => Q (.inr r) hx))) ∧ (l3 = 1 → hkd h l0 = 6 ∧ hkd h l1 = 2 ∧ C g d m_X2_run [.ref l1, .int (hF h 19 l0), .int (hF h 20 l0)] h (oI (fun v11 h10 => Q (.inl (some (.int v11))) h10) (fun r hx => Q (.inr r) hx))) ∧ (l3 = 2 → hkd h l0 = 6 ∧ hkd h l1 = 2 ∧ C g d m_X2_pass [.ref l1, .int (hF h 19 l0), .int (hF h 20 l0)] h (oI (fun v17 h16 => Q (.inl (some (.int v17))) h16) (fun r hx => Q (.inr r) hx))) ∧ (l3 = 3 → hkd h l0 = 6 ∧ hkd h l1 = 2 ∧ C g d m_X2_pick [.ref l1, .int (hF h 19 l0)] h (oI (fun v23 h22 => Q (.inl (some (.int v23))) h22) (fun r hx => Q (.inr r) hx))) ∧ (l3 = 4 → hkd h l0 = 6 ∧ hkd h l1 = 2 ∧ C g d m_X2_warm [.ref l1, .int (hF h 19 l0), .int (hF h 20 l0)] h (oI (fun v29 h28 => Q (.inl (some (.int v29))) h28) (fun r hx => Q (.inr r) hx))) ∧ (¬ l3 = 0 → ¬ l3 = 1 → ¬ l3 = 2 → ¬ l3 = 3 → ¬ l3 = 4 → hkd h l0 = 6 ∧ hkd h l1 = 2 ∧ C g d m_X2_passAll [.ref l1, .int (hF h 19 l0)] h (oI (fun v34 h33 => Q (.inl (some (.int v34))) h33) (fun r hx => Q (.inr r) hx)))
theorem v_X5_carryOut_127 {g : PG} {d : Nat} {l0 : Nat} {l1 : Nat} {l3 : Int32} {h : PH} {Q : Out → PH → Prop} (H : w_X5_carryOut_127 g d l0 l1 l3 h Q) : R g d m_X5_carryOut 127 [.ref l0, .ref l1, .null, .int l3] [] h Q := by
  refine r_iload_n dX5_carryOut_127 rfl rfl ?_
  refine R.tri (k9 := 0) (fun b1 => ?_) (fun b1 => ?_)
  · replace H := H.1 b1
    refine r_tableIn (tgt := 164) dX5_carryOut_128 (by rw [b1]; decide) (by rw [b1]; decide) (by rw [b1]; first | done | rfl) rfl ?_
    refine r_aload_n dX5_carryOut_164 rfl rfl ?_
    refine r_aload_n dX5_carryOut_165 rfl rfl ?_
    obtain ⟨k2, H⟩ := H
    refine r_getF fr_X5_15_6 (by decide) dX5_carryOut_166 k2 (by decide) ?_
    refine r_aload_n dX5_carryOut_169 rfl rfl ?_
    refine r_getF fr_X5_19_6 (by decide) dX5_carryOut_170 k2 (by decide) ?_
    refine r_aload_n dX5_carryOut_173 rfl rfl ?_
    refine r_getF fr_X5_22_6 (by decide) dX5_carryOut_174 k2 (by decide) ?_
    obtain ⟨k3, H⟩ := H
    refine r_invV (y := m_X2_come) dX5_carryOut_177 rfl (lw_V q2391 q2392 q2393 q108 q2394) py_X2_come (Nat.le_of_ble_eq_true rfl) (args := [_, _, _]) rfl rfl (Nat.le_of_ble_eq_true rfl) k3 (by decide) rfl (C.monoE H (fun o h4 _ x6 K => cont_I K (fun v5 H => ?_) (fun r HX => XR_nc rfl HX)))
    refine r_goto (tgt := 247) dX5_carryOut_180 rfl ?_
    exact r_iret dX5_carryOut_247 rfl H
  replace H := H.2
  refine R.tri (k9 := 1) (fun b7 => ?_) (fun b7 => ?_)
  · replace H := H.1 b7
    refine r_tableIn (tgt := 183) dX5_carryOut_128 (by rw [b7]; decide) (by rw [b7]; decide) (by rw [b7]; first | done | rfl) rfl ?_
    refine r_aload_n dX5_carryOut_183 rfl rfl ?_
    refine r_aload_n dX5_carryOut_184 rfl rfl ?_
    obtain ⟨k8, H⟩ := H
    refine r_getF fr_X5_15_6 (by decide) dX5_carryOut_185 k8 (by decide) ?_
    refine r_aload_n dX5_carryOut_188 rfl rfl ?_
    refine r_getF fr_X5_19_6 (by decide) dX5_carryOut_189 k8 (by decide) ?_
    obtain ⟨k9, H⟩ := H
    refine r_invVW (y := m_X2_run) dX5_carryOut_192 (fun h => by cases h) (lw_VW q2451 q2452 q2453 q108 q2454) py_X2_run (Nat.le_of_ble_eq_true rfl) (args := [_, _]) rfl rfl (Nat.le_of_ble_eq_true rfl) k9 (by decide) rfl (C.monoE H (fun o h10 _ x12 K => cont_I K (fun v11 H => ?_) (fun r HX => XR_nc rfl HX)))
    refine r_goto (tgt := 247) dX5_carryOut_195 rfl ?_
    exact r_iret dX5_carryOut_247 rfl H
  replace H := H.2
  refine R.tri (k9 := 2) (fun b13 => ?_) (fun b13 => ?_)
  · replace H := H.1 b13
    refine r_tableIn (tgt := 198) dX5_carryOut_128 (by rw [b13]; decide) (by rw [b13]; decide) (by rw [b13]; first | done | rfl) rfl ?_
    refine r_aload_n dX5_carryOut_198 rfl rfl ?_
    refine r_aload_n dX5_carryOut_199 rfl rfl ?_
    obtain ⟨k14, H⟩ := H
    refine r_getF fr_X5_15_6 (by decide) dX5_carryOut_200 k14 (by decide) ?_
    refine r_aload_n dX5_carryOut_203 rfl rfl ?_
    refine r_getF fr_X5_19_6 (by decide) dX5_carryOut_204 k14 (by decide) ?_
    obtain ⟨k15, H⟩ := H
    refine r_invVW (y := m_X2_pass) dX5_carryOut_207 (fun h => by cases h) (lw_VW q2525 q2526 q2527 q108 q2528) py_X2_pass (Nat.le_of_ble_eq_true rfl) (args := [_, _]) rfl rfl (Nat.le_of_ble_eq_true rfl) k15 (by decide) rfl (C.monoE H (fun o h16 _ x18 K => cont_I K (fun v17 H => ?_) (fun r HX => XR_nc rfl HX)))
    refine r_goto (tgt := 247) dX5_carryOut_210 rfl ?_
    exact r_iret dX5_carryOut_247 rfl H
  replace H := H.2
  refine R.tri (k9 := 3) (fun b19 => ?_) (fun b19 => ?_)
  · replace H := H.1 b19
    refine r_tableIn (tgt := 213) dX5_carryOut_128 (by rw [b19]; decide) (by rw [b19]; decide) (by rw [b19]; first | done | rfl) rfl ?_
    refine r_aload_n dX5_carryOut_213 rfl rfl ?_
    refine r_aload_n dX5_carryOut_214 rfl rfl ?_
    obtain ⟨k20, H⟩ := H
    refine r_getF fr_X5_15_6 (by decide) dX5_carryOut_215 k20 (by decide) ?_
    obtain ⟨k21, H⟩ := H
    refine r_invVW (y := m_X2_pick) dX5_carryOut_218 (fun h => by cases h) (lw_VW q2536 q2537 q2538 q108 q2539) py_X2_pick (Nat.le_of_ble_eq_true rfl) (args := [_]) rfl rfl (Nat.le_of_ble_eq_true rfl) k21 (by decide) rfl (C.monoE H (fun o h22 _ x24 K => cont_I K (fun v23 H => ?_) (fun r HX => XR_nc rfl HX)))
    refine r_goto (tgt := 247) dX5_carryOut_221 rfl ?_
    exact r_iret dX5_carryOut_247 rfl H
  replace H := H.2
  refine R.tri (k9 := 4) (fun b25 => ?_) (fun b25 => ?_)
  · replace H := H.1 b25
    refine r_tableIn (tgt := 224) dX5_carryOut_128 (by rw [b25]; decide) (by rw [b25]; decide) (by rw [b25]; first | done | rfl) rfl ?_
    refine r_aload_n dX5_carryOut_224 rfl rfl ?_
    refine r_aload_n dX5_carryOut_225 rfl rfl ?_
    obtain ⟨k26, H⟩ := H
    refine r_getF fr_X5_15_6 (by decide) dX5_carryOut_226 k26 (by decide) ?_
    refine r_aload_n dX5_carryOut_229 rfl rfl ?_
    refine r_getF fr_X5_19_6 (by decide) dX5_carryOut_230 k26 (by decide) ?_
    obtain ⟨k27, H⟩ := H
    refine r_invV (y := m_X2_warm) dX5_carryOut_233 rfl (lw_V q2557 q2558 q2559 q108 q2560) py_X2_warm (Nat.le_of_ble_eq_true rfl) (args := [_, _]) rfl rfl (Nat.le_of_ble_eq_true rfl) k27 (by decide) rfl (C.monoE H (fun o h28 _ x30 K => cont_I K (fun v29 H => ?_) (fun r HX => XR_nc rfl HX)))
    refine r_goto (tgt := 247) dX5_carryOut_236 rfl ?_
    exact r_iret dX5_carryOut_247 rfl H
  replace H := H.2
  replace H := H b1 b7 b13 b19 b25
  refine r_tableOut (tgt := 239) dX5_carryOut_128 (tabOut (lo := 0) (n := 5) rfl (fun i hi => match i, hi with | 0, _ => b1 | 1, _ => b7 | 2, _ => b13 | 3, _ => b19 | 4, _ => b25 | k + 5, hi => absurd hi (by omega))) rfl ?_
  refine r_aload_n dX5_carryOut_239 rfl rfl ?_
  refine r_aload_n dX5_carryOut_240 rfl rfl ?_
  obtain ⟨k31, H⟩ := H
  refine r_getF fr_X5_15_6 (by decide) dX5_carryOut_241 k31 (by decide) ?_
  obtain ⟨k32, H⟩ := H
  refine r_invV (y := m_X2_passAll) dX5_carryOut_244 rfl (lw_V q2565 q2566 q2567 q108 q2568) py_X2_passAll (Nat.le_of_ble_eq_true rfl) (args := [_]) rfl rfl (Nat.le_of_ble_eq_true rfl) k32 (by decide) rfl (C.monoE H (fun o h33 _ x35 K => cont_I K (fun v34 H => ?_) (fun r HX => XR_nc rfl HX)))
  exact r_iret dX5_carryOut_247 rfl H
abbrev w_X5_carryOut_0 (g : PG) (d : Nat) (l0 : Nat) (l1 : Nat) (h : PH) (Q : Out → PH → Prop) : Prop := hkd h l0 = 6 ∧ ko h (hG h 513 l0) 29 ∧ C g d m_J10_hashCode [.ref (hG h 513 l0)] h (oI (fun v5 h4 => (v5 = 113291 → C g d m_J10_equals [.ref (hG h 513 l0), .ref (gSr g 17 + 1)] h4 (oI (fun v10 h9 => ((v10 = 0) → w_X5_carryOut_127 g d l0 l1 (-1 : Int32) h9 Q) ∧ ((¬ v10 = 0) → w_X5_carryOut_127 g d l0 l1 (1 : Int32) h9 Q)) (fun r hx => Q (.inr r) hx))) ∧ (v5 = 3059460 → C g d m_J10_equals [.ref (hG h 513 l0), .ref (gSr g 16 + 1)] h4 (oI (fun v16 h15 => ((v16 = 0) → w_X5_carryOut_127 g d l0 l1 (-1 : Int32) h15 Q) ∧ ((¬ v16 = 0) → w_X5_carryOut_127 g d l0 l1 (0 : Int32) h15 Q)) (fun r hx => Q (.inr r) hx))) ∧ (v5 = 3433489 → C g d m_J10_equals [.ref (hG h 513 l0), .ref (gSr g 18 + 1)] h4 (oI (fun v22 h21 => ((v22 = 0) → w_X5_carryOut_127 g d l0 l1 (-1 : Int32) h21 Q) ∧ ((¬ v22 = 0) → w_X5_carryOut_127 g d l0 l1 (2 : Int32) h21 Q)) (fun r hx => Q (.inr r) hx))) ∧ (v5 = 3440673 → C g d m_J10_equals [.ref (hG h 513 l0), .ref (gSr g 19 + 1)] h4 (oI (fun v28 h27 => ((v28 = 0) → w_X5_carryOut_127 g d l0 l1 (-1 : Int32) h27 Q) ∧ ((¬ v28 = 0) → w_X5_carryOut_127 g d l0 l1 (3 : Int32) h27 Q)) (fun r hx => Q (.inr r) hx))) ∧ (v5 = 3641989 → C g d m_J10_equals [.ref (hG h 513 l0), .ref (gSr g 20 + 1)] h4 (oI (fun v34 h33 => ((v34 = 0) → w_X5_carryOut_127 g d l0 l1 (-1 : Int32) h33 Q) ∧ ((¬ v34 = 0) → w_X5_carryOut_127 g d l0 l1 (4 : Int32) h33 Q)) (fun r hx => Q (.inr r) hx))) ∧ (¬ v5 = 113291 → ¬ v5 = 3059460 → ¬ v5 = 3433489 → ¬ v5 = 3440673 → ¬ v5 = 3641989 → w_X5_carryOut_127 g d l0 l1 (-1 : Int32) h4 Q)) (fun r hx => Q (.inr r) hx))
theorem v_X5_carryOut_0 {g : PG} {d : Nat} {l0 : Nat} {l1 : Nat} {h : PH} {Q : Out → PH → Prop} (H : w_X5_carryOut_0 g d l0 l1 h Q) : R g d m_X5_carryOut 0 [.ref l0, .ref l1, .null, .null] [] h Q := by
  refine r_aload_n dX5_carryOut_0 rfl rfl ?_
  obtain ⟨k1, H⟩ := H
  refine r_getG fr_X5_9_6 (by decide) dX5_carryOut_1 k1 (by decide) ?_
  refine r_astore_n dX5_carryOut_4 rfl (Nat.le_of_ble_eq_true rfl) rfl (slS (slS sl0)) ?_
  refine r_iconst dX5_carryOut_5 rfl ?_
  refine r_istore_n dX5_carryOut_6 rfl (Nat.le_of_ble_eq_true rfl) rfl (slS (slS (slS sl0))) ?_
  refine r_aload_n dX5_carryOut_7 rfl rfl ?_
  obtain ⟨k2, H⟩ := H
  obtain ⟨_, k3, k3a, k3b⟩ := ko_use (by decide) k2
  refine r_invV (y := m_J10_hashCode) dX5_carryOut_8 rfl (lw_V q2324 q2325 q2326 q120 q2327) py_J10_hashCode (Nat.le_of_ble_eq_true rfl) (args := []) rfl rfl (Nat.le_of_ble_eq_true rfl) k3 k3a (k3b.trans rfl) (C.monoE H (fun o h4 _ x6 K => cont_I K (fun v5 H => ?_) (fun r HX => XR_nc rfl HX)))
  refine R.tri (k9 := 113291) (fun b7 => ?_) (fun b7 => ?_)
  · replace H := H.1 b7
    refine r_lookup (tgt := 74) dX5_carryOut_11 (by decide) (by rw [b7]; first | done | rfl) rfl ?_
    refine r_aload_n dX5_carryOut_74 rfl rfl ?_
    refine r_ldcS (n := 17) dX5_carryOut_75 rfl ?_
    obtain ⟨_, k8, k8a, k8b⟩ := ko_use (by decide) (koE x6 (by decide) k2)
    refine r_invV (y := m_J10_equals) dX5_carryOut_77 rfl (lw_V q2386 q2192 q3693 q120 q2193) py_J10_equals (Nat.le_of_ble_eq_true rfl) (args := [_]) rfl rfl (Nat.le_of_ble_eq_true rfl) k8 k8a (k8b.trans rfl) (C.monoE H (fun o h9 _ x11 K => cont_I K (fun v10 H => ?_) (fun r HX => XR_nc rfl HX)))
    refine r_if_eq (tgt := 127) dX5_carryOut_80 rfl (fun b12 => ?_) (fun b12 => ?_)
    · replace H := H.1 b12
      exact R.forget (v_X5_carryOut_127 H) ⟨Or.inl rfl, ⟨Or.inl rfl, ⟨Or.inr rfl, ⟨Or.inl rfl, trivial⟩⟩⟩⟩
    · replace H := H.2 b12
      refine r_iconst dX5_carryOut_83 rfl ?_
      refine r_istore_n dX5_carryOut_84 rfl (Nat.le_of_ble_eq_true rfl) rfl (slS (slS (slS sl0))) ?_
      refine r_goto (tgt := 127) dX5_carryOut_85 rfl ?_
      exact R.forget (v_X5_carryOut_127 H) ⟨Or.inl rfl, ⟨Or.inl rfl, ⟨Or.inr rfl, ⟨Or.inl rfl, trivial⟩⟩⟩⟩
  replace H := H.2
  refine R.tri (k9 := 3059460) (fun b13 => ?_) (fun b13 => ?_)
  · replace H := H.1 b13
    refine r_lookup (tgt := 60) dX5_carryOut_11 (by decide) (by rw [b13]; first | done | rfl) rfl ?_
    refine r_aload_n dX5_carryOut_60 rfl rfl ?_
    refine r_ldcS (n := 16) dX5_carryOut_61 rfl ?_
    obtain ⟨_, k14, k14a, k14b⟩ := ko_use (by decide) (koE x6 (by decide) k2)
    refine r_invV (y := m_J10_equals) dX5_carryOut_63 rfl (lw_V q2386 q2192 q3693 q120 q2193) py_J10_equals (Nat.le_of_ble_eq_true rfl) (args := [_]) rfl rfl (Nat.le_of_ble_eq_true rfl) k14 k14a (k14b.trans rfl) (C.monoE H (fun o h15 _ x17 K => cont_I K (fun v16 H => ?_) (fun r HX => XR_nc rfl HX)))
    refine r_if_eq (tgt := 127) dX5_carryOut_66 rfl (fun b18 => ?_) (fun b18 => ?_)
    · replace H := H.1 b18
      exact R.forget (v_X5_carryOut_127 H) ⟨Or.inl rfl, ⟨Or.inl rfl, ⟨Or.inr rfl, ⟨Or.inl rfl, trivial⟩⟩⟩⟩
    · replace H := H.2 b18
      refine r_iconst dX5_carryOut_69 rfl ?_
      refine r_istore_n dX5_carryOut_70 rfl (Nat.le_of_ble_eq_true rfl) rfl (slS (slS (slS sl0))) ?_
      refine r_goto (tgt := 127) dX5_carryOut_71 rfl ?_
      exact R.forget (v_X5_carryOut_127 H) ⟨Or.inl rfl, ⟨Or.inl rfl, ⟨Or.inr rfl, ⟨Or.inl rfl, trivial⟩⟩⟩⟩
  replace H := H.2
  refine R.tri (k9 := 3433489) (fun b19 => ?_) (fun b19 => ?_)
  · replace H := H.1 b19
    refine r_lookup (tgt := 88) dX5_carryOut_11 (by decide) (by rw [b19]; first | done | rfl) rfl ?_
    refine r_aload_n dX5_carryOut_88 rfl rfl ?_
    refine r_ldcS (n := 18) dX5_carryOut_89 rfl ?_
    obtain ⟨_, k20, k20a, k20b⟩ := ko_use (by decide) (koE x6 (by decide) k2)
    refine r_invV (y := m_J10_equals) dX5_carryOut_91 rfl (lw_V q2386 q2192 q3693 q120 q2193) py_J10_equals (Nat.le_of_ble_eq_true rfl) (args := [_]) rfl rfl (Nat.le_of_ble_eq_true rfl) k20 k20a (k20b.trans rfl) (C.monoE H (fun o h21 _ x23 K => cont_I K (fun v22 H => ?_) (fun r HX => XR_nc rfl HX)))
    refine r_if_eq (tgt := 127) dX5_carryOut_94 rfl (fun b24 => ?_) (fun b24 => ?_)
    · replace H := H.1 b24
      exact R.forget (v_X5_carryOut_127 H) ⟨Or.inl rfl, ⟨Or.inl rfl, ⟨Or.inr rfl, ⟨Or.inl rfl, trivial⟩⟩⟩⟩
    · replace H := H.2 b24
      refine r_iconst dX5_carryOut_97 rfl ?_
      refine r_istore_n dX5_carryOut_98 rfl (Nat.le_of_ble_eq_true rfl) rfl (slS (slS (slS sl0))) ?_
      refine r_goto (tgt := 127) dX5_carryOut_99 rfl ?_
      exact R.forget (v_X5_carryOut_127 H) ⟨Or.inl rfl, ⟨Or.inl rfl, ⟨Or.inr rfl, ⟨Or.inl rfl, trivial⟩⟩⟩⟩
  replace H := H.2
  refine R.tri (k9 := 3440673) (fun b25 => ?_) (fun b25 => ?_)
  · replace H := H.1 b25
    refine r_lookup (tgt := 102) dX5_carryOut_11 (by decide) (by rw [b25]; first | done | rfl) rfl ?_
    refine r_aload_n dX5_carryOut_102 rfl rfl ?_
    refine r_ldcS (n := 19) dX5_carryOut_103 rfl ?_
    obtain ⟨_, k26, k26a, k26b⟩ := ko_use (by decide) (koE x6 (by decide) k2)
    refine r_invV (y := m_J10_equals) dX5_carryOut_105 rfl (lw_V q2386 q2192 q3693 q120 q2193) py_J10_equals (Nat.le_of_ble_eq_true rfl) (args := [_]) rfl rfl (Nat.le_of_ble_eq_true rfl) k26 k26a (k26b.trans rfl) (C.monoE H (fun o h27 _ x29 K => cont_I K (fun v28 H => ?_) (fun r HX => XR_nc rfl HX)))
    refine r_if_eq (tgt := 127) dX5_carryOut_108 rfl (fun b30 => ?_) (fun b30 => ?_)
    · replace H := H.1 b30
      exact R.forget (v_X5_carryOut_127 H) ⟨Or.inl rfl, ⟨Or.inl rfl, ⟨Or.inr rfl, ⟨Or.inl rfl, trivial⟩⟩⟩⟩
    · replace H := H.2 b30
      refine r_iconst dX5_carryOut_111 rfl ?_
      refine r_istore_n dX5_carryOut_112 rfl (Nat.le_of_ble_eq_true rfl) rfl (slS (slS (slS sl0))) ?_
      refine r_goto (tgt := 127) dX5_carryOut_113 rfl ?_
      exact R.forget (v_X5_carryOut_127 H) ⟨Or.inl rfl, ⟨Or.inl rfl, ⟨Or.inr rfl, ⟨Or.inl rfl, trivial⟩⟩⟩⟩
  replace H := H.2
  refine R.tri (k9 := 3641989) (fun b31 => ?_) (fun b31 => ?_)
  · replace H := H.1 b31
    refine r_lookup (tgt := 116) dX5_carryOut_11 (by decide) (by rw [b31]; first | done | rfl) rfl ?_
    refine r_aload_n dX5_carryOut_116 rfl rfl ?_
    refine r_ldcS (n := 20) dX5_carryOut_117 rfl ?_
    obtain ⟨_, k32, k32a, k32b⟩ := ko_use (by decide) (koE x6 (by decide) k2)
    refine r_invV (y := m_J10_equals) dX5_carryOut_119 rfl (lw_V q2386 q2192 q3693 q120 q2193) py_J10_equals (Nat.le_of_ble_eq_true rfl) (args := [_]) rfl rfl (Nat.le_of_ble_eq_true rfl) k32 k32a (k32b.trans rfl) (C.monoE H (fun o h33 _ x35 K => cont_I K (fun v34 H => ?_) (fun r HX => XR_nc rfl HX)))
    refine r_if_eq (tgt := 127) dX5_carryOut_122 rfl (fun b36 => ?_) (fun b36 => ?_)
    · replace H := H.1 b36
      exact R.forget (v_X5_carryOut_127 H) ⟨Or.inl rfl, ⟨Or.inl rfl, ⟨Or.inr rfl, ⟨Or.inl rfl, trivial⟩⟩⟩⟩
    · replace H := H.2 b36
      refine r_iconst dX5_carryOut_125 rfl ?_
      refine r_istore_n dX5_carryOut_126 rfl (Nat.le_of_ble_eq_true rfl) rfl (slS (slS (slS sl0))) ?_
      exact R.forget (v_X5_carryOut_127 H) ⟨Or.inl rfl, ⟨Or.inl rfl, ⟨Or.inr rfl, ⟨Or.inl rfl, trivial⟩⟩⟩⟩
  replace H := H.2
  replace H := H b7 b13 b19 b25 b31
  refine r_lookup (tgt := 127) (off := 116) dX5_carryOut_11 (by decide) (lookDef (List.forall_mem_cons.mpr ⟨b7, (List.forall_mem_cons.mpr ⟨b13, (List.forall_mem_cons.mpr ⟨b19, (List.forall_mem_cons.mpr ⟨b25, (List.forall_mem_cons.mpr ⟨b31, (fun _ h => absurd h List.not_mem_nil)⟩)⟩)⟩)⟩)⟩)) rfl ?_
  exact R.forget (v_X5_carryOut_127 H) ⟨Or.inl rfl, ⟨Or.inl rfl, ⟨Or.inr rfl, ⟨Or.inl rfl, trivial⟩⟩⟩⟩
theorem c_X5_carryOut_0 {g : PG} {d : Nat} {l0 : Nat} {l1 : Nat} {h : PH} {Q : Out → PH → Prop} (H : w_X5_carryOut_0 g d l0 l1 h Q) : C g (d + 1) m_X5_carryOut [.ref l0, .ref l1] h Q := C_of_R rfl rfl (Nat.le_of_ble_eq_true rfl) rfl (v_X5_carryOut_0 H)
abbrev w_X5_init_2_0 (g : PG) (d : Nat) (l0 : Nat) (l1 : Nat) (l2 : Int32) (l3 : Int32) (h : PH) (Q : Out → PH → Prop) : Prop := 0 < l0 ∧ C g d m_X5_init [.ref l0, .ref l1, .int l2, .int l3, .int 0] h (oV (fun h2 => Q (.inl none) h2) (fun r hx => Q (.inr r) hx))
theorem v_X5_init_2_0 {g : PG} {d : Nat} {l0 : Nat} {l1 : Nat} {l2 : Int32} {l3 : Int32} {h : PH} {Q : Out → PH → Prop} (H : w_X5_init_2_0 g d l0 l1 l2 l3 h Q) : R g d m_X5_init_2 0 [.ref l0, .ref l1, .int l2, .int l3] [] h Q := by
  refine r_aload_n dX5_init_2_0 rfl rfl ?_
  refine r_aload_n dX5_init_2_1 rfl rfl ?_
  refine r_iload_n dX5_init_2_2 rfl rfl ?_
  refine r_iload_n dX5_init_2_3 rfl rfl ?_
  refine r_iconst dX5_init_2_4 rfl ?_
  obtain ⟨k1, H⟩ := H
  refine r_invI (y := m_X5_init) dX5_init_2_5 rfl rfl q2297 q129 q2645 q2296 rfl py_X5_init (Nat.le_of_ble_eq_true rfl) (args := [_, _, _, _]) rfl rfl (Nat.le_of_ble_eq_true rfl) k1 (C.monoE H (fun o h2 _ x4 K => cont_V K (fun H => ?_) (fun r HX => XR_nc rfl HX)))
  exact r_vret dX5_init_2_8 rfl H
theorem c_X5_init_2_0 {g : PG} {d : Nat} {l0 : Nat} {l1 : Nat} {l2 : Int32} {l3 : Int32} {h : PH} {Q : Out → PH → Prop} (H : w_X5_init_2_0 g d l0 l1 l2 l3 h Q) : C g (d + 1) m_X5_init_2 [.ref l0, .ref l1, .int l2, .int l3] h Q := C_of_R rfl rfl (Nat.le_of_ble_eq_true rfl) rfl (v_X5_init_2_0 H)
abbrev w_X5_carryOutAs_22 (g : PG) (d : Nat) (l1 : Int32) (s0 : Nat) (h : PH) (Q : Out → PH → Prop) : Prop := ∀ h1, h1 = hnew 7 0 9 h → 0 < (hnx h) ∧ C g d m_X7_init [.ref (hnx h), .int 15, .int l1] h1 (oV (fun h3 => (hkd h3 (hnx h) ≠ 0 ∧ hkd h3 (hnx h) < 100) ∧ Q (.inr (hnx h)) h3) (fun r hx => Q (.inr r) hx))
theorem v_X5_carryOutAs_22 {g : PG} {d : Nat} {l1 : Int32} {s0 : Nat} {h : PH} {Q : Out → PH → Prop} (H : w_X5_carryOutAs_22 g d l1 s0 h Q) : R g d m_X5_carryOutAs 22 [.null, .int l1, .null, .null] [.ref s0] h Q := by
  refine r_astore_n dX5_carryOutAs_22 rfl (Nat.le_of_ble_eq_true rfl) rfl (slS (slS (slS sl0))) ?_
  replace H := H _ rfl
  refine r_new (ci := 7) dX5_carryOutAs_23 rfl (by decide) q3201 q2420 q161 ?_
  refine r_dup dX5_carryOutAs_26 rfl ?_
  refine r_bipush dX5_carryOutAs_27 rfl ?_
  refine r_iload_n dX5_carryOutAs_29 rfl rfl ?_
  obtain ⟨k2, H⟩ := H
  refine r_invI (y := m_X7_init) dX5_carryOutAs_30 rfl rfl q2430 q161 q3206 q2429 rfl py_X7_init (Nat.le_of_ble_eq_true rfl) (args := [_, _]) rfl rfl (Nat.le_of_ble_eq_true rfl) k2 (C.monoE H (fun o h3 _ x5 K => cont_V K (fun H => ?_) (fun r HX => XR_nc rfl HX)))
  exact r_athrow dX5_carryOutAs_33 H.1 (XR_nc rfl H.2)
abbrev w_X5_carryOutAs_9 (g : PG) (d : Nat) (l1 : Int32) (s0 : Nat) (h : PH) (Q : Out → PH → Prop) : Prop := ∀ h1, h1 = hnew 7 0 9 h → 0 < (hnx h) ∧ C g d m_X7_init_2 [.ref (hnx h), .int 15, .int l1, .ref s0] h1 (oV (fun h3 => (hkd h3 (hnx h) ≠ 0 ∧ hkd h3 (hnx h) < 100) ∧ Q (.inr (hnx h)) h3) (fun r hx => Q (.inr r) hx))
theorem v_X5_carryOutAs_9 {g : PG} {d : Nat} {l1 : Int32} {s0 : Nat} {h : PH} {Q : Out → PH → Prop} (H : w_X5_carryOutAs_9 g d l1 s0 h Q) : R g d m_X5_carryOutAs 9 [.null, .int l1, .null, .null] [.ref s0] h Q := by
  refine r_astore_n dX5_carryOutAs_9 rfl (Nat.le_of_ble_eq_true rfl) rfl (slS (slS (slS sl0))) ?_
  replace H := H _ rfl
  refine r_new (ci := 7) dX5_carryOutAs_10 rfl (by decide) q3201 q2420 q161 ?_
  refine r_dup dX5_carryOutAs_13 rfl ?_
  refine r_bipush dX5_carryOutAs_14 rfl ?_
  refine r_iload_n dX5_carryOutAs_16 rfl rfl ?_
  refine r_aload_n dX5_carryOutAs_17 rfl rfl ?_
  obtain ⟨k2, H⟩ := H
  refine r_invI (y := m_X7_init_2) dX5_carryOutAs_18 rfl rfl q2433 q161 q3205 q2432 rfl py_X7_init_2 (Nat.le_of_ble_eq_true rfl) (args := [_, _, _]) rfl rfl (Nat.le_of_ble_eq_true rfl) k2 (C.monoE H (fun o h3 _ x5 K => cont_V K (fun H => ?_) (fun r HX => XR_nc rfl HX)))
  exact r_athrow dX5_carryOutAs_21 H.1 (XR_nc rfl H.2)
abbrev w_X5_carryOutAs_0 (g : PG) (d : Nat) (l0 : Nat) (l1 : Int32) (l2 : Nat) (h : PH) (Q : Out → PH → Prop) : Prop := hkd h l0 = 6 ∧ C g d m_X5_carryOut [.ref l0, .ref l2] h (oI (fun v3 h2 => Q (.inl none) h2) (fun r hx => XR g d m_X5_carryOutAs 2 [.ref l0, .int l1, .ref l2, .null] r hx Q))
theorem v_X5_carryOutAs_0 {g : PG} {d : Nat} {l0 : Nat} {l1 : Int32} {l2 : Nat} {h : PH} {Q : Out → PH → Prop} (H : w_X5_carryOutAs_0 g d l0 l1 l2 h Q) : R g d m_X5_carryOutAs 0 [.ref l0, .int l1, .ref l2, .null] [] h Q := by
  refine r_aload_n dX5_carryOutAs_0 rfl rfl ?_
  refine r_aload_n dX5_carryOutAs_1 rfl rfl ?_
  obtain ⟨k1, H⟩ := H
  refine r_invV (y := m_X5_carryOut) dX5_carryOutAs_2 rfl (lw_V q3204 q2321 q2322 q129 q2323) py_X5_carryOut (Nat.le_of_ble_eq_true rfl) (args := [_]) rfl rfl (Nat.le_of_ble_eq_true rfl) k1 (by decide) rfl (C.monoE H (fun o h2 _ x4 K => cont_I K (fun v3 H => ?_) (fun r HX => HX)))
  refine r_istore_n dX5_carryOutAs_5 rfl (Nat.le_of_ble_eq_true rfl) rfl (slS (slS (slS sl0))) ?_
  refine r_goto (tgt := 34) dX5_carryOutAs_6 rfl ?_
  exact r_vret dX5_carryOutAs_34 rfl H
theorem c_X5_carryOutAs_0 {g : PG} {d : Nat} {l0 : Nat} {l1 : Int32} {l2 : Nat} {h : PH} {Q : Out → PH → Prop} (H : w_X5_carryOutAs_0 g d l0 l1 l2 h Q) : C g (d + 1) m_X5_carryOutAs [.ref l0, .int l1, .ref l2] h Q := C_of_R rfl rfl (Nat.le_of_ble_eq_true rfl) rfl (v_X5_carryOutAs_0 H)
abbrev w_X6_init_0 (g : PG) (d : Nat) (l0 : Nat) (l1 : Nat) (h : PH) (Q : Out → PH → Prop) : Prop := hkd h l1 = 4 ∧ 0 < l0 ∧ C g d m_X6_init_2 [.ref l0, .int (hF h 7 l1), .int (hF h 8 l1), .int (hF h 9 l1), .int (hF h 10 l1)] h (oV (fun h3 => hkd h3 l0 = 4 ∧ narrow .boolean (.int (hF h3 11 l1)) = .int (hF h3 11 l1) ∧ fits .boolean (.int (hF h3 11 l1)) = true ∧ ∀ h7, h7 = setF 11 l0 (hF h3 11 l1) h3 → ∀ h8, h8 = setF 12 l0 (hF h7 12 l1) h7 → ∀ h9, h9 = setF 13 l0 (hF h8 13 l1) h8 → Q (.inl none) h9) (fun r hx => Q (.inr r) hx))
theorem v_X6_init_0 {g : PG} {d : Nat} {l0 : Nat} {l1 : Nat} {h : PH} {Q : Out → PH → Prop} (H : w_X6_init_0 g d l0 l1 h Q) : R g d m_X6_init 0 [.ref l0, .ref l1] [] h Q := by
  refine r_aload_n dX6_init_0 rfl rfl ?_
  refine r_aload_n dX6_init_1 rfl rfl ?_
  obtain ⟨k1, H⟩ := H
  refine r_getF fr_X6_13_4 (by decide) dX6_init_2 k1 (by decide) ?_
  refine r_aload_n dX6_init_5 rfl rfl ?_
  refine r_getF fr_X6_17_4 (by decide) dX6_init_6 k1 (by decide) ?_
  refine r_aload_n dX6_init_9 rfl rfl ?_
  refine r_getF fr_X6_20_4 (by decide) dX6_init_10 k1 (by decide) ?_
  refine r_aload_n dX6_init_13 rfl rfl ?_
  refine r_getF fr_X6_23_4 (by decide) dX6_init_14 k1 (by decide) ?_
  obtain ⟨k2, H⟩ := H
  refine r_invI (y := m_X6_init_2) dX6_init_17 rfl rfl q2077 q142 q2075 q2076 rfl py_X6_init_2 (Nat.le_of_ble_eq_true rfl) (args := [_, _, _, _]) rfl rfl (Nat.le_of_ble_eq_true rfl) k2 (C.monoE H (fun o h3 _ x5 K => cont_V K (fun H => ?_) (fun r HX => XR_nc rfl HX)))
  refine r_aload_n dX6_init_20 rfl rfl ?_
  refine r_aload_n dX6_init_21 rfl rfl ?_
  refine r_getF fr_X6_7_4 (by decide) dX6_init_22 (x5.kd k1 (by decide)) (by decide) ?_
  obtain ⟨k6, H⟩ := H
  obtain ⟨k10, H⟩ := H
  obtain ⟨k11, H⟩ := H
  replace H := H _ rfl
  refine r_putF fw_X6_7_4_i (by decide) dX6_init_25 k6 (by decide) k10 k11 ?_
  refine r_aload_n dX6_init_28 rfl rfl ?_
  refine r_aload_n dX6_init_29 rfl rfl ?_
  refine r_getF fr_X6_29_4 (by decide) dX6_init_30 (x5.kd k1 (by decide)) (by decide) ?_
  replace H := H _ rfl
  refine r_putF fw_X6_29_4_i (by decide) dX6_init_33 k6 (by decide) rfl rfl ?_
  refine r_aload_n dX6_init_36 rfl rfl ?_
  refine r_aload_n dX6_init_37 rfl rfl ?_
  refine r_getF fr_X6_32_4 (by decide) dX6_init_38 (x5.kd k1 (by decide)) (by decide) ?_
  replace H := H _ rfl
  refine r_putF fw_X6_32_4_i (by decide) dX6_init_41 k6 (by decide) rfl rfl ?_
  exact r_vret dX6_init_44 rfl H
theorem c_X6_init_0 {g : PG} {d : Nat} {l0 : Nat} {l1 : Nat} {h : PH} {Q : Out → PH → Prop} (H : w_X6_init_0 g d l0 l1 h Q) : C g (d + 1) m_X6_init [.ref l0, .ref l1] h Q := C_of_R rfl rfl (Nat.le_of_ble_eq_true rfl) rfl (v_X6_init_0 H)
abbrev w_X6_init_2_0 (g : PG) (d : Nat) (l0 : Nat) (l1 : Int32) (l2 : Int32) (l3 : Int32) (l4 : Int32) (h : PH) (Q : Out → PH → Prop) : Prop := 0 < l0 ∧ hkd h l0 = 4 ∧ ∀ h3, h3 = setF 11 l0 (1 : Int32) h → ∀ h4, h4 = setF 7 l0 l1 h3 → ∀ h5, h5 = setF 8 l0 l2 h4 → ∀ h6, h6 = setF 9 l0 l3 h5 → ∀ h7, h7 = setF 10 l0 l4 h6 → Q (.inl none) h7
theorem v_X6_init_2_0 {g : PG} {d : Nat} {l0 : Nat} {l1 : Int32} {l2 : Int32} {l3 : Int32} {l4 : Int32} {h : PH} {Q : Out → PH → Prop} (H : w_X6_init_2_0 g d l0 l1 l2 l3 l4 h Q) : R g d m_X6_init_2 0 [.ref l0, .int l1, .int l2, .int l3, .int l4] [] h Q := by
  refine r_aload_n dX6_init_2_0 rfl rfl ?_
  obtain ⟨k1, H⟩ := H
  refine r_oinit dX6_init_2_1 q2078 q182 q183 k1 (Nat.le_of_ble_eq_true rfl) ?_
  refine r_aload_n dX6_init_2_4 rfl rfl ?_
  refine r_iconst dX6_init_2_5 rfl ?_
  obtain ⟨k2, H⟩ := H
  replace H := H _ rfl
  refine r_putF fw_X6_7_4_i (by decide) dX6_init_2_6 k2 (by decide) rfl rfl ?_
  refine r_aload_n dX6_init_2_9 rfl rfl ?_
  refine r_iload_n dX6_init_2_10 rfl rfl ?_
  replace H := H _ rfl
  refine r_putF fw_X6_13_4_i (by decide) dX6_init_2_11 k2 (by decide) rfl rfl ?_
  refine r_aload_n dX6_init_2_14 rfl rfl ?_
  refine r_iload_n dX6_init_2_15 rfl rfl ?_
  replace H := H _ rfl
  refine r_putF fw_X6_17_4_i (by decide) dX6_init_2_16 k2 (by decide) rfl rfl ?_
  refine r_aload_n dX6_init_2_19 rfl rfl ?_
  refine r_iload_n dX6_init_2_20 rfl rfl ?_
  replace H := H _ rfl
  refine r_putF fw_X6_20_4_i (by decide) dX6_init_2_21 k2 (by decide) rfl rfl ?_
  refine r_aload_n dX6_init_2_24 rfl rfl ?_
  refine r_iload dX6_init_2_25 rfl ?_
  replace H := H _ rfl
  refine r_putF fw_X6_23_4_i (by decide) dX6_init_2_27 k2 (by decide) rfl rfl ?_
  exact r_vret dX6_init_2_30 rfl H
theorem c_X6_init_2_0 {g : PG} {d : Nat} {l0 : Nat} {l1 : Int32} {l2 : Int32} {l3 : Int32} {l4 : Int32} {h : PH} {Q : Out → PH → Prop} (H : w_X6_init_2_0 g d l0 l1 l2 l3 l4 h Q) : C g (d + 1) m_X6_init_2 [.ref l0, .int l1, .int l2, .int l3, .int l4] h Q := C_of_R rfl rfl (Nat.le_of_ble_eq_true rfl) rfl (v_X6_init_2_0 H)
abbrev w_X6_isGone_0 (g : PG) (d : Nat) (l0 : Nat) (h : PH) (Q : Out → PH → Prop) : Prop := hkd h l0 = 4 ∧ ((¬ (hF h 10 l0) = 0) → Q (.inl (some (.int 0))) h) ∧ (((hF h 10 l0) = 0) → Q (.inl (some (.int 1))) h)
theorem v_X6_isGone_0 {g : PG} {d : Nat} {l0 : Nat} {h : PH} {Q : Out → PH → Prop} (H : w_X6_isGone_0 g d l0 h Q) : R g d m_X6_isGone 0 [.ref l0] [] h Q := by
  refine r_aload_n dX6_isGone_0 rfl rfl ?_
  obtain ⟨k1, H⟩ := H
  refine r_getF fr_X6_23_4 (by decide) dX6_isGone_1 k1 (by decide) ?_
  refine r_if_ne (tgt := 11) dX6_isGone_4 rfl (fun b2 => ?_) (fun b2 => ?_)
  · replace H := H.1 b2
    refine r_iconst dX6_isGone_11 rfl ?_
    exact r_zret dX6_isGone_12 rfl rfl H
  · replace H := H.2 b2
    refine r_iconst dX6_isGone_7 rfl ?_
    refine r_goto (tgt := 12) dX6_isGone_8 rfl ?_
    exact r_zret dX6_isGone_12 rfl rfl H
theorem c_X6_isGone_0 {g : PG} {d : Nat} {l0 : Nat} {h : PH} {Q : Out → PH → Prop} (H : w_X6_isGone_0 g d l0 h Q) : C g (d + 1) m_X6_isGone [.ref l0] h Q := C_of_R rfl rfl (Nat.le_of_ble_eq_true rfl) rfl (v_X6_isGone_0 H)
abbrev w_X7_init_0 (g : PG) (d : Nat) (l0 : Nat) (l1 : Int32) (l2 : Int32) (h : PH) (Q : Out → PH → Prop) : Prop := 0 < l0 ∧ C g d m_X7_init_2 [.ref l0, .int l1, .int l2, .ref (0 : Nat)] h (oV (fun h2 => Q (.inl none) h2) (fun r hx => Q (.inr r) hx))
theorem v_X7_init_0 {g : PG} {d : Nat} {l0 : Nat} {l1 : Int32} {l2 : Int32} {h : PH} {Q : Out → PH → Prop} (H : w_X7_init_0 g d l0 l1 l2 h Q) : R g d m_X7_init 0 [.ref l0, .int l1, .int l2] [] h Q := by
  refine r_aload_n dX7_init_0 rfl rfl ?_
  refine r_iload_n dX7_init_1 rfl rfl ?_
  refine r_iload_n dX7_init_2 rfl rfl ?_
  refine r_null dX7_init_3 ?_
  obtain ⟨k1, H⟩ := H
  refine r_invI (y := m_X7_init_2) dX7_init_4 rfl rfl q2433 q161 q2431 q2432 rfl py_X7_init_2 (Nat.le_of_ble_eq_true rfl) (args := [_, _, _]) rfl rfl (Nat.le_of_ble_eq_true rfl) k1 (C.monoE H (fun o h2 _ x4 K => cont_V K (fun H => ?_) (fun r HX => XR_nc rfl HX)))
  exact r_vret dX7_init_7 rfl H
theorem c_X7_init_0 {g : PG} {d : Nat} {l0 : Nat} {l1 : Int32} {l2 : Int32} {h : PH} {Q : Out → PH → Prop} (H : w_X7_init_0 g d l0 l1 l2 h Q) : C g (d + 1) m_X7_init [.ref l0, .int l1, .int l2] h Q := C_of_R rfl rfl (Nat.le_of_ble_eq_true rfl) rfl (v_X7_init_0 H)
abbrev w_X7_init_2_0 (g : PG) (d : Nat) (l0 : Nat) (l1 : Int32) (l2 : Int32) (l3 : Nat) (h : PH) (Q : Out → PH → Prop) : Prop := 0 < l0 ∧ C g d m_J13_init_4 [.ref l0, .ref (0 : Nat), .ref l3, .int 0, .int 0] h (oV (fun h2 => hkd h2 l0 = 7 ∧ ∀ h6, h6 = setF 23 l0 l1 h2 → ∀ h7, h7 = setF 24 l0 l2 h6 → Q (.inl none) h7) (fun r hx => Q (.inr r) hx))
theorem v_X7_init_2_0 {g : PG} {d : Nat} {l0 : Nat} {l1 : Int32} {l2 : Int32} {l3 : Nat} {h : PH} {Q : Out → PH → Prop} (H : w_X7_init_2_0 g d l0 l1 l2 l3 h Q) : R g d m_X7_init_2 0 [.ref l0, .int l1, .int l2, .ref l3] [] h Q := by
  refine r_aload_n dX7_init_2_0 rfl rfl ?_
  refine r_null dX7_init_2_1 ?_
  refine r_aload_n dX7_init_2_2 rfl rfl ?_
  refine r_iconst dX7_init_2_3 rfl ?_
  refine r_iconst dX7_init_2_4 rfl ?_
  obtain ⟨k1, H⟩ := H
  refine r_invI (y := m_J13_init_4) dX7_init_2_5 rfl rfl q2436 q124 q2434 q2435 rfl py_J13_init_4 (Nat.le_of_ble_eq_true rfl) (args := [_, _, _, _]) rfl rfl (Nat.le_of_ble_eq_true rfl) k1 (C.monoE H (fun o h2 _ x4 K => cont_V K (fun H => ?_) (fun r HX => XR_nc rfl HX)))
  refine r_aload_n dX7_init_2_8 rfl rfl ?_
  refine r_iload_n dX7_init_2_9 rfl rfl ?_
  obtain ⟨k5, H⟩ := H
  replace H := H _ rfl
  refine r_putF fw_X7_12_7_i (by decide) dX7_init_2_10 k5 (by decide) rfl rfl ?_
  refine r_aload_n dX7_init_2_13 rfl rfl ?_
  refine r_iload_n dX7_init_2_14 rfl rfl ?_
  replace H := H _ rfl
  refine r_putF fw_X7_16_7_i (by decide) dX7_init_2_15 k5 (by decide) rfl rfl ?_
  exact r_vret dX7_init_2_18 rfl H
theorem c_X7_init_2_0 {g : PG} {d : Nat} {l0 : Nat} {l1 : Int32} {l2 : Int32} {l3 : Nat} {h : PH} {Q : Out → PH → Prop} (H : w_X7_init_2_0 g d l0 l1 l2 l3 h Q) : C g (d + 1) m_X7_init_2 [.ref l0, .int l1, .int l2, .ref l3] h Q := C_of_R rfl rfl (Nat.le_of_ble_eq_true rfl) rfl (v_X7_init_2_0 H)
abbrev w_X8_init_0 (g : PG) (d : Nat) (l0 : Nat) (l1 : Int32) (l2 : Int32) (l3 : Int32) (l4 : Int32) (l5 : Int32) (h : PH) (Q : Out → PH → Prop) : Prop := 0 < l0 ∧ C g d m_J17_init [.ref l0] h (oV (fun h2 => hkd h2 l0 = 5 ∧ ∀ h6, h6 = setF 14 l0 l1 h2 → ∀ h7, h7 = setF 15 l0 l2 h6 → ∀ h8, h8 = setF 16 l0 l3 h7 → ∀ h9, h9 = setF 17 l0 l4 h8 → ∀ h10, h10 = setF 18 l0 l5 h9 → Q (.inl none) h10) (fun r hx => Q (.inr r) hx))
theorem v_X8_init_0 {g : PG} {d : Nat} {l0 : Nat} {l1 : Int32} {l2 : Int32} {l3 : Int32} {l4 : Int32} {l5 : Int32} {h : PH} {Q : Out → PH → Prop} (H : w_X8_init_0 g d l0 l1 l2 l3 l4 l5 h Q) : R g d m_X8_init 0 [.ref l0, .int l1, .int l2, .int l3, .int l4, .int l5] [] h Q := by
  refine r_aload_n dX8_init_0 rfl rfl ?_
  obtain ⟨k1, H⟩ := H
  refine r_invI (y := m_J17_init) dX8_init_1 rfl rfl q2300 q128 q2500 q2299 rfl py_J17_init (Nat.le_of_ble_eq_true rfl) (args := []) rfl rfl (Nat.le_of_ble_eq_true rfl) k1 (C.monoE H (fun o h2 _ x4 K => cont_V K (fun H => ?_) (fun r HX => XR_nc rfl HX)))
  refine r_aload_n dX8_init_4 rfl rfl ?_
  refine r_iload_n dX8_init_5 rfl rfl ?_
  obtain ⟨k5, H⟩ := H
  replace H := H _ rfl
  refine r_putF fw_X8_7_5_i (by decide) dX8_init_6 k5 (by decide) rfl rfl ?_
  refine r_aload_n dX8_init_9 rfl rfl ?_
  refine r_iload_n dX8_init_10 rfl rfl ?_
  replace H := H _ rfl
  refine r_putF fw_X8_13_5_i (by decide) dX8_init_11 k5 (by decide) rfl rfl ?_
  refine r_aload_n dX8_init_14 rfl rfl ?_
  refine r_iload_n dX8_init_15 rfl rfl ?_
  replace H := H _ rfl
  refine r_putF fw_X8_16_5_i (by decide) dX8_init_16 k5 (by decide) rfl rfl ?_
  refine r_aload_n dX8_init_19 rfl rfl ?_
  refine r_iload dX8_init_20 rfl ?_
  replace H := H _ rfl
  refine r_putF fw_X8_19_5_i (by decide) dX8_init_22 k5 (by decide) rfl rfl ?_
  refine r_aload_n dX8_init_25 rfl rfl ?_
  refine r_iload dX8_init_26 rfl ?_
  replace H := H _ rfl
  refine r_putF fw_X8_22_5_i (by decide) dX8_init_28 k5 (by decide) rfl rfl ?_
  exact r_vret dX8_init_31 rfl H
theorem c_X8_init_0 {g : PG} {d : Nat} {l0 : Nat} {l1 : Int32} {l2 : Int32} {l3 : Int32} {l4 : Int32} {l5 : Int32} {h : PH} {Q : Out → PH → Prop} (H : w_X8_init_0 g d l0 l1 l2 l3 l4 l5 h Q) : C g (d + 1) m_X8_init [.ref l0, .int l1, .int l2, .int l3, .int l4, .int l5] h Q := C_of_R rfl rfl (Nat.le_of_ble_eq_true rfl) rfl (v_X8_init_0 H)
abbrev w_X8_snowman_0 (g : PG) (d : Nat) (l0 : Nat) (h : PH) (Q : Out → PH → Prop) : Prop := hkd h l0 = 5 ∧ Q (.inl (some (.int (hF h 14 l0)))) h
theorem v_X8_snowman_0 {g : PG} {d : Nat} {l0 : Nat} {h : PH} {Q : Out → PH → Prop} (H : w_X8_snowman_0 g d l0 h Q) : R g d m_X8_snowman 0 [.ref l0] [] h Q := by
  refine r_aload_n dX8_snowman_0 rfl rfl ?_
  obtain ⟨k1, H⟩ := H
  refine r_getF fr_X8_7_5 (by decide) dX8_snowman_1 k1 (by decide) ?_
  exact r_iret dX8_snowman_4 rfl H
theorem c_X8_snowman_0 {g : PG} {d : Nat} {l0 : Nat} {h : PH} {Q : Out → PH → Prop} (H : w_X8_snowman_0 g d l0 h Q) : C g (d + 1) m_X8_snowman [.ref l0] h Q := C_of_R rfl rfl (Nat.le_of_ble_eq_true rfl) rfl (v_X8_snowman_0 H)
abbrev w_X8_from_0 (g : PG) (d : Nat) (l0 : Nat) (h : PH) (Q : Out → PH → Prop) : Prop := hkd h l0 = 5 ∧ Q (.inl (some (.int (hF h 15 l0)))) h
theorem v_X8_from_0 {g : PG} {d : Nat} {l0 : Nat} {h : PH} {Q : Out → PH → Prop} (H : w_X8_from_0 g d l0 h Q) : R g d m_X8_from 0 [.ref l0] [] h Q := by
  refine r_aload_n dX8_from_0 rfl rfl ?_
  obtain ⟨k1, H⟩ := H
  refine r_getF fr_X8_13_5 (by decide) dX8_from_1 k1 (by decide) ?_
  exact r_iret dX8_from_4 rfl H
theorem c_X8_from_0 {g : PG} {d : Nat} {l0 : Nat} {h : PH} {Q : Out → PH → Prop} (H : w_X8_from_0 g d l0 h Q) : C g (d + 1) m_X8_from [.ref l0] h Q := C_of_R rfl rfl (Nat.le_of_ble_eq_true rfl) rfl (v_X8_from_0 H)
abbrev w_X8_to_0 (g : PG) (d : Nat) (l0 : Nat) (h : PH) (Q : Out → PH → Prop) : Prop := hkd h l0 = 5 ∧ Q (.inl (some (.int (hF h 16 l0)))) h
theorem v_X8_to_0 {g : PG} {d : Nat} {l0 : Nat} {h : PH} {Q : Out → PH → Prop} (H : w_X8_to_0 g d l0 h Q) : R g d m_X8_to 0 [.ref l0] [] h Q := by
  refine r_aload_n dX8_to_0 rfl rfl ?_
  obtain ⟨k1, H⟩ := H
  refine r_getF fr_X8_16_5 (by decide) dX8_to_1 k1 (by decide) ?_
  exact r_iret dX8_to_4 rfl H
theorem c_X8_to_0 {g : PG} {d : Nat} {l0 : Nat} {h : PH} {Q : Out → PH → Prop} (H : w_X8_to_0 g d l0 h Q) : C g (d + 1) m_X8_to [.ref l0] h Q := C_of_R rfl rfl (Nat.le_of_ble_eq_true rfl) rfl (v_X8_to_0 H)
abbrev w_X8_lost_0 (g : PG) (d : Nat) (l0 : Nat) (h : PH) (Q : Out → PH → Prop) : Prop := hkd h l0 = 5 ∧ Q (.inl (some (.int (hF h 17 l0)))) h
theorem v_X8_lost_0 {g : PG} {d : Nat} {l0 : Nat} {h : PH} {Q : Out → PH → Prop} (H : w_X8_lost_0 g d l0 h Q) : R g d m_X8_lost 0 [.ref l0] [] h Q := by
  refine r_aload_n dX8_lost_0 rfl rfl ?_
  obtain ⟨k1, H⟩ := H
  refine r_getF fr_X8_19_5 (by decide) dX8_lost_1 k1 (by decide) ?_
  exact r_iret dX8_lost_4 rfl H
theorem c_X8_lost_0 {g : PG} {d : Nat} {l0 : Nat} {h : PH} {Q : Out → PH → Prop} (H : w_X8_lost_0 g d l0 h Q) : C g (d + 1) m_X8_lost [.ref l0] h Q := C_of_R rfl rfl (Nat.le_of_ble_eq_true rfl) rfl (v_X8_lost_0 H)
abbrev w_X8_hour_0 (g : PG) (d : Nat) (l0 : Nat) (h : PH) (Q : Out → PH → Prop) : Prop := hkd h l0 = 5 ∧ Q (.inl (some (.int (hF h 18 l0)))) h
theorem v_X8_hour_0 {g : PG} {d : Nat} {l0 : Nat} {h : PH} {Q : Out → PH → Prop} (H : w_X8_hour_0 g d l0 h Q) : R g d m_X8_hour 0 [.ref l0] [] h Q := by
  refine r_aload_n dX8_hour_0 rfl rfl ?_
  obtain ⟨k1, H⟩ := H
  refine r_getF fr_X8_22_5 (by decide) dX8_hour_1 k1 (by decide) ?_
  exact r_iret dX8_hour_4 rfl H
theorem c_X8_hour_0 {g : PG} {d : Nat} {l0 : Nat} {h : PH} {Q : Out → PH → Prop} (H : w_X8_hour_0 g d l0 h Q) : C g (d + 1) m_X8_hour [.ref l0] h Q := C_of_R rfl rfl (Nat.le_of_ble_eq_true rfl) rfl (v_X8_hour_0 H)
abbrev w_X9_compare_0 (g : PG) (d : Nat) (l0 : Nat) (l1 : Nat) (l2 : Nat) (h : PH) (Q : Out → PH → Prop) : Prop := (l1 = 0 ∨ hkd h l1 = 4) ∧ (l2 = 0 ∨ hkd h l2 = 4) ∧ hkd h l0 = 10 ∧ C g d m_X9_compare_2 [.ref l0, .ref l1, .ref l2] h (oI (fun v5 h4 => Q (.inl (some (.int v5))) h4) (fun r hx => Q (.inr r) hx))
theorem v_X9_compare_0 {g : PG} {d : Nat} {l0 : Nat} {l1 : Nat} {l2 : Nat} {h : PH} {Q : Out → PH → Prop} (H : w_X9_compare_0 g d l0 l1 l2 h Q) : R g d m_X9_compare 0 [.ref l0, .ref l1, .ref l2] [] h Q := by
  refine r_aload_n dX9_compare_0 rfl rfl ?_
  refine r_aload_n dX9_compare_1 rfl rfl ?_
  obtain ⟨k1, H⟩ := H
  refine r_castO (kv := 4) dX9_compare_2 q1296 (by decide) (Or.inr rfl) k1 ?_
  refine r_aload_n dX9_compare_5 rfl rfl ?_
  obtain ⟨k2, H⟩ := H
  refine r_castO (kv := 4) dX9_compare_6 q1296 (by decide) (Or.inr rfl) k2 ?_
  obtain ⟨k3, H⟩ := H
  refine r_invV (y := m_X9_compare_2) dX9_compare_9 rfl (lw_V q1297 q1298 q1299 q168 q1300) py_X9_compare_2 (Nat.le_of_ble_eq_true rfl) (args := [_, _]) rfl rfl (Nat.le_of_ble_eq_true rfl) k3 (by decide) rfl (C.monoE H (fun o h4 _ x6 K => cont_I K (fun v5 H => ?_) (fun r HX => XR_nc rfl HX)))
  exact r_iret dX9_compare_12 rfl H
theorem c_X9_compare_0 {g : PG} {d : Nat} {l0 : Nat} {l1 : Nat} {l2 : Nat} {h : PH} {Q : Out → PH → Prop} (H : w_X9_compare_0 g d l0 l1 l2 h Q) : C g (d + 1) m_X9_compare [.ref l0, .ref l1, .ref l2] h Q := C_of_R rfl rfl (Nat.le_of_ble_eq_true rfl) rfl (v_X9_compare_0 H)
abbrev w_X9_compare_2_0 (g : PG) (d : Nat) (l0 : Nat) (l1 : Nat) (l2 : Nat) (h : PH) (Q : Out → PH → Prop) : Prop := hkd h l0 = 10 ∧ hkd h (hG h 520 l0) = 1 ∧ hkd h (hG h 500 (hG h 520 l0)) = 2 ∧ C g d m_X2_far [.ref (hG h 500 (hG h 520 l0)), .ref l1] h (oI (fun v5 h4 => hkd h4 (hG h4 520 l0) = 1 ∧ hkd h4 (hG h4 500 (hG h4 520 l0)) = 2 ∧ C g d m_X2_far [.ref (hG h4 500 (hG h4 520 l0)), .ref l2] h4 (oI (fun v10 h9 => hkd h9 l2 = 4 ∧ hkd h9 l1 = 4 ∧ C g d m_J26_compare [.int ((hF h9 9 l2) + v10), .int ((hF h9 9 l1) + v5)] h9 (oI (fun v15 h14 => hkd h14 (hG h14 520 l0) = 1 ∧ hkd h14 (hG h14 500 (hG h14 520 l0)) = 2 ∧ C g d m_X2_massBehind [.ref (hG h14 500 (hG h14 520 l0)), .ref l2, .int v10] h14 (oI (fun v20 h19 => hkd h19 (hG h19 520 l0) = 1 ∧ hkd h19 (hG h19 500 (hG h19 520 l0)) = 2 ∧ C g d m_X2_massBehind [.ref (hG h19 500 (hG h19 520 l0)), .ref l1, .int v5] h19 (oI (fun v25 h24 => C g d m_J26_compare [.int v20, .int v25] h24 (oI (fun v28 h27 => ((v15 = 0) → ((v28 = 0) → C g d m_J26_compare [.int (hF h27 7 l1), .int (hF h27 7 l2)] h27 (oI (fun v33 h32 => Q (.inl (some (.int v33))) h32) (fun r hx => Q (.inr r) hx))) ∧ ((¬ v28 = 0) → Q (.inl (some (.int v28))) h27)) ∧ ((¬ v15 = 0) → Q (.inl (some (.int v15))) h27)) (fun r hx => Q (.inr r) hx))) (fun r hx => Q (.inr r) hx))) (fun r hx => Q (.inr r) hx))) (fun r hx => Q (.inr r) hx))) (fun r hx => Q (.inr r) hx))) (fun r hx => Q (.inr r) hx))
theorem v_X9_compare_2_0 {g : PG} {d : Nat} {l0 : Nat} {l1 : Nat} {l2 : Nat} {h : PH} {Q : Out → PH → Prop} (H : w_X9_compare_2_0 g d l0 l1 l2 h Q) : R g d m_X9_compare_2 0 [.ref l0, .ref l1, .ref l2, .null, .null, .null, .null] [] h Q := by
  refine r_aload_n dX9_compare_2_0 rfl rfl ?_
  obtain ⟨k1, H⟩ := H
  refine r_getG fr_X9_1_10 (by decide) dX9_compare_2_1 k1 (by decide) ?_
  obtain ⟨k2, H⟩ := H
  refine r_getG fr_X9_13_1 (by decide) dX9_compare_2_4 k2 (by decide) ?_
  refine r_aload_n dX9_compare_2_7 rfl rfl ?_
  obtain ⟨k3, H⟩ := H
  refine r_invV (y := m_X2_far) dX9_compare_2_8 rfl (lw_V q1301 q1302 q1303 q108 q1304) py_X2_far (Nat.le_of_ble_eq_true rfl) (args := [_]) rfl rfl (Nat.le_of_ble_eq_true rfl) k3 (by decide) rfl (C.monoE H (fun o h4 _ x6 K => cont_I K (fun v5 H => ?_) (fun r HX => XR_nc rfl HX)))
  refine r_istore_n dX9_compare_2_11 rfl (Nat.le_of_ble_eq_true rfl) rfl (slS (slS (slS sl0))) ?_
  refine r_aload_n dX9_compare_2_12 rfl rfl ?_
  refine r_getG fr_X9_1_10 (by decide) dX9_compare_2_13 (x6.kd k1 (by decide)) (by decide) ?_
  obtain ⟨k7, H⟩ := H
  refine r_getG fr_X9_13_1 (by decide) dX9_compare_2_16 k7 (by decide) ?_
  refine r_aload_n dX9_compare_2_19 rfl rfl ?_
  obtain ⟨k8, H⟩ := H
  refine r_invV (y := m_X2_far) dX9_compare_2_20 rfl (lw_V q1301 q1302 q1303 q108 q1304) py_X2_far (Nat.le_of_ble_eq_true rfl) (args := [_]) rfl rfl (Nat.le_of_ble_eq_true rfl) k8 (by decide) rfl (C.monoE H (fun o h9 _ x11 K => cont_I K (fun v10 H => ?_) (fun r HX => XR_nc rfl HX)))
  refine r_istore dX9_compare_2_23 (Nat.le_of_ble_eq_true rfl) rfl (slS (slS (slS (slS sl0)))) ?_
  refine r_aload_n dX9_compare_2_25 rfl rfl ?_
  obtain ⟨k12, H⟩ := H
  refine r_getF fr_X9_25_4 (by decide) dX9_compare_2_26 k12 (by decide) ?_
  refine r_iload dX9_compare_2_29 rfl ?_
  refine r_iadd dX9_compare_2_31 ?_
  refine r_aload_n dX9_compare_2_32 rfl rfl ?_
  obtain ⟨k13, H⟩ := H
  refine r_getF fr_X9_25_4 (by decide) dX9_compare_2_33 k13 (by decide) ?_
  refine r_iload_n dX9_compare_2_36 rfl rfl ?_
  refine r_iadd dX9_compare_2_37 ?_
  refine r_invS (y := m_J26_compare) dX9_compare_2_38 rfl (lw_S q1319 q1320 q139 q1321) py_J26_compare (Nat.le_of_ble_eq_true rfl) (args := [_, _]) rfl rfl (Nat.le_of_ble_eq_true rfl) (C.monoE H (fun o h14 _ x16 K => cont_I K (fun v15 H => ?_) (fun r HX => XR_nc rfl HX)))
  refine r_istore dX9_compare_2_41 (Nat.le_of_ble_eq_true rfl) rfl (slS (slS (slS (slS (slS sl0))))) ?_
  refine r_aload_n dX9_compare_2_43 rfl rfl ?_
  refine r_getG fr_X9_1_10 (by decide) dX9_compare_2_44 (x16.kd (x11.kd (x6.kd k1 (by decide)) (by decide)) (by decide)) (by decide) ?_
  obtain ⟨k17, H⟩ := H
  refine r_getG fr_X9_13_1 (by decide) dX9_compare_2_47 k17 (by decide) ?_
  refine r_aload_n dX9_compare_2_50 rfl rfl ?_
  refine r_iload dX9_compare_2_51 rfl ?_
  obtain ⟨k18, H⟩ := H
  refine r_invV (y := m_X2_massBehind) dX9_compare_2_53 rfl (lw_V q1322 q1307 q1308 q108 q1309) py_X2_massBehind (Nat.le_of_ble_eq_true rfl) (args := [_, _]) rfl rfl (Nat.le_of_ble_eq_true rfl) k18 (by decide) rfl (C.monoE H (fun o h19 _ x21 K => cont_I K (fun v20 H => ?_) (fun r HX => XR_nc rfl HX)))
  refine r_aload_n dX9_compare_2_56 rfl rfl ?_
  refine r_getG fr_X9_1_10 (by decide) dX9_compare_2_57 (x21.kd (x16.kd (x11.kd (x6.kd k1 (by decide)) (by decide)) (by decide)) (by decide)) (by decide) ?_
  obtain ⟨k22, H⟩ := H
  refine r_getG fr_X9_13_1 (by decide) dX9_compare_2_60 k22 (by decide) ?_
  refine r_aload_n dX9_compare_2_63 rfl rfl ?_
  refine r_iload_n dX9_compare_2_64 rfl rfl ?_
  obtain ⟨k23, H⟩ := H
  refine r_invV (y := m_X2_massBehind) dX9_compare_2_65 rfl (lw_V q1322 q1307 q1308 q108 q1309) py_X2_massBehind (Nat.le_of_ble_eq_true rfl) (args := [_, _]) rfl rfl (Nat.le_of_ble_eq_true rfl) k23 (by decide) rfl (C.monoE H (fun o h24 _ x26 K => cont_I K (fun v25 H => ?_) (fun r HX => XR_nc rfl HX)))
  refine r_invS (y := m_J26_compare) dX9_compare_2_68 rfl (lw_S q1319 q1320 q139 q1321) py_J26_compare (Nat.le_of_ble_eq_true rfl) (args := [_, _]) rfl rfl (Nat.le_of_ble_eq_true rfl) (C.monoE H (fun o h27 _ x29 K => cont_I K (fun v28 H => ?_) (fun r HX => XR_nc rfl HX)))
  refine r_istore dX9_compare_2_71 (Nat.le_of_ble_eq_true rfl) rfl (slS (slS (slS (slS (slS (slS sl0)))))) ?_
  refine r_iload dX9_compare_2_73 rfl ?_
  refine r_if_eq (tgt := 83) dX9_compare_2_75 rfl (fun b30 => ?_) (fun b30 => ?_)
  · replace H := H.1 b30
    refine r_iload dX9_compare_2_83 rfl ?_
    refine r_if_eq (tgt := 93) dX9_compare_2_85 rfl (fun b31 => ?_) (fun b31 => ?_)
    · replace H := H.1 b31
      refine r_aload_n dX9_compare_2_93 rfl rfl ?_
      refine r_getF fr_X9_41_4 (by decide) dX9_compare_2_94 (x29.kd (x26.kd (x21.kd (x16.kd k13 (by decide)) (by decide)) (by decide)) (by decide)) (by decide) ?_
      refine r_aload_n dX9_compare_2_97 rfl rfl ?_
      refine r_getF fr_X9_41_4 (by decide) dX9_compare_2_98 (x29.kd (x26.kd (x21.kd (x16.kd k12 (by decide)) (by decide)) (by decide)) (by decide)) (by decide) ?_
      refine r_invS (y := m_J26_compare) dX9_compare_2_101 rfl (lw_S q1319 q1320 q139 q1321) py_J26_compare (Nat.le_of_ble_eq_true rfl) (args := [_, _]) rfl rfl (Nat.le_of_ble_eq_true rfl) (C.monoE H (fun o h32 _ x34 K => cont_I K (fun v33 H => ?_) (fun r HX => XR_nc rfl HX)))
      exact r_iret dX9_compare_2_104 rfl H
    · replace H := H.2 b31
      refine r_iload dX9_compare_2_88 rfl ?_
      refine r_goto (tgt := 104) dX9_compare_2_90 rfl ?_
      exact r_iret dX9_compare_2_104 rfl H
  · replace H := H.2 b30
    refine r_iload dX9_compare_2_78 rfl ?_
    refine r_goto (tgt := 104) dX9_compare_2_80 rfl ?_
    exact r_iret dX9_compare_2_104 rfl H
theorem c_X9_compare_2_0 {g : PG} {d : Nat} {l0 : Nat} {l1 : Nat} {l2 : Nat} {h : PH} {Q : Out → PH → Prop} (H : w_X9_compare_2_0 g d l0 l1 l2 h Q) : C g (d + 1) m_X9_compare_2 [.ref l0, .ref l1, .ref l2] h Q := C_of_R rfl rfl (Nat.le_of_ble_eq_true rfl) rfl (v_X9_compare_2_0 H)
abbrev w_X9_init_0 (g : PG) (d : Nat) (l0 : Nat) (l1 : Nat) (h : PH) (Q : Out → PH → Prop) : Prop := hkd h l0 = 10 ∧ ∀ h2, h2 = setG 520 l0 l1 h → 0 < l0 ∧ Q (.inl none) h2
theorem v_X9_init_0 {g : PG} {d : Nat} {l0 : Nat} {l1 : Nat} {h : PH} {Q : Out → PH → Prop} (H : w_X9_init_0 g d l0 l1 h Q) : R g d m_X9_init 0 [.ref l0, .ref l1] [] h Q := by
  refine r_aload_n dX9_init_0 rfl rfl ?_
  refine r_aload_n dX9_init_1 rfl rfl ?_
  obtain ⟨k1, H⟩ := H
  replace H := H _ rfl
  refine r_putG fw_X9_1_10_i (by decide) dX9_init_2 k1 (by decide) rfl ?_
  refine r_aload_n dX9_init_5 rfl rfl ?_
  obtain ⟨k3, H⟩ := H
  refine r_oinit dX9_init_6 q2760 q182 q183 k3 (Nat.le_of_ble_eq_true rfl) ?_
  exact r_vret dX9_init_9 rfl H
theorem c_X9_init_0 {g : PG} {d : Nat} {l0 : Nat} {l1 : Nat} {h : PH} {Q : Out → PH → Prop} (H : w_X9_init_0 g d l0 l1 h Q) : C g (d + 1) m_X9_init [.ref l0, .ref l1] h Q := C_of_R rfl rfl (Nat.le_of_ble_eq_true rfl) rfl (v_X9_init_0 H)
