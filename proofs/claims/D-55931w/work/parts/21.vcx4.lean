/-! ===== VC lemmas (printed by gen/mk_vc.py) ===== -/
set_option maxRecDepth 100000
abbrev w_X4_init_84 (g : PG) (d : Nat) (l0 : Nat) (l1 : Int32) (h : PH) (Q : Out → PH → Prop) : Prop := (((12 : Int32) ≤ l1) → Q (.inl none) h) ∧ ((¬ (12 : Int32) ≤ l1) → hkd h l0 = 12 ∧ hkd h (hG h 521 l0) / 100 = 1 ∧ hkd h (hG h 521 l0) % 100 < 50 ∧ vp_in ((3 : Int32) + ((3 : Int32) * l1)) (hln h (hG h 521 l0)) ∧ ∀ h6, h6 = setA (hG h 521 l0) ((3 : Int32) + ((3 : Int32) * l1)).toNatClampNeg (1 : Int32) h → R g d m_X4_init 84 [.ref l0, .int (l1 + 1)] [] h6 Q)
theorem v_X4_init_84 {g : PG} {d : Nat} {l0 : Nat} {l1 : Int32} {h : PH} {Q : Out → PH → Prop} (H : w_X4_init_84 g d l0 l1 h Q) : R g d m_X4_init 84 [.ref l0, .int l1] [] h Q := by
  refine r_iload_n dX4_init_84 rfl rfl ?_
  refine r_bipush dX4_init_85 rfl ?_
  refine r_icmp_ge (tgt := 107) dX4_init_87 rfl (fun b1 => ?_) (fun b1 => ?_)
  · replace H := H.1 b1
    exact r_vret dX4_init_107 rfl H
  · replace H := H.2 b1
    refine r_aload_n dX4_init_90 rfl rfl ?_
    obtain ⟨k2, H⟩ := H
    refine r_getG fr_X4_9_12 (by decide) dX4_init_91 k2 (by decide) ?_
    refine r_iconst dX4_init_94 rfl ?_
    refine r_iconst dX4_init_95 rfl ?_
    refine r_iload_n dX4_init_96 rfl rfl ?_
    refine r_imul dX4_init_97 ?_
    refine r_iadd dX4_init_98 ?_
    refine r_iconst dX4_init_99 rfl ?_
    obtain ⟨k3, H⟩ := H
    obtain ⟨k4, H⟩ := H
    obtain ⟨k5, H⟩ := H
    replace H := H _ rfl
    refine r_iast dX4_init_100 k3 k4 k5 ?_
    refine r_iinc dX4_init_101 rfl rfl (Nat.le_of_ble_eq_true rfl) rfl (slS sl0) ?_
    refine r_goto (tgt := 84) dX4_init_104 rfl ?_
    exact H
abbrev w_X4_init_0 (g : PG) (d : Nat) (l0 : Nat) (h : PH) (Q : Out → PH → Prop) : Prop := 0 < l0 ∧ ¬ (127 : Int32) < 0 ∧ (127 : Int32).toNatClampNeg ≤ 67108864 ∧ ∀ h4, h4 = hnew 100 (127 : Int32).toNatClampNeg ((127 : Int32).toNatClampNeg + 1) h → hkd h4 l0 = 12 ∧ ∀ h6, h6 = setG 521 l0 (hnx h) h4 → ∀ h9, h9 = hnew 100 (127 : Int32).toNatClampNeg ((127 : Int32).toNatClampNeg + 1) h6 → hkd h9 l0 = 12 ∧ ∀ h11, h11 = setG 522 l0 (hnx h6) h9 → ∀ h14, h14 = hnew 100 (127 : Int32).toNatClampNeg ((127 : Int32).toNatClampNeg + 1) h11 → hkd h14 l0 = 12 ∧ ∀ h16, h16 = setG 523 l0 (hnx h11) h14 → ¬ (1016 : Int32) < 0 ∧ (1016 : Int32).toNatClampNeg ≤ 67108864 ∧ ∀ h19, h19 = hnew 100 (1016 : Int32).toNatClampNeg ((1016 : Int32).toNatClampNeg + 1) h16 → hkd h19 l0 = 12 ∧ ∀ h21, h21 = setG 524 l0 (hnx h16) h19 → ∀ h24, h24 = hnew 100 (127 : Int32).toNatClampNeg ((127 : Int32).toNatClampNeg + 1) h21 → hkd h24 l0 = 12 ∧ ∀ h26, h26 = setG 525 l0 (hnx h21) h24 → ¬ (120 : Int32) < 0 ∧ (120 : Int32).toNatClampNeg ≤ 67108864 ∧ ∀ h29, h29 = hnew 200 (120 : Int32).toNatClampNeg ((120 : Int32).toNatClampNeg + 1) h26 → hkd h29 l0 = 12 ∧ ∀ h31, h31 = setG 526 l0 (hnx h26) h29 → ¬ (50 : Int32) < 0 ∧ (50 : Int32).toNatClampNeg ≤ 67108864 ∧ ∀ h34, h34 = hnew 200 (50 : Int32).toNatClampNeg ((50 : Int32).toNatClampNeg + 1) h31 → hkd h34 l0 = 12 ∧ ∀ h36, h36 = setG 527 l0 (hnx h31) h34 → ∀ h37, h37 = setG 528 l0 (gSr g 41 + 1) h36 → ¬ (3 : Int32) < 0 ∧ (3 : Int32).toNatClampNeg ≤ 67108864 ∧ ∀ h40, h40 = hnew 100 (3 : Int32).toNatClampNeg ((3 : Int32).toNatClampNeg + 1) h37 → hkd h40 l0 = 12 ∧ ∀ h42, h42 = setG 529 l0 (hnx h37) h40 → ¬ (6 : Int32) < 0 ∧ (6 : Int32).toNatClampNeg ≤ 67108864 ∧ ∀ h45, h45 = hnew 100 (6 : Int32).toNatClampNeg ((6 : Int32).toNatClampNeg + 1) h42 → hkd h45 l0 = 12 ∧ ∀ h47, h47 = setG 530 l0 (hnx h42) h45 → R g d m_X4_init 84 [.ref l0, .int 0] [] h47 Q
theorem v_X4_init_0 {g : PG} {d : Nat} {l0 : Nat} {h : PH} {Q : Out → PH → Prop} (H : w_X4_init_0 g d l0 h Q) : R g d m_X4_init 0 [.ref l0, .null] [] h Q := by
  refine r_aload_n dX4_init_0 rfl rfl ?_
  obtain ⟨k1, H⟩ := H
  refine r_oinit dX4_init_1 q3245 q182 q183 k1 (Nat.le_of_ble_eq_true rfl) ?_
  refine r_aload_n dX4_init_4 rfl rfl ?_
  refine r_bipush dX4_init_5 rfl ?_
  obtain ⟨k2, H⟩ := H
  obtain ⟨k3, H⟩ := H
  replace H := H _ rfl
  refine r_newa (atype := .int) (m := 1) (kk := 100) dX4_init_7 rfl (by decide) (by decide) q262 k2 rfl (newB k3 (by decide)) ?_
  obtain ⟨k5, H⟩ := H
  replace H := H _ rfl
  refine r_putG fw_X4_9_12_i (by decide) dX4_init_9 k5 (by decide) rfl ?_
  refine r_aload_n dX4_init_12 rfl rfl ?_
  refine r_bipush dX4_init_13 rfl ?_
  replace H := H _ rfl
  refine r_newa (atype := .int) (m := 1) (kk := 100) dX4_init_15 rfl (by decide) (by decide) q262 k2 rfl (newB k3 (by decide)) ?_
  obtain ⟨k10, H⟩ := H
  replace H := H _ rfl
  refine r_putG fw_X4_13_12_i (by decide) dX4_init_17 k10 (by decide) rfl ?_
  refine r_aload_n dX4_init_20 rfl rfl ?_
  refine r_bipush dX4_init_21 rfl ?_
  replace H := H _ rfl
  refine r_newa (atype := .int) (m := 1) (kk := 100) dX4_init_23 rfl (by decide) (by decide) q262 k2 rfl (newB k3 (by decide)) ?_
  obtain ⟨k15, H⟩ := H
  replace H := H _ rfl
  refine r_putG fw_X4_16_12_i (by decide) dX4_init_25 k15 (by decide) rfl ?_
  refine r_aload_n dX4_init_28 rfl rfl ?_
  refine r_sipush dX4_init_29 rfl ?_
  obtain ⟨k17, H⟩ := H
  obtain ⟨k18, H⟩ := H
  replace H := H _ rfl
  refine r_newa (atype := .int) (m := 1) (kk := 100) dX4_init_32 rfl (by decide) (by decide) q262 k17 rfl (newB k18 (by decide)) ?_
  obtain ⟨k20, H⟩ := H
  replace H := H _ rfl
  refine r_putG fw_X4_19_12_i (by decide) dX4_init_34 k20 (by decide) rfl ?_
  refine r_aload_n dX4_init_37 rfl rfl ?_
  refine r_bipush dX4_init_38 rfl ?_
  replace H := H _ rfl
  refine r_newa (atype := .int) (m := 1) (kk := 100) dX4_init_40 rfl (by decide) (by decide) q262 k2 rfl (newB k3 (by decide)) ?_
  obtain ⟨k25, H⟩ := H
  replace H := H _ rfl
  refine r_putG fw_X4_22_12_i (by decide) dX4_init_42 k25 (by decide) rfl ?_
  refine r_aload_n dX4_init_45 rfl rfl ?_
  refine r_bipush dX4_init_46 rfl ?_
  obtain ⟨k27, H⟩ := H
  obtain ⟨k28, H⟩ := H
  replace H := H _ rfl
  refine r_newa (atype := .char) (m := 2) (kk := 200) dX4_init_48 rfl (by decide) (by decide) q424 k27 rfl (newB k28 (by decide)) ?_
  obtain ⟨k30, H⟩ := H
  replace H := H _ rfl
  refine r_putG fw_X4_25_12_i (by decide) dX4_init_50 k30 (by decide) rfl ?_
  refine r_aload_n dX4_init_53 rfl rfl ?_
  refine r_bipush dX4_init_54 rfl ?_
  obtain ⟨k32, H⟩ := H
  obtain ⟨k33, H⟩ := H
  replace H := H _ rfl
  refine r_newa (atype := .char) (m := 2) (kk := 200) dX4_init_56 rfl (by decide) (by decide) q424 k32 rfl (newB k33 (by decide)) ?_
  obtain ⟨k35, H⟩ := H
  replace H := H _ rfl
  refine r_putG fw_X4_29_12_i (by decide) dX4_init_58 k35 (by decide) rfl ?_
  refine r_aload_n dX4_init_61 rfl rfl ?_
  refine r_ldcS (n := 41) dX4_init_62 rfl ?_
  replace H := H _ rfl
  refine r_putG fw_X4_34_12_i (by decide) dX4_init_64 k35 (by decide) rfl ?_
  refine r_aload_n dX4_init_67 rfl rfl ?_
  refine r_iconst dX4_init_68 rfl ?_
  obtain ⟨k38, H⟩ := H
  obtain ⟨k39, H⟩ := H
  replace H := H _ rfl
  refine r_newa (atype := .int) (m := 1) (kk := 100) dX4_init_69 rfl (by decide) (by decide) q262 k38 rfl (newB k39 (by decide)) ?_
  obtain ⟨k41, H⟩ := H
  replace H := H _ rfl
  refine r_putG fw_X4_38_12_i (by decide) dX4_init_71 k41 (by decide) rfl ?_
  refine r_aload_n dX4_init_74 rfl rfl ?_
  refine r_bipush dX4_init_75 rfl ?_
  obtain ⟨k43, H⟩ := H
  obtain ⟨k44, H⟩ := H
  replace H := H _ rfl
  refine r_newa (atype := .int) (m := 1) (kk := 100) dX4_init_77 rfl (by decide) (by decide) q262 k43 rfl (newB k44 (by decide)) ?_
  obtain ⟨k46, H⟩ := H
  replace H := H _ rfl
  refine r_putG fw_X4_41_12_i (by decide) dX4_init_79 k46 (by decide) rfl ?_
  refine r_iconst dX4_init_82 rfl ?_
  refine r_istore_n dX4_init_83 rfl (Nat.le_of_ble_eq_true rfl) rfl (slS sl0) ?_
  exact H
theorem c_X4_init_0 {g : PG} {d : Nat} {l0 : Nat} {h : PH} {Q : Out → PH → Prop} (H : w_X4_init_0 g d l0 h Q) : C g (d + 1) m_X4_init [.ref l0] h Q := C_of_R rfl rfl (Nat.le_of_ble_eq_true rfl) rfl (v_X4_init_0 H)
abbrev w_X4_thrown_0 (g : PG) (d : Nat) (l0 : Nat) (h : PH) (Q : Out → PH → Prop) : Prop := hkd h l0 = 12 ∧ Q (.inl (some (.int (hF h 33 l0)))) h
theorem v_X4_thrown_0 {g : PG} {d : Nat} {l0 : Nat} {h : PH} {Q : Out → PH → Prop} (H : w_X4_thrown_0 g d l0 h Q) : R g d m_X4_thrown 0 [.ref l0] [] h Q := by
  refine r_aload_n dX4_thrown_0 rfl rfl ?_
  obtain ⟨k1, H⟩ := H
  refine r_getF fr_X4_44_12 (by decide) dX4_thrown_1 k1 (by decide) ?_
  exact r_iret dX4_thrown_4 rfl H
theorem c_X4_thrown_0 {g : PG} {d : Nat} {l0 : Nat} {h : PH} {Q : Out → PH → Prop} (H : w_X4_thrown_0 g d l0 h Q) : C g (d + 1) m_X4_thrown [.ref l0] h Q := C_of_R rfl rfl (Nat.le_of_ble_eq_true rfl) rfl (v_X4_thrown_0 H)
abbrev w_X4_come_0 (g : PG) (d : Nat) (l0 : Nat) (l1 : Int32) (l2 : Int32) (l3 : Int32) (h : PH) (Q : Out → PH → Prop) : Prop := hkd h l0 = 12 ∧ C g d m_X4_tries [.ref l0] h (oV (fun h2 => C g d m_X4_comes [.ref l0, .int l1, .int l2, .int l3] h2 (oI (fun v6 h5 => C g d m_X4_ends [.ref l0, .int v6, .int 3] h5 (oI (fun v9 h8 => Q (.inl (some (.int v9))) h8) (fun r hx => Q (.inr r) hx))) (fun r hx => Q (.inr r) hx))) (fun r hx => Q (.inr r) hx))
theorem v_X4_come_0 {g : PG} {d : Nat} {l0 : Nat} {l1 : Int32} {l2 : Int32} {l3 : Int32} {h : PH} {Q : Out → PH → Prop} (H : w_X4_come_0 g d l0 l1 l2 l3 h Q) : R g d m_X4_come 0 [.ref l0, .int l1, .int l2, .int l3] [] h Q := by
  refine r_aload_n dX4_come_0 rfl rfl ?_
  obtain ⟨k1, H⟩ := H
  refine r_invV (y := m_X4_tries) dX4_come_1 rfl (lw_V q3307 q3309 qp67 q122 q3310) py_X4_tries (Nat.le_of_ble_eq_true rfl) (args := []) rfl rfl (Nat.le_of_ble_eq_true rfl) k1 (by decide) rfl (C.monoE H (fun o h2 _ x4 K => cont_V K (fun H => ?_) (fun r HX => XR_nc rfl HX)))
  refine r_aload_n dX4_come_4 rfl rfl ?_
  refine r_aload_n dX4_come_5 rfl rfl ?_
  refine r_iload_n dX4_come_6 rfl rfl ?_
  refine r_iload_n dX4_come_7 rfl rfl ?_
  refine r_iload_n dX4_come_8 rfl rfl ?_
  refine r_invV (y := m_X4_comes) dX4_come_9 rfl (lw_V q3311 q3313 qp68 q122 q3314) py_X4_comes (Nat.le_of_ble_eq_true rfl) (args := [_, _, _]) rfl rfl (Nat.le_of_ble_eq_true rfl) (x4.kd k1 (by decide)) (by decide) rfl (C.monoE H (fun o h5 _ x7 K => cont_I K (fun v6 H => ?_) (fun r HX => XR_nc rfl HX)))
  refine r_iconst dX4_come_12 rfl ?_
  refine r_invV (y := m_X4_ends) dX4_come_13 rfl (lw_V q3338 q3340 qp74 q122 q3341) py_X4_ends (Nat.le_of_ble_eq_true rfl) (args := [_, _]) rfl rfl (Nat.le_of_ble_eq_true rfl) (x7.kd (x4.kd k1 (by decide)) (by decide)) (by decide) rfl (C.monoE H (fun o h8 _ x10 K => cont_I K (fun v9 H => ?_) (fun r HX => XR_nc rfl HX)))
  exact r_iret dX4_come_16 rfl H
theorem c_X4_come_0 {g : PG} {d : Nat} {l0 : Nat} {l1 : Int32} {l2 : Int32} {l3 : Int32} {h : PH} {Q : Out → PH → Prop} (H : w_X4_come_0 g d l0 l1 l2 l3 h Q) : C g (d + 1) m_X4_come [.ref l0, .int l1, .int l2, .int l3] h Q := C_of_R rfl rfl (Nat.le_of_ble_eq_true rfl) rfl (v_X4_come_0 H)
abbrev w_X4_tries_7 (g : PG) (d : Nat) (l0 : Nat) (l1 : Int32) (h : PH) (Q : Out → PH → Prop) : Prop := (((127 : Int32) ≤ l1) → Q (.inl none) h) ∧ ((¬ (127 : Int32) ≤ l1) → hkd h l0 = 12 ∧ hkd h (hG h 521 l0) / 100 = 1 ∧ vp_in l1 (hln h (hG h 521 l0)) ∧ hkd h (hG h 522 l0) / 100 = 1 ∧ hkd h (hG h 522 l0) % 100 < 50 ∧ vp_in l1 (hln h (hG h 522 l0)) ∧ ∀ h8, h8 = setA (hG h 522 l0) l1.toNatClampNeg (hA h (hG h 521 l0) l1.toNatClampNeg) h → R g d m_X4_tries 7 [.ref l0, .int (l1 + 1)] [] h8 Q)
theorem v_X4_tries_7 {g : PG} {d : Nat} {l0 : Nat} {l1 : Int32} {h : PH} {Q : Out → PH → Prop} (H : w_X4_tries_7 g d l0 l1 h Q) : R g d m_X4_tries 7 [.ref l0, .int l1] [] h Q := by
  refine r_iload_n dX4_tries_7 rfl rfl ?_
  refine r_bipush dX4_tries_8 rfl ?_
  refine r_icmp_ge (tgt := 31) dX4_tries_10 rfl (fun b1 => ?_) (fun b1 => ?_)
  · replace H := H.1 b1
    exact r_vret dX4_tries_31 rfl H
  · replace H := H.2 b1
    refine r_aload_n dX4_tries_13 rfl rfl ?_
    obtain ⟨k2, H⟩ := H
    refine r_getG fr_X4_13_12 (by decide) dX4_tries_14 k2 (by decide) ?_
    refine r_iload_n dX4_tries_17 rfl rfl ?_
    refine r_aload_n dX4_tries_18 rfl rfl ?_
    refine r_getG fr_X4_9_12 (by decide) dX4_tries_19 k2 (by decide) ?_
    refine r_iload_n dX4_tries_22 rfl rfl ?_
    obtain ⟨k3, H⟩ := H
    obtain ⟨k4, H⟩ := H
    refine r_iald dX4_tries_23 k3 k4 ?_
    obtain ⟨k5, H⟩ := H
    obtain ⟨k6, H⟩ := H
    obtain ⟨k7, H⟩ := H
    replace H := H _ rfl
    refine r_iast dX4_tries_24 k5 k6 k7 ?_
    refine r_iinc dX4_tries_25 rfl rfl (Nat.le_of_ble_eq_true rfl) rfl (slS sl0) ?_
    refine r_goto (tgt := 7) dX4_tries_28 rfl ?_
    exact H
abbrev w_X4_tries_0 (g : PG) (d : Nat) (l0 : Nat) (h : PH) (Q : Out → PH → Prop) : Prop := hkd h l0 = 12 ∧ ∀ h2, h2 = setF 33 l0 (0 : Int32) h → R g d m_X4_tries 7 [.ref l0, .int 0] [] h2 Q
theorem v_X4_tries_0 {g : PG} {d : Nat} {l0 : Nat} {h : PH} {Q : Out → PH → Prop} (H : w_X4_tries_0 g d l0 h Q) : R g d m_X4_tries 0 [.ref l0, .null] [] h Q := by
  refine r_aload_n dX4_tries_0 rfl rfl ?_
  refine r_iconst dX4_tries_1 rfl ?_
  obtain ⟨k1, H⟩ := H
  replace H := H _ rfl
  refine r_putF fw_X4_44_12 (by decide) dX4_tries_2 k1 (by decide) rfl rfl ?_
  refine r_iconst dX4_tries_5 rfl ?_
  refine r_istore_n dX4_tries_6 rfl (Nat.le_of_ble_eq_true rfl) rfl (slS sl0) ?_
  exact H
theorem c_X4_tries_0 {g : PG} {d : Nat} {l0 : Nat} {h : PH} {Q : Out → PH → Prop} (H : w_X4_tries_0 g d l0 h Q) : C g (d + 1) m_X4_tries [.ref l0] h Q := C_of_R rfl rfl (Nat.le_of_ble_eq_true rfl) rfl (v_X4_tries_0 H)
abbrev w_X4_comes_145 (g : PG) (d : Nat) (l0 : Nat) (l4 : Int32) (h : PH) (Q : Out → PH → Prop) : Prop := hkd h l0 = 12 ∧ C g d m_X4_does [.ref l0, .int l4] h (oI (fun v3 h2 => Q (.inl (some (.int v3))) h2) (fun r hx => Q (.inr r) hx))
theorem v_X4_comes_145 {g : PG} {d : Nat} {l0 : Nat} {l4 : Int32} {h : PH} {Q : Out → PH → Prop} (H : w_X4_comes_145 g d l0 l4 h Q) : R g d m_X4_comes 145 [.ref l0, .null, .null, .null, .int l4, .null] [] h Q := by
  refine r_aload_n dX4_comes_145 rfl rfl ?_
  refine r_iload dX4_comes_146 rfl ?_
  obtain ⟨k1, H⟩ := H
  refine r_invV (y := m_X4_does) dX4_comes_148 rfl (lw_V q3334 q3336 qp73 q122 q3337) py_X4_does (Nat.le_of_ble_eq_true rfl) (args := [_]) rfl rfl (Nat.le_of_ble_eq_true rfl) k1 (by decide) rfl (C.monoE H (fun o h2 _ x4 K => cont_I K (fun v3 H => ?_) (fun r HX => XR_nc rfl HX)))
  exact r_iret dX4_comes_151 rfl H
abbrev w_X4_comes_68 (g : PG) (d : Nat) (l0 : Nat) (l1 : Int32) (l2 : Int32) (l3 : Int32) (l4 : Int32) (l5 : Int32) (h : PH) (Q : Out → PH → Prop) : Prop := (((6 : Int32) ≤ l5) → hkd h l0 = 12 ∧ C g d m_X4_sets [.ref l0, .int l4, .int 0, .int l1] h (oV (fun h3 => C g d m_X4_sets [.ref l0, .int l4, .int 1, .int l2] h3 (oV (fun h6 => C g d m_X4_sets [.ref l0, .int l4, .int 2, .int l3] h6 (oV (fun h9 => C g d m_X4_sets [.ref l0, .int l4, .int 3, .int 1] h9 (oV (fun h12 => C g d m_X4_hat [.ref l0, .int l1] h12 (oI (fun v16 h15 => ((¬ v16 = 0) → w_X4_comes_145 g d l0 l4 h15 Q) ∧ ((v16 = 0) → hkd h15 (hG h15 521 l0) / 100 = 1 ∧ hkd h15 (hG h15 521 l0) % 100 < 50 ∧ vp_in ((39 : Int32) + ((3 : Int32) * l1)) (hln h15 (hG h15 521 l0)) ∧ ∀ h22, h22 = setA (hG h15 521 l0) ((39 : Int32) + ((3 : Int32) * l1)).toNatClampNeg (l4 + (1 : Int32)) h15 → w_X4_comes_145 g d l0 l4 h22 Q)) (fun r hx => Q (.inr r) hx))) (fun r hx => Q (.inr r) hx))) (fun r hx => Q (.inr r) hx))) (fun r hx => Q (.inr r) hx))) (fun r hx => Q (.inr r) hx))) ∧ ((¬ (6 : Int32) ≤ l5) → hkd h l0 = 12 ∧ C g d m_X4_sets [.ref l0, .int l4, .int l5, .int 0] h (oV (fun h24 => R g d m_X4_comes 68 [.ref l0, .int l1, .int l2, .int l3, .int l4, .int (l5 + 1)] [] h24 Q) (fun r hx => Q (.inr r) hx)))
theorem v_X4_comes_68 {g : PG} {d : Nat} {l0 : Nat} {l1 : Int32} {l2 : Int32} {l3 : Int32} {l4 : Int32} {l5 : Int32} {h : PH} {Q : Out → PH → Prop} (H : w_X4_comes_68 g d l0 l1 l2 l3 l4 l5 h Q) : R g d m_X4_comes 68 [.ref l0, .int l1, .int l2, .int l3, .int l4, .int l5] [] h Q := by
  refine r_iload dX4_comes_68 rfl ?_
  refine r_bipush dX4_comes_70 rfl ?_
  refine r_icmp_ge (tgt := 90) dX4_comes_72 rfl (fun b1 => ?_) (fun b1 => ?_)
  · replace H := H.1 b1
    refine r_aload_n dX4_comes_90 rfl rfl ?_
    refine r_iload dX4_comes_91 rfl ?_
    refine r_iconst dX4_comes_93 rfl ?_
    refine r_iload_n dX4_comes_94 rfl rfl ?_
    obtain ⟨k2, H⟩ := H
    refine r_invV (y := m_X4_sets) dX4_comes_95 rfl (lw_V q3326 q3328 qp71 q122 q3329) py_X4_sets (Nat.le_of_ble_eq_true rfl) (args := [_, _, _]) rfl rfl (Nat.le_of_ble_eq_true rfl) k2 (by decide) rfl (C.monoE H (fun o h3 _ x5 K => cont_V K (fun H => ?_) (fun r HX => XR_nc rfl HX)))
    refine r_aload_n dX4_comes_98 rfl rfl ?_
    refine r_iload dX4_comes_99 rfl ?_
    refine r_iconst dX4_comes_101 rfl ?_
    refine r_iload_n dX4_comes_102 rfl rfl ?_
    refine r_invV (y := m_X4_sets) dX4_comes_103 rfl (lw_V q3326 q3328 qp71 q122 q3329) py_X4_sets (Nat.le_of_ble_eq_true rfl) (args := [_, _, _]) rfl rfl (Nat.le_of_ble_eq_true rfl) (x5.kd k2 (by decide)) (by decide) rfl (C.monoE H (fun o h6 _ x8 K => cont_V K (fun H => ?_) (fun r HX => XR_nc rfl HX)))
    refine r_aload_n dX4_comes_106 rfl rfl ?_
    refine r_iload dX4_comes_107 rfl ?_
    refine r_iconst dX4_comes_109 rfl ?_
    refine r_iload_n dX4_comes_110 rfl rfl ?_
    refine r_invV (y := m_X4_sets) dX4_comes_111 rfl (lw_V q3326 q3328 qp71 q122 q3329) py_X4_sets (Nat.le_of_ble_eq_true rfl) (args := [_, _, _]) rfl rfl (Nat.le_of_ble_eq_true rfl) (x8.kd (x5.kd k2 (by decide)) (by decide)) (by decide) rfl (C.monoE H (fun o h9 _ x11 K => cont_V K (fun H => ?_) (fun r HX => XR_nc rfl HX)))
    refine r_aload_n dX4_comes_114 rfl rfl ?_
    refine r_iload dX4_comes_115 rfl ?_
    refine r_iconst dX4_comes_117 rfl ?_
    refine r_iconst dX4_comes_118 rfl ?_
    refine r_invV (y := m_X4_sets) dX4_comes_119 rfl (lw_V q3326 q3328 qp71 q122 q3329) py_X4_sets (Nat.le_of_ble_eq_true rfl) (args := [_, _, _]) rfl rfl (Nat.le_of_ble_eq_true rfl) (x11.kd (x8.kd (x5.kd k2 (by decide)) (by decide)) (by decide)) (by decide) rfl (C.monoE H (fun o h12 _ x14 K => cont_V K (fun H => ?_) (fun r HX => XR_nc rfl HX)))
    refine r_aload_n dX4_comes_122 rfl rfl ?_
    refine r_iload_n dX4_comes_123 rfl rfl ?_
    refine r_invV (y := m_X4_hat) dX4_comes_124 rfl (lw_V q3330 q3332 qp72 q122 q3333) py_X4_hat (Nat.le_of_ble_eq_true rfl) (args := [_]) rfl rfl (Nat.le_of_ble_eq_true rfl) (x14.kd (x11.kd (x8.kd (x5.kd k2 (by decide)) (by decide)) (by decide)) (by decide)) (by decide) rfl (C.monoE H (fun o h15 _ x17 K => cont_I K (fun v16 H => ?_) (fun r HX => XR_nc rfl HX)))
    refine r_if_ne (tgt := 145) dX4_comes_127 rfl (fun b18 => ?_) (fun b18 => ?_)
    · replace H := H.1 b18
      exact R.forget (v_X4_comes_145 H) ⟨Or.inl rfl, ⟨Or.inr rfl, ⟨Or.inr rfl, ⟨Or.inr rfl, ⟨Or.inl rfl, ⟨Or.inr rfl, trivial⟩⟩⟩⟩⟩⟩
    · replace H := H.2 b18
      refine r_aload_n dX4_comes_130 rfl rfl ?_
      refine r_getG fr_X4_9_12 (by decide) dX4_comes_131 (x17.kd (x14.kd (x11.kd (x8.kd (x5.kd k2 (by decide)) (by decide)) (by decide)) (by decide)) (by decide)) (by decide) ?_
      refine r_bipush dX4_comes_134 rfl ?_
      refine r_iconst dX4_comes_136 rfl ?_
      refine r_iload_n dX4_comes_137 rfl rfl ?_
      refine r_imul dX4_comes_138 ?_
      refine r_iadd dX4_comes_139 ?_
      refine r_iload dX4_comes_140 rfl ?_
      refine r_iconst dX4_comes_142 rfl ?_
      refine r_iadd dX4_comes_143 ?_
      obtain ⟨k19, H⟩ := H
      obtain ⟨k20, H⟩ := H
      obtain ⟨k21, H⟩ := H
      replace H := H _ rfl
      refine r_iast dX4_comes_144 k19 k20 k21 ?_
      exact R.forget (v_X4_comes_145 H) ⟨Or.inl rfl, ⟨Or.inr rfl, ⟨Or.inr rfl, ⟨Or.inr rfl, ⟨Or.inl rfl, ⟨Or.inr rfl, trivial⟩⟩⟩⟩⟩⟩
  · replace H := H.2 b1
    refine r_aload_n dX4_comes_75 rfl rfl ?_
    refine r_iload dX4_comes_76 rfl ?_
    refine r_iload dX4_comes_78 rfl ?_
    refine r_iconst dX4_comes_80 rfl ?_
    obtain ⟨k23, H⟩ := H
    refine r_invV (y := m_X4_sets) dX4_comes_81 rfl (lw_V q3326 q3328 qp71 q122 q3329) py_X4_sets (Nat.le_of_ble_eq_true rfl) (args := [_, _, _]) rfl rfl (Nat.le_of_ble_eq_true rfl) k23 (by decide) rfl (C.monoE H (fun o h24 _ x26 K => cont_V K (fun H => ?_) (fun r HX => XR_nc rfl HX)))
    refine r_iinc dX4_comes_84 rfl rfl (Nat.le_of_ble_eq_true rfl) rfl (slS (slS (slS (slS (slS sl0))))) ?_
    refine r_goto (tgt := 68) dX4_comes_87 rfl ?_
    exact H
abbrev w_X4_comes_0 (g : PG) (d : Nat) (l0 : Nat) (l1 : Int32) (l2 : Int32) (l3 : Int32) (h : PH) (Q : Out → PH → Prop) : Prop := C g d m_X4_in [.int l2, .int 0, .int 10] h (oI (fun v2 h1 => ((¬ v2 = 0) → C g d m_X4_in [.int l1, .int 0, .int 2] h1 (oI (fun v6 h5 => ((v6 = 0) → Q (.inl (some (.int 2))) h5) ∧ ((¬ v6 = 0) → C g d m_X4_in [.int l3, .int 1, .int 60] h5 (oI (fun v10 h9 => ((¬ v10 = 0) → hkd h9 l0 = 12 ∧ hkd h9 (hG h9 521 l0) / 100 = 1 ∧ vp_in (0 : Int32) (hln h9 (hG h9 521 l0)) ∧ ((¬ (hA h9 (hG h9 521 l0) (0 : Int32).toNatClampNeg) = (9 : Int32)) → hkd h9 (hG h9 521 l0) % 100 < 50 ∧ ∀ h22, h22 = setA (hG h9 521 l0) (0 : Int32).toNatClampNeg ((hA h9 (hG h9 521 l0) (0 : Int32).toNatClampNeg) + (1 : Int32)) h9 → R g d m_X4_comes 68 [.ref l0, .int l1, .int l2, .int l3, .int (hA h9 (hG h9 521 l0) (0 : Int32).toNatClampNeg), .int 0] [] h22 Q) ∧ (((hA h9 (hG h9 521 l0) (0 : Int32).toNatClampNeg) = (9 : Int32)) → C g d m_X4_refuses [.ref l0, .int 1, .int 9] h9 (oI (fun v24 h23 => Q (.inl (some (.int v24))) h23) (fun r hx => Q (.inr r) hx)))) ∧ ((v10 = 0) → Q (.inl (some (.int 2))) h9)) (fun r hx => Q (.inr r) hx)))) (fun r hx => Q (.inr r) hx))) ∧ ((v2 = 0) → Q (.inl (some (.int 1))) h1)) (fun r hx => Q (.inr r) hx))
theorem v_X4_comes_0 {g : PG} {d : Nat} {l0 : Nat} {l1 : Int32} {l2 : Int32} {l3 : Int32} {h : PH} {Q : Out → PH → Prop} (H : w_X4_comes_0 g d l0 l1 l2 l3 h Q) : R g d m_X4_comes 0 [.ref l0, .int l1, .int l2, .int l3, .null, .null] [] h Q := by
  refine r_iload_n dX4_comes_0 rfl rfl ?_
  refine r_iconst dX4_comes_1 rfl ?_
  refine r_bipush dX4_comes_2 rfl ?_
  refine r_invS (y := m_X4_in) dX4_comes_4 rfl (lw_S q3315 q3316 q122 q3317) py_X4_in (Nat.le_of_ble_eq_true rfl) (args := [_, _, _]) rfl rfl (Nat.le_of_ble_eq_true rfl) (C.monoE H (fun o h1 _ x3 K => cont_I K (fun v2 H => ?_) (fun r HX => XR_nc rfl HX)))
  refine r_if_ne (tgt := 12) dX4_comes_7 rfl (fun b4 => ?_) (fun b4 => ?_)
  · replace H := H.1 b4
    refine r_iload_n dX4_comes_12 rfl rfl ?_
    refine r_iconst dX4_comes_13 rfl ?_
    refine r_iconst dX4_comes_14 rfl ?_
    refine r_invS (y := m_X4_in) dX4_comes_15 rfl (lw_S q3315 q3316 q122 q3317) py_X4_in (Nat.le_of_ble_eq_true rfl) (args := [_, _, _]) rfl rfl (Nat.le_of_ble_eq_true rfl) (C.monoE H (fun o h5 _ x7 K => cont_I K (fun v6 H => ?_) (fun r HX => XR_nc rfl HX)))
    refine r_if_eq (tgt := 31) dX4_comes_18 rfl (fun b8 => ?_) (fun b8 => ?_)
    · replace H := H.1 b8
      refine r_iconst dX4_comes_31 rfl ?_
      exact r_iret dX4_comes_32 rfl H
    · replace H := H.2 b8
      refine r_iload_n dX4_comes_21 rfl rfl ?_
      refine r_iconst dX4_comes_22 rfl ?_
      refine r_bipush dX4_comes_23 rfl ?_
      refine r_invS (y := m_X4_in) dX4_comes_25 rfl (lw_S q3315 q3316 q122 q3317) py_X4_in (Nat.le_of_ble_eq_true rfl) (args := [_, _, _]) rfl rfl (Nat.le_of_ble_eq_true rfl) (C.monoE H (fun o h9 _ x11 K => cont_I K (fun v10 H => ?_) (fun r HX => XR_nc rfl HX)))
      refine r_if_ne (tgt := 33) dX4_comes_28 rfl (fun b12 => ?_) (fun b12 => ?_)
      · replace H := H.1 b12
        refine r_aload_n dX4_comes_33 rfl rfl ?_
        obtain ⟨k13, H⟩ := H
        refine r_getG fr_X4_9_12 (by decide) dX4_comes_34 k13 (by decide) ?_
        refine r_iconst dX4_comes_37 rfl ?_
        obtain ⟨k14, H⟩ := H
        obtain ⟨k15, H⟩ := H
        refine r_iald dX4_comes_38 k14 k15 ?_
        refine r_bipush dX4_comes_39 rfl ?_
        refine r_icmp_ne (tgt := 52) dX4_comes_41 rfl (fun b16 => ?_) (fun b16 => ?_)
        · replace H := H.1 b16
          refine r_aload_n dX4_comes_52 rfl rfl ?_
          refine r_getG fr_X4_9_12 (by decide) dX4_comes_53 k13 (by decide) ?_
          refine r_iconst dX4_comes_56 rfl ?_
          refine r_dup2 dX4_comes_57 rfl rfl ?_
          refine r_iald dX4_comes_58 k14 k15 ?_
          refine r_dup_x2 dX4_comes_59 rfl rfl rfl ?_
          refine r_iconst dX4_comes_60 rfl ?_
          refine r_iadd dX4_comes_61 ?_
          obtain ⟨k20, H⟩ := H
          replace H := H _ rfl
          refine r_iast dX4_comes_62 k14 k20 k15 ?_
          refine r_istore dX4_comes_63 (Nat.le_of_ble_eq_true rfl) rfl (slS (slS (slS (slS sl0)))) ?_
          refine r_iconst dX4_comes_65 rfl ?_
          refine r_istore dX4_comes_66 (Nat.le_of_ble_eq_true rfl) rfl (slS (slS (slS (slS (slS sl0))))) ?_
          exact H
        · replace H := H.2 b16
          refine r_aload_n dX4_comes_44 rfl rfl ?_
          refine r_iconst dX4_comes_45 rfl ?_
          refine r_bipush dX4_comes_46 rfl ?_
          refine r_invV (y := m_X4_refuses) dX4_comes_48 rfl (lw_V q3318 q3320 qp69 q122 q3321) py_X4_refuses (Nat.le_of_ble_eq_true rfl) (args := [_, _]) rfl rfl (Nat.le_of_ble_eq_true rfl) k13 (by decide) rfl (C.monoE H (fun o h23 _ x25 K => cont_I K (fun v24 H => ?_) (fun r HX => XR_nc rfl HX)))
          exact r_iret dX4_comes_51 rfl H
      · replace H := H.2 b12
        refine r_iconst dX4_comes_31 rfl ?_
        exact r_iret dX4_comes_32 rfl H
  · replace H := H.2 b4
    refine r_iconst dX4_comes_10 rfl ?_
    exact r_iret dX4_comes_11 rfl H
theorem c_X4_comes_0 {g : PG} {d : Nat} {l0 : Nat} {l1 : Int32} {l2 : Int32} {l3 : Int32} {h : PH} {Q : Out → PH → Prop} (H : w_X4_comes_0 g d l0 l1 l2 l3 h Q) : C g (d + 1) m_X4_comes [.ref l0, .int l1, .int l2, .int l3] h Q := C_of_R rfl rfl (Nat.le_of_ble_eq_true rfl) rfl (v_X4_comes_0 H)
abbrev w_X4_in_0 (g : PG) (d : Nat) (l0 : Int32) (l1 : Int32) (l2 : Int32) (h : PH) (Q : Out → PH → Prop) : Prop := ((l0 < l1) → Q (.inl (some (.int 0))) h) ∧ ((¬ l0 < l1) → ((l2 < l0) → Q (.inl (some (.int 0))) h) ∧ ((¬ l2 < l0) → Q (.inl (some (.int 1))) h))
theorem v_X4_in_0 {g : PG} {d : Nat} {l0 : Int32} {l1 : Int32} {l2 : Int32} {h : PH} {Q : Out → PH → Prop} (H : w_X4_in_0 g d l0 l1 l2 h Q) : R g d m_X4_in 0 [.int l0, .int l1, .int l2] [] h Q := by
  refine r_iload_n dX4_in_0 rfl rfl ?_
  refine r_iload_n dX4_in_1 rfl rfl ?_
  refine r_icmp_lt (tgt := 14) dX4_in_2 rfl (fun b1 => ?_) (fun b1 => ?_)
  · replace H := H.1 b1
    refine r_iconst dX4_in_14 rfl ?_
    exact r_zret dX4_in_15 rfl rfl H
  · replace H := H.2 b1
    refine r_iload_n dX4_in_5 rfl rfl ?_
    refine r_iload_n dX4_in_6 rfl rfl ?_
    refine r_icmp_gt (tgt := 14) dX4_in_7 rfl (fun b2 => ?_) (fun b2 => ?_)
    · replace H := H.1 b2
      refine r_iconst dX4_in_14 rfl ?_
      exact r_zret dX4_in_15 rfl rfl H
    · replace H := H.2 b2
      refine r_iconst dX4_in_10 rfl ?_
      refine r_goto (tgt := 15) dX4_in_11 rfl ?_
      exact r_zret dX4_in_15 rfl rfl H
theorem c_X4_in_0 {g : PG} {d : Nat} {l0 : Int32} {l1 : Int32} {l2 : Int32} {h : PH} {Q : Out → PH → Prop} (H : w_X4_in_0 g d l0 l1 l2 h Q) : C g (d + 1) m_X4_in [.int l0, .int l1, .int l2] h Q := C_of_R rfl rfl (Nat.le_of_ble_eq_true rfl) rfl (v_X4_in_0 H)
abbrev w_X4_refuses_0 (g : PG) (d : Nat) (l0 : Nat) (l1 : Int32) (l2 : Int32) (h : PH) (Q : Out → PH → Prop) : Prop := hkd h l0 = 12 ∧ C g d m_X4_refuses_2 [.ref l0, .int l1, .int l2, .int 0, .int 0] h (oI (fun v3 h2 => Q (.inl (some (.int v3))) h2) (fun r hx => Q (.inr r) hx))
theorem v_X4_refuses_0 {g : PG} {d : Nat} {l0 : Nat} {l1 : Int32} {l2 : Int32} {h : PH} {Q : Out → PH → Prop} (H : w_X4_refuses_0 g d l0 l1 l2 h Q) : R g d m_X4_refuses 0 [.ref l0, .int l1, .int l2] [] h Q := by
  refine r_aload_n dX4_refuses_0 rfl rfl ?_
  refine r_iload_n dX4_refuses_1 rfl rfl ?_
  refine r_iload_n dX4_refuses_2 rfl rfl ?_
  refine r_iconst dX4_refuses_3 rfl ?_
  refine r_iconst dX4_refuses_4 rfl ?_
  obtain ⟨k1, H⟩ := H
  refine r_invV (y := m_X4_refuses_2) dX4_refuses_5 rfl (lw_V q3322 q3324 qp70 q122 q3325) py_X4_refuses_2 (Nat.le_of_ble_eq_true rfl) (args := [_, _, _, _]) rfl rfl (Nat.le_of_ble_eq_true rfl) k1 (by decide) rfl (C.monoE H (fun o h2 _ x4 K => cont_I K (fun v3 H => ?_) (fun r HX => XR_nc rfl HX)))
  exact r_iret dX4_refuses_8 rfl H
theorem c_X4_refuses_0 {g : PG} {d : Nat} {l0 : Nat} {l1 : Int32} {l2 : Int32} {h : PH} {Q : Out → PH → Prop} (H : w_X4_refuses_0 g d l0 l1 l2 h Q) : C g (d + 1) m_X4_refuses [.ref l0, .int l1, .int l2] h Q := C_of_R rfl rfl (Nat.le_of_ble_eq_true rfl) rfl (v_X4_refuses_0 H)
abbrev w_X4_refuses_2_0 (g : PG) (d : Nat) (l0 : Nat) (l1 : Int32) (l2 : Int32) (l3 : Int32) (l4 : Int32) (h : PH) (Q : Out → PH → Prop) : Prop := hkd h l0 = 12 ∧ hkd h (hG h 530 l0) / 100 = 1 ∧ hkd h (hG h 530 l0) % 100 < 50 ∧ vp_in (0 : Int32) (hln h (hG h 530 l0)) ∧ ∀ h5, h5 = setA (hG h 530 l0) (0 : Int32).toNatClampNeg l1 h → hkd h5 (hG h5 530 l0) / 100 = 1 ∧ hkd h5 (hG h5 530 l0) % 100 < 50 ∧ vp_in (1 : Int32) (hln h5 (hG h5 530 l0)) ∧ ∀ h9, h9 = setA (hG h5 530 l0) (1 : Int32).toNatClampNeg l2 h5 → hkd h9 (hG h9 530 l0) / 100 = 1 ∧ hkd h9 (hG h9 530 l0) % 100 < 50 ∧ vp_in (2 : Int32) (hln h9 (hG h9 530 l0)) ∧ ∀ h13, h13 = setA (hG h9 530 l0) (2 : Int32).toNatClampNeg l3 h9 → hkd h13 (hG h13 530 l0) / 100 = 1 ∧ hkd h13 (hG h13 530 l0) % 100 < 50 ∧ vp_in (3 : Int32) (hln h13 (hG h13 530 l0)) ∧ ∀ h17, h17 = setA (hG h13 530 l0) (3 : Int32).toNatClampNeg l4 h13 → hkd h17 (hG h17 530 l0) / 100 = 1 ∧ hkd h17 (hG h17 530 l0) % 100 < 50 ∧ vp_in (4 : Int32) (hln h17 (hG h17 530 l0)) ∧ ∀ h21, h21 = setA (hG h17 530 l0) (4 : Int32).toNatClampNeg (0 : Int32) h17 → Q (.inl (some (.int (-1 : Int32)))) h21
theorem v_X4_refuses_2_0 {g : PG} {d : Nat} {l0 : Nat} {l1 : Int32} {l2 : Int32} {l3 : Int32} {l4 : Int32} {h : PH} {Q : Out → PH → Prop} (H : w_X4_refuses_2_0 g d l0 l1 l2 l3 l4 h Q) : R g d m_X4_refuses_2 0 [.ref l0, .int l1, .int l2, .int l3, .int l4] [] h Q := by
  refine r_aload_n dX4_refuses_2_0 rfl rfl ?_
  obtain ⟨k1, H⟩ := H
  refine r_getG fr_X4_41_12 (by decide) dX4_refuses_2_1 k1 (by decide) ?_
  refine r_iconst dX4_refuses_2_4 rfl ?_
  refine r_iload_n dX4_refuses_2_5 rfl rfl ?_
  obtain ⟨k2, H⟩ := H
  obtain ⟨k3, H⟩ := H
  obtain ⟨k4, H⟩ := H
  replace H := H _ rfl
  refine r_iast dX4_refuses_2_6 k2 k3 k4 ?_
  refine r_aload_n dX4_refuses_2_7 rfl rfl ?_
  refine r_getG fr_X4_41_12 (by decide) dX4_refuses_2_8 k1 (by decide) ?_
  refine r_iconst dX4_refuses_2_11 rfl ?_
  refine r_iload_n dX4_refuses_2_12 rfl rfl ?_
  obtain ⟨k6, H⟩ := H
  obtain ⟨k7, H⟩ := H
  obtain ⟨k8, H⟩ := H
  replace H := H _ rfl
  refine r_iast dX4_refuses_2_13 k6 k7 k8 ?_
  refine r_aload_n dX4_refuses_2_14 rfl rfl ?_
  refine r_getG fr_X4_41_12 (by decide) dX4_refuses_2_15 k1 (by decide) ?_
  refine r_iconst dX4_refuses_2_18 rfl ?_
  refine r_iload_n dX4_refuses_2_19 rfl rfl ?_
  obtain ⟨k10, H⟩ := H
  obtain ⟨k11, H⟩ := H
  obtain ⟨k12, H⟩ := H
  replace H := H _ rfl
  refine r_iast dX4_refuses_2_20 k10 k11 k12 ?_
  refine r_aload_n dX4_refuses_2_21 rfl rfl ?_
  refine r_getG fr_X4_41_12 (by decide) dX4_refuses_2_22 k1 (by decide) ?_
  refine r_iconst dX4_refuses_2_25 rfl ?_
  refine r_iload dX4_refuses_2_26 rfl ?_
  obtain ⟨k14, H⟩ := H
  obtain ⟨k15, H⟩ := H
  obtain ⟨k16, H⟩ := H
  replace H := H _ rfl
  refine r_iast dX4_refuses_2_28 k14 k15 k16 ?_
  refine r_aload_n dX4_refuses_2_29 rfl rfl ?_
  refine r_getG fr_X4_41_12 (by decide) dX4_refuses_2_30 k1 (by decide) ?_
  refine r_iconst dX4_refuses_2_33 rfl ?_
  refine r_iconst dX4_refuses_2_34 rfl ?_
  obtain ⟨k18, H⟩ := H
  obtain ⟨k19, H⟩ := H
  obtain ⟨k20, H⟩ := H
  replace H := H _ rfl
  refine r_iast dX4_refuses_2_35 k18 k19 k20 ?_
  refine r_iconst dX4_refuses_2_36 rfl ?_
  exact r_iret dX4_refuses_2_37 rfl H
theorem c_X4_refuses_2_0 {g : PG} {d : Nat} {l0 : Nat} {l1 : Int32} {l2 : Int32} {l3 : Int32} {l4 : Int32} {h : PH} {Q : Out → PH → Prop} (H : w_X4_refuses_2_0 g d l0 l1 l2 l3 l4 h Q) : C g (d + 1) m_X4_refuses_2 [.ref l0, .int l1, .int l2, .int l3, .int l4] h Q := C_of_R rfl rfl (Nat.le_of_ble_eq_true rfl) rfl (v_X4_refuses_2_0 H)
abbrev w_X4_sets_0 (g : PG) (d : Nat) (l0 : Nat) (l1 : Int32) (l2 : Int32) (l3 : Int32) (h : PH) (Q : Out → PH → Prop) : Prop := hkd h l0 = 12 ∧ hkd h (hG h 521 l0) / 100 = 1 ∧ hkd h (hG h 521 l0) % 100 < 50 ∧ vp_in (((48 : Int32) + ((6 : Int32) * l1)) + l2) (hln h (hG h 521 l0)) ∧ ∀ h5, h5 = setA (hG h 521 l0) (((48 : Int32) + ((6 : Int32) * l1)) + l2).toNatClampNeg l3 h → Q (.inl none) h5
theorem v_X4_sets_0 {g : PG} {d : Nat} {l0 : Nat} {l1 : Int32} {l2 : Int32} {l3 : Int32} {h : PH} {Q : Out → PH → Prop} (H : w_X4_sets_0 g d l0 l1 l2 l3 h Q) : R g d m_X4_sets 0 [.ref l0, .int l1, .int l2, .int l3] [] h Q := by
  refine r_aload_n dX4_sets_0 rfl rfl ?_
  obtain ⟨k1, H⟩ := H
  refine r_getG fr_X4_9_12 (by decide) dX4_sets_1 k1 (by decide) ?_
  refine r_bipush dX4_sets_4 rfl ?_
  refine r_bipush dX4_sets_6 rfl ?_
  refine r_iload_n dX4_sets_8 rfl rfl ?_
  refine r_imul dX4_sets_9 ?_
  refine r_iadd dX4_sets_10 ?_
  refine r_iload_n dX4_sets_11 rfl rfl ?_
  refine r_iadd dX4_sets_12 ?_
  refine r_iload_n dX4_sets_13 rfl rfl ?_
  obtain ⟨k2, H⟩ := H
  obtain ⟨k3, H⟩ := H
  obtain ⟨k4, H⟩ := H
  replace H := H _ rfl
  refine r_iast dX4_sets_14 k2 k3 k4 ?_
  exact r_vret dX4_sets_15 rfl H
theorem c_X4_sets_0 {g : PG} {d : Nat} {l0 : Nat} {l1 : Int32} {l2 : Int32} {l3 : Int32} {h : PH} {Q : Out → PH → Prop} (H : w_X4_sets_0 g d l0 l1 l2 l3 h Q) : C g (d + 1) m_X4_sets [.ref l0, .int l1, .int l2, .int l3] h Q := C_of_R rfl rfl (Nat.le_of_ble_eq_true rfl) rfl (v_X4_sets_0 H)
abbrev w_X4_hat_0 (g : PG) (d : Nat) (l0 : Nat) (l1 : Int32) (h : PH) (Q : Out → PH → Prop) : Prop := hkd h l0 = 12 ∧ hkd h (hG h 521 l0) / 100 = 1 ∧ vp_in ((39 : Int32) + ((3 : Int32) * l1)) (hln h (hG h 521 l0)) ∧ Q (.inl (some (.int (hA h (hG h 521 l0) ((39 : Int32) + ((3 : Int32) * l1)).toNatClampNeg)))) h
theorem v_X4_hat_0 {g : PG} {d : Nat} {l0 : Nat} {l1 : Int32} {h : PH} {Q : Out → PH → Prop} (H : w_X4_hat_0 g d l0 l1 h Q) : R g d m_X4_hat 0 [.ref l0, .int l1] [] h Q := by
  refine r_aload_n dX4_hat_0 rfl rfl ?_
  obtain ⟨k1, H⟩ := H
  refine r_getG fr_X4_9_12 (by decide) dX4_hat_1 k1 (by decide) ?_
  refine r_bipush dX4_hat_4 rfl ?_
  refine r_iconst dX4_hat_6 rfl ?_
  refine r_iload_n dX4_hat_7 rfl rfl ?_
  refine r_imul dX4_hat_8 ?_
  refine r_iadd dX4_hat_9 ?_
  obtain ⟨k2, H⟩ := H
  obtain ⟨k3, H⟩ := H
  refine r_iald dX4_hat_10 k2 k3 ?_
  exact r_iret dX4_hat_11 rfl H
theorem c_X4_hat_0 {g : PG} {d : Nat} {l0 : Nat} {l1 : Int32} {h : PH} {Q : Out → PH → Prop} (H : w_X4_hat_0 g d l0 l1 h Q) : C g (d + 1) m_X4_hat [.ref l0, .int l1] h Q := C_of_R rfl rfl (Nat.le_of_ble_eq_true rfl) rfl (v_X4_hat_0 H)
abbrev w_X4_does_0 (g : PG) (d : Nat) (l0 : Nat) (l1 : Int32) (h : PH) (Q : Out → PH → Prop) : Prop := hkd h l0 = 12 ∧ ∀ h2, h2 = setF 32 l0 l1 h → Q (.inl (some (.int 0))) h2
theorem v_X4_does_0 {g : PG} {d : Nat} {l0 : Nat} {l1 : Int32} {h : PH} {Q : Out → PH → Prop} (H : w_X4_does_0 g d l0 l1 h Q) : R g d m_X4_does 0 [.ref l0, .int l1] [] h Q := by
  refine r_aload_n dX4_does_0 rfl rfl ?_
  refine r_iload_n dX4_does_1 rfl rfl ?_
  obtain ⟨k1, H⟩ := H
  replace H := H _ rfl
  refine r_putF fw_X4_51_12 (by decide) dX4_does_2 k1 (by decide) rfl rfl ?_
  refine r_iconst dX4_does_5 rfl ?_
  exact r_iret dX4_does_6 rfl H
theorem c_X4_does_0 {g : PG} {d : Nat} {l0 : Nat} {l1 : Int32} {h : PH} {Q : Out → PH → Prop} (H : w_X4_does_0 g d l0 l1 h Q) : C g (d + 1) m_X4_does [.ref l0, .int l1] h Q := C_of_R rfl rfl (Nat.le_of_ble_eq_true rfl) rfl (v_X4_does_0 H)
abbrev w_X4_ends_25 (g : PG) (d : Nat) (s0 : Nat) (s1 : Int32) (h : PH) (Q : Out → PH → Prop) : Prop := hkd h s0 = 12 ∧ C g d m_X4_raises [.ref s0, .int s1] h (oI (fun v3 h2 => Q (.inl (some (.int v3))) h2) (fun r hx => Q (.inr r) hx))
theorem v_X4_ends_25 {g : PG} {d : Nat} {s0 : Nat} {s1 : Int32} {h : PH} {Q : Out → PH → Prop} (H : w_X4_ends_25 g d s0 s1 h Q) : R g d m_X4_ends 25 [.null, .null, .null] [.int s1, .ref s0] h Q := by
  obtain ⟨k1, H⟩ := H
  refine r_invV (y := m_X4_raises) dX4_ends_25 rfl (lw_V q3346 q3348 qp76 q122 q3349) py_X4_raises (Nat.le_of_ble_eq_true rfl) (args := [_]) rfl rfl (Nat.le_of_ble_eq_true rfl) k1 (by decide) rfl (C.monoE H (fun o h2 _ x4 K => cont_I K (fun v3 H => ?_) (fun r HX => XR_nc rfl HX)))
  exact r_iret dX4_ends_28 rfl H
abbrev w_X4_ends_0 (g : PG) (d : Nat) (l0 : Nat) (l1 : Int32) (l2 : Int32) (h : PH) (Q : Out → PH → Prop) : Prop := ((¬ l1 = 0) → ((0 ≤ l1) → w_X4_ends_25 g d l0 l1 h Q) ∧ ((¬ 0 ≤ l1) → w_X4_ends_25 g d l0 l2 h Q)) ∧ ((l1 = 0) → hkd h l0 = 12 ∧ C g d m_X4_keeps [.ref l0, .int (hF h 32 l0)] h (oI (fun v5 h4 => Q (.inl (some (.int v5))) h4) (fun r hx => Q (.inr r) hx)))
theorem v_X4_ends_0 {g : PG} {d : Nat} {l0 : Nat} {l1 : Int32} {l2 : Int32} {h : PH} {Q : Out → PH → Prop} (H : w_X4_ends_0 g d l0 l1 l2 h Q) : R g d m_X4_ends 0 [.ref l0, .int l1, .int l2] [] h Q := by
  refine r_iload_n dX4_ends_0 rfl rfl ?_
  refine r_if_ne (tgt := 15) dX4_ends_1 rfl (fun b1 => ?_) (fun b1 => ?_)
  · replace H := H.1 b1
    refine r_aload_n dX4_ends_15 rfl rfl ?_
    refine r_iload_n dX4_ends_16 rfl rfl ?_
    refine r_if_ge (tgt := 24) dX4_ends_17 rfl (fun b2 => ?_) (fun b2 => ?_)
    · replace H := H.1 b2
      refine r_iload_n dX4_ends_24 rfl rfl ?_
      exact R.forget (v_X4_ends_25 H) ⟨Or.inr rfl, ⟨Or.inr rfl, ⟨Or.inr rfl, trivial⟩⟩⟩
    · replace H := H.2 b2
      refine r_iload_n dX4_ends_20 rfl rfl ?_
      refine r_goto (tgt := 25) dX4_ends_21 rfl ?_
      exact R.forget (v_X4_ends_25 H) ⟨Or.inr rfl, ⟨Or.inr rfl, ⟨Or.inr rfl, trivial⟩⟩⟩
  · replace H := H.2 b1
    refine r_aload_n dX4_ends_4 rfl rfl ?_
    refine r_aload_n dX4_ends_5 rfl rfl ?_
    obtain ⟨k3, H⟩ := H
    refine r_getF fr_X4_51_12 (by decide) dX4_ends_6 k3 (by decide) ?_
    refine r_invV (y := m_X4_keeps) dX4_ends_9 rfl (lw_V q3342 q3344 qp75 q122 q3345) py_X4_keeps (Nat.le_of_ble_eq_true rfl) (args := [_]) rfl rfl (Nat.le_of_ble_eq_true rfl) k3 (by decide) rfl (C.monoE H (fun o h4 _ x6 K => cont_I K (fun v5 H => ?_) (fun r HX => XR_nc rfl HX)))
    refine r_goto (tgt := 28) dX4_ends_12 rfl ?_
    exact r_iret dX4_ends_28 rfl H
theorem c_X4_ends_0 {g : PG} {d : Nat} {l0 : Nat} {l1 : Int32} {l2 : Int32} {h : PH} {Q : Out → PH → Prop} (H : w_X4_ends_0 g d l0 l1 l2 h Q) : C g (d + 1) m_X4_ends [.ref l0, .int l1, .int l2] h Q := C_of_R rfl rfl (Nat.le_of_ble_eq_true rfl) rfl (v_X4_ends_0 H)
abbrev w_X4_keeps_51 (g : PG) (d : Nat) (l0 : Nat) (l1 : Int32) (l2 : Int32) (h : PH) (Q : Out → PH → Prop) : Prop := (((127 : Int32) ≤ l2) → hkd h l0 = 12 ∧ ∀ h3, h3 = setF 27 l0 ((hF h 27 l0) + (1 : Int32)) h → Q (.inl (some (.int l1))) h3) ∧ ((¬ (127 : Int32) ≤ l2) → hkd h l0 = 12 ∧ hkd h (hG h 522 l0) / 100 = 1 ∧ vp_in l2 (hln h (hG h 522 l0)) ∧ hkd h (hG h 524 l0) / 100 = 1 ∧ hkd h (hG h 524 l0) % 100 < 50 ∧ vp_in (((127 : Int32) * (hF h 27 l0)) + l2) (hln h (hG h 524 l0)) ∧ ∀ h10, h10 = setA (hG h 524 l0) (((127 : Int32) * (hF h 27 l0)) + l2).toNatClampNeg (hA h (hG h 522 l0) l2.toNatClampNeg) h → R g d m_X4_keeps 51 [.ref l0, .int l1, .int (l2 + 1)] [] h10 Q)
theorem v_X4_keeps_51 {g : PG} {d : Nat} {l0 : Nat} {l1 : Int32} {l2 : Int32} {h : PH} {Q : Out → PH → Prop} (H : w_X4_keeps_51 g d l0 l1 l2 h Q) : R g d m_X4_keeps 51 [.ref l0, .int l1, .int l2] [] h Q := by
  refine r_iload_n dX4_keeps_51 rfl rfl ?_
  refine r_bipush dX4_keeps_52 rfl ?_
  refine r_icmp_ge (tgt := 83) dX4_keeps_54 rfl (fun b1 => ?_) (fun b1 => ?_)
  · replace H := H.1 b1
    refine r_aload_n dX4_keeps_83 rfl rfl ?_
    refine r_dup dX4_keeps_84 rfl ?_
    obtain ⟨k2, H⟩ := H
    refine r_getF fr_X4_48_12 (by decide) dX4_keeps_85 k2 (by decide) ?_
    refine r_iconst dX4_keeps_88 rfl ?_
    refine r_iadd dX4_keeps_89 ?_
    replace H := H _ rfl
    refine r_putF fw_X4_48_12 (by decide) dX4_keeps_90 k2 (by decide) rfl rfl ?_
    refine r_iload_n dX4_keeps_93 rfl rfl ?_
    exact r_iret dX4_keeps_94 rfl H
  · replace H := H.2 b1
    refine r_aload_n dX4_keeps_57 rfl rfl ?_
    obtain ⟨k4, H⟩ := H
    refine r_getG fr_X4_19_12 (by decide) dX4_keeps_58 k4 (by decide) ?_
    refine r_bipush dX4_keeps_61 rfl ?_
    refine r_aload_n dX4_keeps_63 rfl rfl ?_
    refine r_getF fr_X4_48_12 (by decide) dX4_keeps_64 k4 (by decide) ?_
    refine r_imul dX4_keeps_67 ?_
    refine r_iload_n dX4_keeps_68 rfl rfl ?_
    refine r_iadd dX4_keeps_69 ?_
    refine r_aload_n dX4_keeps_70 rfl rfl ?_
    refine r_getG fr_X4_13_12 (by decide) dX4_keeps_71 k4 (by decide) ?_
    refine r_iload_n dX4_keeps_74 rfl rfl ?_
    obtain ⟨k5, H⟩ := H
    obtain ⟨k6, H⟩ := H
    refine r_iald dX4_keeps_75 k5 k6 ?_
    obtain ⟨k7, H⟩ := H
    obtain ⟨k8, H⟩ := H
    obtain ⟨k9, H⟩ := H
    replace H := H _ rfl
    refine r_iast dX4_keeps_76 k7 k8 k9 ?_
    refine r_iinc dX4_keeps_77 rfl rfl (Nat.le_of_ble_eq_true rfl) rfl (slS (slS sl0)) ?_
    refine r_goto (tgt := 51) dX4_keeps_80 rfl ?_
    exact H
abbrev w_X4_keeps_49 (g : PG) (d : Nat) (l0 : Nat) (l1 : Int32) (h : PH) (Q : Out → PH → Prop) : Prop := R g d m_X4_keeps 51 [.ref l0, .int l1, .int 0] [] h Q
theorem v_X4_keeps_49 {g : PG} {d : Nat} {l0 : Nat} {l1 : Int32} {h : PH} {Q : Out → PH → Prop} (H : w_X4_keeps_49 g d l0 l1 h Q) : R g d m_X4_keeps 49 [.ref l0, .int l1, .null] [] h Q := by
  refine r_iconst dX4_keeps_49 rfl ?_
  refine r_istore_n dX4_keeps_50 rfl (Nat.le_of_ble_eq_true rfl) rfl (slS (slS sl0)) ?_
  exact H
abbrev w_X4_keeps_11 (g : PG) (d : Nat) (l0 : Nat) (l1 : Int32) (l2 : Int32) (h : PH) (Q : Out → PH → Prop) : Prop := (((889 : Int32) ≤ l2) → hkd h l0 = 12 ∧ ∀ h3, h3 = setF 27 l0 ((hF h 27 l0) - (1 : Int32)) h → w_X4_keeps_49 g d l0 l1 h3 Q) ∧ ((¬ (889 : Int32) ≤ l2) → hkd h l0 = 12 ∧ hkd h (hG h 524 l0) / 100 = 1 ∧ vp_in ((127 : Int32) + l2) (hln h (hG h 524 l0)) ∧ hkd h (hG h 524 l0) % 100 < 50 ∧ vp_in l2 (hln h (hG h 524 l0)) ∧ ∀ h10, h10 = setA (hG h 524 l0) l2.toNatClampNeg (hA h (hG h 524 l0) ((127 : Int32) + l2).toNatClampNeg) h → R g d m_X4_keeps 11 [.ref l0, .int l1, .int (l2 + 1)] [] h10 Q)
theorem v_X4_keeps_11 {g : PG} {d : Nat} {l0 : Nat} {l1 : Int32} {l2 : Int32} {h : PH} {Q : Out → PH → Prop} (H : w_X4_keeps_11 g d l0 l1 l2 h Q) : R g d m_X4_keeps 11 [.ref l0, .int l1, .int l2] [] h Q := by
  refine r_iload_n dX4_keeps_11 rfl rfl ?_
  refine r_sipush dX4_keeps_12 rfl ?_
  refine r_icmp_ge (tgt := 39) dX4_keeps_15 rfl (fun b1 => ?_) (fun b1 => ?_)
  · replace H := H.1 b1
    refine r_aload_n dX4_keeps_39 rfl rfl ?_
    refine r_dup dX4_keeps_40 rfl ?_
    obtain ⟨k2, H⟩ := H
    refine r_getF fr_X4_48_12 (by decide) dX4_keeps_41 k2 (by decide) ?_
    refine r_iconst dX4_keeps_44 rfl ?_
    refine r_isub dX4_keeps_45 ?_
    replace H := H _ rfl
    refine r_putF fw_X4_48_12 (by decide) dX4_keeps_46 k2 (by decide) rfl rfl ?_
    exact R.forget (v_X4_keeps_49 H) ⟨Or.inl rfl, ⟨Or.inl rfl, ⟨Or.inr rfl, trivial⟩⟩⟩
  · replace H := H.2 b1
    refine r_aload_n dX4_keeps_18 rfl rfl ?_
    obtain ⟨k4, H⟩ := H
    refine r_getG fr_X4_19_12 (by decide) dX4_keeps_19 k4 (by decide) ?_
    refine r_iload_n dX4_keeps_22 rfl rfl ?_
    refine r_aload_n dX4_keeps_23 rfl rfl ?_
    refine r_getG fr_X4_19_12 (by decide) dX4_keeps_24 k4 (by decide) ?_
    refine r_bipush dX4_keeps_27 rfl ?_
    refine r_iload_n dX4_keeps_29 rfl rfl ?_
    refine r_iadd dX4_keeps_30 ?_
    obtain ⟨k5, H⟩ := H
    obtain ⟨k6, H⟩ := H
    refine r_iald dX4_keeps_31 k5 k6 ?_
    obtain ⟨k8, H⟩ := H
    obtain ⟨k9, H⟩ := H
    replace H := H _ rfl
    refine r_iast dX4_keeps_32 k5 k8 k9 ?_
    refine r_iinc dX4_keeps_33 rfl rfl (Nat.le_of_ble_eq_true rfl) rfl (slS (slS sl0)) ?_
    refine r_goto (tgt := 11) dX4_keeps_36 rfl ?_
    exact H
abbrev w_X4_keeps_0 (g : PG) (d : Nat) (l0 : Nat) (l1 : Int32) (h : PH) (Q : Out → PH → Prop) : Prop := hkd h l0 = 12 ∧ ((¬ (hF h 27 l0) = (8 : Int32)) → w_X4_keeps_49 g d l0 l1 h Q) ∧ (((hF h 27 l0) = (8 : Int32)) → R g d m_X4_keeps 11 [.ref l0, .int l1, .int 0] [] h Q)
theorem v_X4_keeps_0 {g : PG} {d : Nat} {l0 : Nat} {l1 : Int32} {h : PH} {Q : Out → PH → Prop} (H : w_X4_keeps_0 g d l0 l1 h Q) : R g d m_X4_keeps 0 [.ref l0, .int l1, .null] [] h Q := by
  refine r_aload_n dX4_keeps_0 rfl rfl ?_
  obtain ⟨k1, H⟩ := H
  refine r_getF fr_X4_48_12 (by decide) dX4_keeps_1 k1 (by decide) ?_
  refine r_bipush dX4_keeps_4 rfl ?_
  refine r_icmp_ne (tgt := 49) dX4_keeps_6 rfl (fun b2 => ?_) (fun b2 => ?_)
  · replace H := H.1 b2
    exact v_X4_keeps_49 H
  · replace H := H.2 b2
    refine r_iconst dX4_keeps_9 rfl ?_
    refine r_istore_n dX4_keeps_10 rfl (Nat.le_of_ble_eq_true rfl) rfl (slS (slS sl0)) ?_
    exact H
theorem c_X4_keeps_0 {g : PG} {d : Nat} {l0 : Nat} {l1 : Int32} {h : PH} {Q : Out → PH → Prop} (H : w_X4_keeps_0 g d l0 l1 h Q) : C g (d + 1) m_X4_keeps [.ref l0, .int l1] h Q := C_of_R rfl rfl (Nat.le_of_ble_eq_true rfl) rfl (v_X4_keeps_0 H)
abbrev w_X4_raises_0 (g : PG) (d : Nat) (l0 : Nat) (l1 : Int32) (h : PH) (Q : Out → PH → Prop) : Prop := hkd h l0 = 12 ∧ ∀ h2, h2 = setF 33 l0 l1 h → Q (.inl (some (.int 0))) h2
theorem v_X4_raises_0 {g : PG} {d : Nat} {l0 : Nat} {l1 : Int32} {h : PH} {Q : Out → PH → Prop} (H : w_X4_raises_0 g d l0 l1 h Q) : R g d m_X4_raises 0 [.ref l0, .int l1] [] h Q := by
  refine r_aload_n dX4_raises_0 rfl rfl ?_
  refine r_iload_n dX4_raises_1 rfl rfl ?_
  obtain ⟨k1, H⟩ := H
  replace H := H _ rfl
  refine r_putF fw_X4_44_12 (by decide) dX4_raises_2 k1 (by decide) rfl rfl ?_
  refine r_iconst dX4_raises_5 rfl ?_
  exact r_iret dX4_raises_6 rfl H
theorem c_X4_raises_0 {g : PG} {d : Nat} {l0 : Nat} {l1 : Int32} {h : PH} {Q : Out → PH → Prop} (H : w_X4_raises_0 g d l0 l1 h Q) : C g (d + 1) m_X4_raises [.ref l0, .int l1] h Q := C_of_R rfl rfl (Nat.le_of_ble_eq_true rfl) rfl (v_X4_raises_0 H)
abbrev w_X4_run_0 (g : PG) (d : Nat) (l0 : Nat) (l1 : Int32) (l2 : Int32) (h : PH) (Q : Out → PH → Prop) : Prop := hkd h l0 = 12 ∧ C g d m_X4_tries [.ref l0] h (oV (fun h2 => C g d m_X4_runs [.ref l0, .int l1, .int l2] h2 (oI (fun v6 h5 => C g d m_X4_ends [.ref l0, .int v6, .int 2] h5 (oI (fun v9 h8 => Q (.inl (some (.int v9))) h8) (fun r hx => Q (.inr r) hx))) (fun r hx => Q (.inr r) hx))) (fun r hx => Q (.inr r) hx))
theorem v_X4_run_0 {g : PG} {d : Nat} {l0 : Nat} {l1 : Int32} {l2 : Int32} {h : PH} {Q : Out → PH → Prop} (H : w_X4_run_0 g d l0 l1 l2 h Q) : R g d m_X4_run 0 [.ref l0, .int l1, .int l2] [] h Q := by
  refine r_aload_n dX4_run_0 rfl rfl ?_
  obtain ⟨k1, H⟩ := H
  refine r_invV (y := m_X4_tries) dX4_run_1 rfl (lw_V q3307 q3309 qp67 q122 q3310) py_X4_tries (Nat.le_of_ble_eq_true rfl) (args := []) rfl rfl (Nat.le_of_ble_eq_true rfl) k1 (by decide) rfl (C.monoE H (fun o h2 _ x4 K => cont_V K (fun H => ?_) (fun r HX => XR_nc rfl HX)))
  refine r_aload_n dX4_run_4 rfl rfl ?_
  refine r_aload_n dX4_run_5 rfl rfl ?_
  refine r_iload_n dX4_run_6 rfl rfl ?_
  refine r_iload_n dX4_run_7 rfl rfl ?_
  refine r_invV (y := m_X4_runs) dX4_run_8 rfl (lw_V q3354 q3356 qp77 q122 q3357) py_X4_runs (Nat.le_of_ble_eq_true rfl) (args := [_, _]) rfl rfl (Nat.le_of_ble_eq_true rfl) (x4.kd k1 (by decide)) (by decide) rfl (C.monoE H (fun o h5 _ x7 K => cont_I K (fun v6 H => ?_) (fun r HX => XR_nc rfl HX)))
  refine r_iconst dX4_run_11 rfl ?_
  refine r_invV (y := m_X4_ends) dX4_run_12 rfl (lw_V q3338 q3340 qp74 q122 q3341) py_X4_ends (Nat.le_of_ble_eq_true rfl) (args := [_, _]) rfl rfl (Nat.le_of_ble_eq_true rfl) (x7.kd (x4.kd k1 (by decide)) (by decide)) (by decide) rfl (C.monoE H (fun o h8 _ x10 K => cont_I K (fun v9 H => ?_) (fun r HX => XR_nc rfl HX)))
  exact r_iret dX4_run_15 rfl H
theorem c_X4_run_0 {g : PG} {d : Nat} {l0 : Nat} {l1 : Int32} {l2 : Int32} {h : PH} {Q : Out → PH → Prop} (H : w_X4_run_0 g d l0 l1 l2 h Q) : C g (d + 1) m_X4_run [.ref l0, .int l1, .int l2] h Q := C_of_R rfl rfl (Nat.le_of_ble_eq_true rfl) rfl (v_X4_run_0 H)
abbrev w_X4_runs_205 (g : PG) (d : Nat) (l0 : Nat) (l1 : Int32) (l4 : Int32) (l5 : Int32) (l7 : Int32) (h : PH) (Q : Out → PH → Prop) : Prop := ((l7 < (5 : Int32)) → hkd h l0 = 12 ∧ hkd h (hG h 521 l0) / 100 = 1 ∧ hkd h (hG h 521 l0) % 100 < 50 ∧ vp_in (102 : Int32) (hln h (hG h 521 l0)) ∧ ∀ h6, h6 = setA (hG h 521 l0) (102 : Int32).toNatClampNeg l1 h → hkd h6 (hG h6 521 l0) / 100 = 1 ∧ hkd h6 (hG h6 521 l0) % 100 < 50 ∧ vp_in (103 : Int32) (hln h6 (hG h6 521 l0)) ∧ ∀ h10, h10 = setA (hG h6 521 l0) (103 : Int32).toNatClampNeg l4 h6 → C g d m_X4_of [.ref l0, .int l1, .int 1] h10 (oI (fun v12 h11 => hkd h11 (hG h10 521 l0) / 100 = 1 ∧ hkd h11 (hG h10 521 l0) % 100 < 50 ∧ vp_in (104 : Int32) (hln h11 (hG h10 521 l0)) ∧ ∀ h17, h17 = setA (hG h10 521 l0) (104 : Int32).toNatClampNeg v12 h11 → C g d m_X4_of [.ref l0, .int l1, .int 2] h17 (oI (fun v19 h18 => hkd h18 (hG h17 521 l0) / 100 = 1 ∧ hkd h18 (hG h17 521 l0) % 100 < 50 ∧ vp_in (105 : Int32) (hln h18 (hG h17 521 l0)) ∧ ∀ h24, h24 = setA (hG h17 521 l0) (105 : Int32).toNatClampNeg (l5 - v19) h18 → hkd h24 (hG h24 521 l0) / 100 = 1 ∧ vp_in (1 : Int32) (hln h24 (hG h24 521 l0)) ∧ hkd h24 (hG h24 521 l0) % 100 < 50 ∧ vp_in (106 : Int32) (hln h24 (hG h24 521 l0)) ∧ ∀ h30, h30 = setA (hG h24 521 l0) (106 : Int32).toNatClampNeg (hA h24 (hG h24 521 l0) (1 : Int32).toNatClampNeg) h24 → hkd h30 (hG h30 521 l0) / 100 = 1 ∧ vp_in (2 : Int32) (hln h30 (hG h30 521 l0)) ∧ hkd h30 (hG h30 521 l0) % 100 < 50 ∧ ∀ h36, h36 = setA (hG h30 521 l0) (2 : Int32).toNatClampNeg ((hA h30 (hG h30 521 l0) (2 : Int32).toNatClampNeg) + (1 : Int32)) h30 → C g d m_X4_of [.ref l0, .int l1, .int 1] h36 (oI (fun v38 h37 => C g d m_X4_does [.ref l0, .int v38] h37 (oI (fun v41 h40 => Q (.inl (some (.int v41))) h40) (fun r hx => Q (.inr r) hx))) (fun r hx => Q (.inr r) hx))) (fun r hx => Q (.inr r) hx))) (fun r hx => Q (.inr r) hx))) ∧ ((¬ l7 < (5 : Int32)) → hkd h l0 = 12 ∧ hkd h (hG h 521 l0) / 100 = 1 ∧ vp_in (((102 : Int32) + l7) - (5 : Int32)) (hln h (hG h 521 l0)) ∧ hkd h (hG h 521 l0) % 100 < 50 ∧ vp_in ((102 : Int32) + l7) (hln h (hG h 521 l0)) ∧ ∀ h49, h49 = setA (hG h 521 l0) ((102 : Int32) + l7).toNatClampNeg (hA h (hG h 521 l0) (((102 : Int32) + l7) - (5 : Int32)).toNatClampNeg) h → R g d m_X4_runs 205 [.ref l0, .int l1, .null, .null, .int l4, .int l5, .null, .int (l7 + (-1))] [] h49 Q)
theorem v_X4_runs_205 {g : PG} {d : Nat} {l0 : Nat} {l1 : Int32} {l4 : Int32} {l5 : Int32} {l7 : Int32} {h : PH} {Q : Out → PH → Prop} (H : w_X4_runs_205 g d l0 l1 l4 l5 l7 h Q) : R g d m_X4_runs 205 [.ref l0, .int l1, .null, .null, .int l4, .int l5, .null, .int l7] [] h Q := by
  refine r_iload dX4_runs_205 rfl ?_
  refine r_iconst dX4_runs_207 rfl ?_
  refine r_icmp_lt (tgt := 239) dX4_runs_208 rfl (fun b1 => ?_) (fun b1 => ?_)
  · replace H := H.1 b1
    refine r_aload_n dX4_runs_239 rfl rfl ?_
    obtain ⟨k2, H⟩ := H
    refine r_getG fr_X4_9_12 (by decide) dX4_runs_240 k2 (by decide) ?_
    refine r_bipush dX4_runs_243 rfl ?_
    refine r_iload_n dX4_runs_245 rfl rfl ?_
    obtain ⟨k3, H⟩ := H
    obtain ⟨k4, H⟩ := H
    obtain ⟨k5, H⟩ := H
    replace H := H _ rfl
    refine r_iast dX4_runs_246 k3 k4 k5 ?_
    refine r_aload_n dX4_runs_247 rfl rfl ?_
    refine r_getG fr_X4_9_12 (by decide) dX4_runs_248 k2 (by decide) ?_
    refine r_bipush dX4_runs_251 rfl ?_
    refine r_iload dX4_runs_253 rfl ?_
    obtain ⟨k7, H⟩ := H
    obtain ⟨k8, H⟩ := H
    obtain ⟨k9, H⟩ := H
    replace H := H _ rfl
    refine r_iast dX4_runs_255 k7 k8 k9 ?_
    refine r_aload_n dX4_runs_256 rfl rfl ?_
    refine r_getG fr_X4_9_12 (by decide) dX4_runs_257 k2 (by decide) ?_
    refine r_bipush dX4_runs_260 rfl ?_
    refine r_aload_n dX4_runs_262 rfl rfl ?_
    refine r_iload_n dX4_runs_263 rfl rfl ?_
    refine r_iconst dX4_runs_264 rfl ?_
    refine r_invV (y := m_X4_of) dX4_runs_265 rfl (lw_V q3362 q3364 qp79 q122 q3365) py_X4_of (Nat.le_of_ble_eq_true rfl) (args := [_, _]) rfl rfl (Nat.le_of_ble_eq_true rfl) k2 (by decide) rfl (C.monoE H (fun o h11 _ x13 K => cont_I K (fun v12 H => ?_) (fun r HX => XR_nc rfl HX)))
    obtain ⟨k14, H⟩ := H
    obtain ⟨k15, H⟩ := H
    obtain ⟨k16, H⟩ := H
    replace H := H _ rfl
    refine r_iast dX4_runs_268 k14 k15 k16 ?_
    refine r_aload_n dX4_runs_269 rfl rfl ?_
    refine r_getG fr_X4_9_12 (by decide) dX4_runs_270 (x13.kd k2 (by decide)) (by decide) ?_
    refine r_bipush dX4_runs_273 rfl ?_
    refine r_iload dX4_runs_275 rfl ?_
    refine r_aload_n dX4_runs_277 rfl rfl ?_
    refine r_iload_n dX4_runs_278 rfl rfl ?_
    refine r_iconst dX4_runs_279 rfl ?_
    refine r_invV (y := m_X4_of) dX4_runs_280 rfl (lw_V q3362 q3364 qp79 q122 q3365) py_X4_of (Nat.le_of_ble_eq_true rfl) (args := [_, _]) rfl rfl (Nat.le_of_ble_eq_true rfl) (x13.kd k2 (by decide)) (by decide) rfl (C.monoE H (fun o h18 _ x20 K => cont_I K (fun v19 H => ?_) (fun r HX => XR_nc rfl HX)))
    refine r_isub dX4_runs_283 ?_
    obtain ⟨k21, H⟩ := H
    obtain ⟨k22, H⟩ := H
    obtain ⟨k23, H⟩ := H
    replace H := H _ rfl
    refine r_iast dX4_runs_284 k21 k22 k23 ?_
    refine r_aload_n dX4_runs_285 rfl rfl ?_
    refine r_getG fr_X4_9_12 (by decide) dX4_runs_286 (x20.kd (x13.kd k2 (by decide)) (by decide)) (by decide) ?_
    refine r_bipush dX4_runs_289 rfl ?_
    refine r_aload_n dX4_runs_291 rfl rfl ?_
    refine r_getG fr_X4_9_12 (by decide) dX4_runs_292 (x20.kd (x13.kd k2 (by decide)) (by decide)) (by decide) ?_
    refine r_iconst dX4_runs_295 rfl ?_
    obtain ⟨k25, H⟩ := H
    obtain ⟨k26, H⟩ := H
    refine r_iald dX4_runs_296 k25 k26 ?_
    obtain ⟨k28, H⟩ := H
    obtain ⟨k29, H⟩ := H
    replace H := H _ rfl
    refine r_iast dX4_runs_297 k25 k28 k29 ?_
    refine r_aload_n dX4_runs_298 rfl rfl ?_
    refine r_getG fr_X4_9_12 (by decide) dX4_runs_299 (x20.kd (x13.kd k2 (by decide)) (by decide)) (by decide) ?_
    refine r_iconst dX4_runs_302 rfl ?_
    refine r_dup2 dX4_runs_303 rfl rfl ?_
    obtain ⟨k31, H⟩ := H
    obtain ⟨k32, H⟩ := H
    refine r_iald dX4_runs_304 k31 k32 ?_
    refine r_iconst dX4_runs_305 rfl ?_
    refine r_iadd dX4_runs_306 ?_
    obtain ⟨k34, H⟩ := H
    replace H := H _ rfl
    refine r_iast dX4_runs_307 k31 k34 k32 ?_
    refine r_aload_n dX4_runs_308 rfl rfl ?_
    refine r_aload_n dX4_runs_309 rfl rfl ?_
    refine r_iload_n dX4_runs_310 rfl rfl ?_
    refine r_iconst dX4_runs_311 rfl ?_
    refine r_invV (y := m_X4_of) dX4_runs_312 rfl (lw_V q3362 q3364 qp79 q122 q3365) py_X4_of (Nat.le_of_ble_eq_true rfl) (args := [_, _]) rfl rfl (Nat.le_of_ble_eq_true rfl) (x20.kd (x13.kd k2 (by decide)) (by decide)) (by decide) rfl (C.monoE H (fun o h37 _ x39 K => cont_I K (fun v38 H => ?_) (fun r HX => XR_nc rfl HX)))
    refine r_invV (y := m_X4_does) dX4_runs_315 rfl (lw_V q3334 q3336 qp73 q122 q3337) py_X4_does (Nat.le_of_ble_eq_true rfl) (args := [_]) rfl rfl (Nat.le_of_ble_eq_true rfl) (x39.kd (x20.kd (x13.kd k2 (by decide)) (by decide)) (by decide)) (by decide) rfl (C.monoE H (fun o h40 _ x42 K => cont_I K (fun v41 H => ?_) (fun r HX => XR_nc rfl HX)))
    exact r_iret dX4_runs_318 rfl H
  · replace H := H.2 b1
    refine r_aload_n dX4_runs_211 rfl rfl ?_
    obtain ⟨k43, H⟩ := H
    refine r_getG fr_X4_9_12 (by decide) dX4_runs_212 k43 (by decide) ?_
    refine r_bipush dX4_runs_215 rfl ?_
    refine r_iload dX4_runs_217 rfl ?_
    refine r_iadd dX4_runs_219 ?_
    refine r_aload_n dX4_runs_220 rfl rfl ?_
    refine r_getG fr_X4_9_12 (by decide) dX4_runs_221 k43 (by decide) ?_
    refine r_bipush dX4_runs_224 rfl ?_
    refine r_iload dX4_runs_226 rfl ?_
    refine r_iadd dX4_runs_228 ?_
    refine r_iconst dX4_runs_229 rfl ?_
    refine r_isub dX4_runs_230 ?_
    obtain ⟨k44, H⟩ := H
    obtain ⟨k45, H⟩ := H
    refine r_iald dX4_runs_231 k44 k45 ?_
    obtain ⟨k47, H⟩ := H
    obtain ⟨k48, H⟩ := H
    replace H := H _ rfl
    refine r_iast dX4_runs_232 k44 k47 k48 ?_
    refine r_iinc dX4_runs_233 rfl rfl (Nat.le_of_ble_eq_true rfl) rfl (slS (slS (slS (slS (slS (slS (slS sl0))))))) ?_
    refine r_goto (tgt := 205) dX4_runs_236 rfl ?_
    exact H
abbrev w_X4_runs_201 (g : PG) (d : Nat) (l0 : Nat) (l1 : Int32) (l4 : Int32) (l5 : Int32) (h : PH) (Q : Out → PH → Prop) : Prop := R g d m_X4_runs 205 [.ref l0, .int l1, .null, .null, .int l4, .int l5, .null, .int 24] [] h Q
theorem v_X4_runs_201 {g : PG} {d : Nat} {l0 : Nat} {l1 : Int32} {l4 : Int32} {l5 : Int32} {h : PH} {Q : Out → PH → Prop} (H : w_X4_runs_201 g d l0 l1 l4 l5 h Q) : R g d m_X4_runs 201 [.ref l0, .int l1, .null, .null, .int l4, .int l5, .null, .null] [] h Q := by
  refine r_bipush dX4_runs_201 rfl ?_
  refine r_istore dX4_runs_203 (Nat.le_of_ble_eq_true rfl) rfl (slS (slS (slS (slS (slS (slS (slS sl0))))))) ?_
  exact H
abbrev w_X4_runs_0 (g : PG) (d : Nat) (l0 : Nat) (l1 : Int32) (l2 : Int32) (h : PH) (Q : Out → PH → Prop) : Prop := C g d m_X4_in [.int l2, .int 1, .int 9] h (oI (fun v2 h1 => ((¬ v2 = 0) → hkd h1 l0 = 12 ∧ C g d m_X4_isMan [.ref l0, .int l1] h1 (oI (fun v7 h6 => ((¬ v7 = 0) → C g d m_X4_of [.ref l0, .int l1, .int 0] h6 (oI (fun v11 h10 => C g d m_X4_hasHat [.ref l0, .int l1] h10 (oI (fun v14 h13 => ((¬ v14 = 0) → hkd h13 (hG h13 521 l0) / 100 = 1 ∧ vp_in (((39 : Int32) + ((3 : Int32) * v11)) + (1 : Int32)) (hln h13 (hG h13 521 l0)) ∧ (((hA h13 (hG h13 521 l0) (((39 : Int32) + ((3 : Int32) * v11)) + (1 : Int32)).toNatClampNeg) ≤ 0) → C g d m_X4_of [.ref l0, .int l1, .int 1] h13 (oI (fun v21 h20 => (((v21 + l2) ≤ (11 : Int32)) → C g d m_X4_of [.ref l0, .int l1, .int 2] h20 (oI (fun v25 h24 => C g d m_X4_goes [.ref l0, .int l1, .int l2] h24 (oI (fun v28 h27 => C g d m_X4_of [.ref l0, .int l1, .int 4] h27 (oI (fun v31 h30 => C g d m_X4_sets [.ref l0, .int l1, .int 4, .int (v31 + v28)] h30 (oV (fun h33 => C g d m_X4_of [.ref l0, .int l1, .int 1] h33 (oI (fun v37 h36 => ((¬ v37 = (11 : Int32)) → w_X4_runs_201 g d l0 l1 v21 v25 h36 Q) ∧ ((v37 = (11 : Int32)) → C g d m_X4_hasHat [.ref l0, .int l1] h36 (oI (fun v41 h40 => ((v41 = 0) → w_X4_runs_201 g d l0 l1 v21 v25 h40 Q) ∧ ((¬ v41 = 0) → hkd h40 (hG h40 521 l0) / 100 = 1 ∧ vp_in (1 : Int32) (hln h40 (hG h40 521 l0)) ∧ hkd h40 (hG h40 521 l0) % 100 < 50 ∧ vp_in (((39 : Int32) + ((3 : Int32) * v11)) + (1 : Int32)) (hln h40 (hG h40 521 l0)) ∧ ∀ h49, h49 = setA (hG h40 521 l0) (((39 : Int32) + ((3 : Int32) * v11)) + (1 : Int32)).toNatClampNeg ((hA h40 (hG h40 521 l0) (1 : Int32).toNatClampNeg) + (1 : Int32)) h40 → w_X4_runs_201 g d l0 l1 v21 v25 h49 Q)) (fun r hx => Q (.inr r) hx)))) (fun r hx => Q (.inr r) hx))) (fun r hx => Q (.inr r) hx))) (fun r hx => Q (.inr r) hx))) (fun r hx => Q (.inr r) hx))) (fun r hx => Q (.inr r) hx))) ∧ ((¬ (v21 + l2) ≤ (11 : Int32)) → C g d m_X4_refuses_2 [.ref l0, .int 3, .int l1, .int 6, .int ((11 : Int32) - v21)] h20 (oI (fun v51 h50 => Q (.inl (some (.int v51))) h50) (fun r hx => Q (.inr r) hx)))) (fun r hx => Q (.inr r) hx))) ∧ ((¬ (hA h13 (hG h13 521 l0) (((39 : Int32) + ((3 : Int32) * v11)) + (1 : Int32)).toNatClampNeg) ≤ 0) → C g d m_X4_refuses_2 [.ref l0, .int 3, .int l1, .int 5, .int ((hA h13 (hG h13 521 l0) (((39 : Int32) + ((3 : Int32) * v11)) + (1 : Int32)).toNatClampNeg) - (1 : Int32))] h13 (oI (fun v56 h55 => Q (.inl (some (.int v56))) h55) (fun r hx => Q (.inr r) hx)))) ∧ ((v14 = 0) → C g d m_X4_wearer [.ref l0, .int v11] h13 (oI (fun v59 h58 => C g d m_X4_refuses_2 [.ref l0, .int 3, .int l1, .int 4, .int v59] h58 (oI (fun v62 h61 => Q (.inl (some (.int v62))) h61) (fun r hx => Q (.inr r) hx))) (fun r hx => Q (.inr r) hx)))) (fun r hx => Q (.inr r) hx))) (fun r hx => Q (.inr r) hx))) ∧ ((v7 = 0) → hkd h6 (hG h6 521 l0) / 100 = 1 ∧ vp_in (0 : Int32) (hln h6 (hG h6 521 l0)) ∧ C g d m_X4_refuses [.ref l0, .int 2, .int (hA h6 (hG h6 521 l0) (0 : Int32).toNatClampNeg)] h6 (oI (fun v67 h66 => Q (.inl (some (.int v67))) h66) (fun r hx => Q (.inr r) hx)))) (fun r hx => Q (.inr r) hx))) ∧ ((v2 = 0) → Q (.inl (some (.int 1))) h1)) (fun r hx => Q (.inr r) hx))
theorem v_X4_runs_0 {g : PG} {d : Nat} {l0 : Nat} {l1 : Int32} {l2 : Int32} {h : PH} {Q : Out → PH → Prop} (H : w_X4_runs_0 g d l0 l1 l2 h Q) : R g d m_X4_runs 0 [.ref l0, .int l1, .int l2, .null, .null, .null, .null, .null] [] h Q := by
  refine r_iload_n dX4_runs_0 rfl rfl ?_
  refine r_iconst dX4_runs_1 rfl ?_
  refine r_bipush dX4_runs_2 rfl ?_
  refine r_invS (y := m_X4_in) dX4_runs_4 rfl (lw_S q3315 q3316 q122 q3317) py_X4_in (Nat.le_of_ble_eq_true rfl) (args := [_, _, _]) rfl rfl (Nat.le_of_ble_eq_true rfl) (C.monoE H (fun o h1 _ x3 K => cont_I K (fun v2 H => ?_) (fun r HX => XR_nc rfl HX)))
  refine r_if_ne (tgt := 12) dX4_runs_7 rfl (fun b4 => ?_) (fun b4 => ?_)
  · replace H := H.1 b4
    refine r_aload_n dX4_runs_12 rfl rfl ?_
    refine r_iload_n dX4_runs_13 rfl rfl ?_
    obtain ⟨k5, H⟩ := H
    refine r_invV (y := m_X4_isMan) dX4_runs_14 rfl (lw_V q3358 q3360 qp78 q122 q3361) py_X4_isMan (Nat.le_of_ble_eq_true rfl) (args := [_]) rfl rfl (Nat.le_of_ble_eq_true rfl) k5 (by decide) rfl (C.monoE H (fun o h6 _ x8 K => cont_I K (fun v7 H => ?_) (fun r HX => XR_nc rfl HX)))
    refine r_if_ne (tgt := 32) dX4_runs_17 rfl (fun b9 => ?_) (fun b9 => ?_)
    · replace H := H.1 b9
      refine r_aload_n dX4_runs_32 rfl rfl ?_
      refine r_iload_n dX4_runs_33 rfl rfl ?_
      refine r_iconst dX4_runs_34 rfl ?_
      refine r_invV (y := m_X4_of) dX4_runs_35 rfl (lw_V q3362 q3364 qp79 q122 q3365) py_X4_of (Nat.le_of_ble_eq_true rfl) (args := [_, _]) rfl rfl (Nat.le_of_ble_eq_true rfl) (x8.kd k5 (by decide)) (by decide) rfl (C.monoE H (fun o h10 _ x12 K => cont_I K (fun v11 H => ?_) (fun r HX => XR_nc rfl HX)))
      refine r_istore_n dX4_runs_38 rfl (Nat.le_of_ble_eq_true rfl) rfl (slS (slS (slS sl0))) ?_
      refine r_aload_n dX4_runs_39 rfl rfl ?_
      refine r_iload_n dX4_runs_40 rfl rfl ?_
      refine r_invV (y := m_X4_hasHat) dX4_runs_41 rfl (lw_V q3366 q3368 qp80 q122 q3369) py_X4_hasHat (Nat.le_of_ble_eq_true rfl) (args := [_]) rfl rfl (Nat.le_of_ble_eq_true rfl) (x12.kd (x8.kd k5 (by decide)) (by decide)) (by decide) rfl (C.monoE H (fun o h13 _ x15 K => cont_I K (fun v14 H => ?_) (fun r HX => XR_nc rfl HX)))
      refine r_if_ne (tgt := 60) dX4_runs_44 rfl (fun b16 => ?_) (fun b16 => ?_)
      · replace H := H.1 b16
        refine r_aload_n dX4_runs_60 rfl rfl ?_
        refine r_getG fr_X4_9_12 (by decide) dX4_runs_61 (x15.kd (x12.kd (x8.kd k5 (by decide)) (by decide)) (by decide)) (by decide) ?_
        refine r_bipush dX4_runs_64 rfl ?_
        refine r_iconst dX4_runs_66 rfl ?_
        refine r_iload_n dX4_runs_67 rfl rfl ?_
        refine r_imul dX4_runs_68 ?_
        refine r_iadd dX4_runs_69 ?_
        refine r_iconst dX4_runs_70 rfl ?_
        refine r_iadd dX4_runs_71 ?_
        obtain ⟨k17, H⟩ := H
        obtain ⟨k18, H⟩ := H
        refine r_iald dX4_runs_72 k17 k18 ?_
        refine r_if_le (tgt := 99) dX4_runs_73 rfl (fun b19 => ?_) (fun b19 => ?_)
        · replace H := H.1 b19
          refine r_aload_n dX4_runs_99 rfl rfl ?_
          refine r_iload_n dX4_runs_100 rfl rfl ?_
          refine r_iconst dX4_runs_101 rfl ?_
          refine r_invV (y := m_X4_of) dX4_runs_102 rfl (lw_V q3362 q3364 qp79 q122 q3365) py_X4_of (Nat.le_of_ble_eq_true rfl) (args := [_, _]) rfl rfl (Nat.le_of_ble_eq_true rfl) (x15.kd (x12.kd (x8.kd k5 (by decide)) (by decide)) (by decide)) (by decide) rfl (C.monoE H (fun o h20 _ x22 K => cont_I K (fun v21 H => ?_) (fun r HX => XR_nc rfl HX)))
          refine r_istore dX4_runs_105 (Nat.le_of_ble_eq_true rfl) rfl (slS (slS (slS (slS sl0)))) ?_
          refine r_iload dX4_runs_107 rfl ?_
          refine r_iload_n dX4_runs_109 rfl rfl ?_
          refine r_iadd dX4_runs_110 ?_
          refine r_bipush dX4_runs_111 rfl ?_
          refine r_icmp_le (tgt := 130) dX4_runs_113 rfl (fun b23 => ?_) (fun b23 => ?_)
          · replace H := H.1 b23
            refine r_aload_n dX4_runs_130 rfl rfl ?_
            refine r_iload_n dX4_runs_131 rfl rfl ?_
            refine r_iconst dX4_runs_132 rfl ?_
            refine r_invV (y := m_X4_of) dX4_runs_133 rfl (lw_V q3362 q3364 qp79 q122 q3365) py_X4_of (Nat.le_of_ble_eq_true rfl) (args := [_, _]) rfl rfl (Nat.le_of_ble_eq_true rfl) (x22.kd (x15.kd (x12.kd (x8.kd k5 (by decide)) (by decide)) (by decide)) (by decide)) (by decide) rfl (C.monoE H (fun o h24 _ x26 K => cont_I K (fun v25 H => ?_) (fun r HX => XR_nc rfl HX)))
            refine r_istore dX4_runs_136 (Nat.le_of_ble_eq_true rfl) rfl (slS (slS (slS (slS (slS sl0))))) ?_
            refine r_aload_n dX4_runs_138 rfl rfl ?_
            refine r_iload_n dX4_runs_139 rfl rfl ?_
            refine r_iload_n dX4_runs_140 rfl rfl ?_
            refine r_invV (y := m_X4_goes) dX4_runs_141 rfl (lw_V q3374 q3376 qp82 q122 q3377) py_X4_goes (Nat.le_of_ble_eq_true rfl) (args := [_, _]) rfl rfl (Nat.le_of_ble_eq_true rfl) (x26.kd (x22.kd (x15.kd (x12.kd (x8.kd k5 (by decide)) (by decide)) (by decide)) (by decide)) (by decide)) (by decide) rfl (C.monoE H (fun o h27 _ x29 K => cont_I K (fun v28 H => ?_) (fun r HX => XR_nc rfl HX)))
            refine r_istore dX4_runs_144 (Nat.le_of_ble_eq_true rfl) rfl (slS (slS (slS (slS (slS (slS sl0)))))) ?_
            refine r_aload_n dX4_runs_146 rfl rfl ?_
            refine r_iload_n dX4_runs_147 rfl rfl ?_
            refine r_iconst dX4_runs_148 rfl ?_
            refine r_aload_n dX4_runs_149 rfl rfl ?_
            refine r_iload_n dX4_runs_150 rfl rfl ?_
            refine r_iconst dX4_runs_151 rfl ?_
            refine r_invV (y := m_X4_of) dX4_runs_152 rfl (lw_V q3362 q3364 qp79 q122 q3365) py_X4_of (Nat.le_of_ble_eq_true rfl) (args := [_, _]) rfl rfl (Nat.le_of_ble_eq_true rfl) (x29.kd (x26.kd (x22.kd (x15.kd (x12.kd (x8.kd k5 (by decide)) (by decide)) (by decide)) (by decide)) (by decide)) (by decide)) (by decide) rfl (C.monoE H (fun o h30 _ x32 K => cont_I K (fun v31 H => ?_) (fun r HX => XR_nc rfl HX)))
            refine r_iload dX4_runs_155 rfl ?_
            refine r_iadd dX4_runs_157 ?_
            refine r_invV (y := m_X4_sets) dX4_runs_158 rfl (lw_V q3326 q3328 qp71 q122 q3329) py_X4_sets (Nat.le_of_ble_eq_true rfl) (args := [_, _, _]) rfl rfl (Nat.le_of_ble_eq_true rfl) (x32.kd (x29.kd (x26.kd (x22.kd (x15.kd (x12.kd (x8.kd k5 (by decide)) (by decide)) (by decide)) (by decide)) (by decide)) (by decide)) (by decide)) (by decide) rfl (C.monoE H (fun o h33 _ x35 K => cont_V K (fun H => ?_) (fun r HX => XR_nc rfl HX)))
            refine r_aload_n dX4_runs_161 rfl rfl ?_
            refine r_iload_n dX4_runs_162 rfl rfl ?_
            refine r_iconst dX4_runs_163 rfl ?_
            refine r_invV (y := m_X4_of) dX4_runs_164 rfl (lw_V q3362 q3364 qp79 q122 q3365) py_X4_of (Nat.le_of_ble_eq_true rfl) (args := [_, _]) rfl rfl (Nat.le_of_ble_eq_true rfl) (x35.kd (x32.kd (x29.kd (x26.kd (x22.kd (x15.kd (x12.kd (x8.kd k5 (by decide)) (by decide)) (by decide)) (by decide)) (by decide)) (by decide)) (by decide)) (by decide)) (by decide) rfl (C.monoE H (fun o h36 _ x38 K => cont_I K (fun v37 H => ?_) (fun r HX => XR_nc rfl HX)))
            refine r_bipush dX4_runs_167 rfl ?_
            refine r_icmp_ne (tgt := 201) dX4_runs_169 rfl (fun b39 => ?_) (fun b39 => ?_)
            · replace H := H.1 b39
              exact R.forget (v_X4_runs_201 H) ⟨Or.inl rfl, ⟨Or.inl rfl, ⟨Or.inr rfl, ⟨Or.inr rfl, ⟨Or.inl rfl, ⟨Or.inl rfl, ⟨Or.inr rfl, ⟨Or.inl rfl, trivial⟩⟩⟩⟩⟩⟩⟩⟩
            · replace H := H.2 b39
              refine r_aload_n dX4_runs_172 rfl rfl ?_
              refine r_iload_n dX4_runs_173 rfl rfl ?_
              refine r_invV (y := m_X4_hasHat) dX4_runs_174 rfl (lw_V q3366 q3368 qp80 q122 q3369) py_X4_hasHat (Nat.le_of_ble_eq_true rfl) (args := [_]) rfl rfl (Nat.le_of_ble_eq_true rfl) (x38.kd (x35.kd (x32.kd (x29.kd (x26.kd (x22.kd (x15.kd (x12.kd (x8.kd k5 (by decide)) (by decide)) (by decide)) (by decide)) (by decide)) (by decide)) (by decide)) (by decide)) (by decide)) (by decide) rfl (C.monoE H (fun o h40 _ x42 K => cont_I K (fun v41 H => ?_) (fun r HX => XR_nc rfl HX)))
              refine r_if_eq (tgt := 201) dX4_runs_177 rfl (fun b43 => ?_) (fun b43 => ?_)
              · replace H := H.1 b43
                exact R.forget (v_X4_runs_201 H) ⟨Or.inl rfl, ⟨Or.inl rfl, ⟨Or.inr rfl, ⟨Or.inr rfl, ⟨Or.inl rfl, ⟨Or.inl rfl, ⟨Or.inr rfl, ⟨Or.inl rfl, trivial⟩⟩⟩⟩⟩⟩⟩⟩
              · replace H := H.2 b43
                refine r_aload_n dX4_runs_180 rfl rfl ?_
                refine r_getG fr_X4_9_12 (by decide) dX4_runs_181 (x42.kd (x38.kd (x35.kd (x32.kd (x29.kd (x26.kd (x22.kd (x15.kd (x12.kd (x8.kd k5 (by decide)) (by decide)) (by decide)) (by decide)) (by decide)) (by decide)) (by decide)) (by decide)) (by decide)) (by decide)) (by decide) ?_
                refine r_bipush dX4_runs_184 rfl ?_
                refine r_iconst dX4_runs_186 rfl ?_
                refine r_iload_n dX4_runs_187 rfl rfl ?_
                refine r_imul dX4_runs_188 ?_
                refine r_iadd dX4_runs_189 ?_
                refine r_iconst dX4_runs_190 rfl ?_
                refine r_iadd dX4_runs_191 ?_
                refine r_aload_n dX4_runs_192 rfl rfl ?_
                refine r_getG fr_X4_9_12 (by decide) dX4_runs_193 (x42.kd (x38.kd (x35.kd (x32.kd (x29.kd (x26.kd (x22.kd (x15.kd (x12.kd (x8.kd k5 (by decide)) (by decide)) (by decide)) (by decide)) (by decide)) (by decide)) (by decide)) (by decide)) (by decide)) (by decide)) (by decide) ?_
                refine r_iconst dX4_runs_196 rfl ?_
                obtain ⟨k44, H⟩ := H
                obtain ⟨k45, H⟩ := H
                refine r_iald dX4_runs_197 k44 k45 ?_
                refine r_iconst dX4_runs_198 rfl ?_
                refine r_iadd dX4_runs_199 ?_
                obtain ⟨k47, H⟩ := H
                obtain ⟨k48, H⟩ := H
                replace H := H _ rfl
                refine r_iast dX4_runs_200 k44 k47 k48 ?_
                exact R.forget (v_X4_runs_201 H) ⟨Or.inl rfl, ⟨Or.inl rfl, ⟨Or.inr rfl, ⟨Or.inr rfl, ⟨Or.inl rfl, ⟨Or.inl rfl, ⟨Or.inr rfl, ⟨Or.inl rfl, trivial⟩⟩⟩⟩⟩⟩⟩⟩
          · replace H := H.2 b23
            refine r_aload_n dX4_runs_116 rfl rfl ?_
            refine r_iconst dX4_runs_117 rfl ?_
            refine r_iload_n dX4_runs_118 rfl rfl ?_
            refine r_bipush dX4_runs_119 rfl ?_
            refine r_bipush dX4_runs_121 rfl ?_
            refine r_iload dX4_runs_123 rfl ?_
            refine r_isub dX4_runs_125 ?_
            refine r_invV (y := m_X4_refuses_2) dX4_runs_126 rfl (lw_V q3322 q3324 qp70 q122 q3325) py_X4_refuses_2 (Nat.le_of_ble_eq_true rfl) (args := [_, _, _, _]) rfl rfl (Nat.le_of_ble_eq_true rfl) (x22.kd (x15.kd (x12.kd (x8.kd k5 (by decide)) (by decide)) (by decide)) (by decide)) (by decide) rfl (C.monoE H (fun o h50 _ x52 K => cont_I K (fun v51 H => ?_) (fun r HX => XR_nc rfl HX)))
            exact r_iret dX4_runs_129 rfl H
        · replace H := H.2 b19
          refine r_aload_n dX4_runs_76 rfl rfl ?_
          refine r_iconst dX4_runs_77 rfl ?_
          refine r_iload_n dX4_runs_78 rfl rfl ?_
          refine r_iconst dX4_runs_79 rfl ?_
          refine r_aload_n dX4_runs_80 rfl rfl ?_
          refine r_getG fr_X4_9_12 (by decide) dX4_runs_81 (x15.kd (x12.kd (x8.kd k5 (by decide)) (by decide)) (by decide)) (by decide) ?_
          refine r_bipush dX4_runs_84 rfl ?_
          refine r_iconst dX4_runs_86 rfl ?_
          refine r_iload_n dX4_runs_87 rfl rfl ?_
          refine r_imul dX4_runs_88 ?_
          refine r_iadd dX4_runs_89 ?_
          refine r_iconst dX4_runs_90 rfl ?_
          refine r_iadd dX4_runs_91 ?_
          refine r_iald dX4_runs_92 k17 k18 ?_
          refine r_iconst dX4_runs_93 rfl ?_
          refine r_isub dX4_runs_94 ?_
          refine r_invV (y := m_X4_refuses_2) dX4_runs_95 rfl (lw_V q3322 q3324 qp70 q122 q3325) py_X4_refuses_2 (Nat.le_of_ble_eq_true rfl) (args := [_, _, _, _]) rfl rfl (Nat.le_of_ble_eq_true rfl) (x15.kd (x12.kd (x8.kd k5 (by decide)) (by decide)) (by decide)) (by decide) rfl (C.monoE H (fun o h55 _ x57 K => cont_I K (fun v56 H => ?_) (fun r HX => XR_nc rfl HX)))
          exact r_iret dX4_runs_98 rfl H
      · replace H := H.2 b16
        refine r_aload_n dX4_runs_47 rfl rfl ?_
        refine r_iconst dX4_runs_48 rfl ?_
        refine r_iload_n dX4_runs_49 rfl rfl ?_
        refine r_iconst dX4_runs_50 rfl ?_
        refine r_aload_n dX4_runs_51 rfl rfl ?_
        refine r_iload_n dX4_runs_52 rfl rfl ?_
        refine r_invV (y := m_X4_wearer) dX4_runs_53 rfl (lw_V q3370 q3372 qp81 q122 q3373) py_X4_wearer (Nat.le_of_ble_eq_true rfl) (args := [_]) rfl rfl (Nat.le_of_ble_eq_true rfl) (x15.kd (x12.kd (x8.kd k5 (by decide)) (by decide)) (by decide)) (by decide) rfl (C.monoE H (fun o h58 _ x60 K => cont_I K (fun v59 H => ?_) (fun r HX => XR_nc rfl HX)))
        refine r_invV (y := m_X4_refuses_2) dX4_runs_56 rfl (lw_V q3322 q3324 qp70 q122 q3325) py_X4_refuses_2 (Nat.le_of_ble_eq_true rfl) (args := [_, _, _, _]) rfl rfl (Nat.le_of_ble_eq_true rfl) (x60.kd (x15.kd (x12.kd (x8.kd k5 (by decide)) (by decide)) (by decide)) (by decide)) (by decide) rfl (C.monoE H (fun o h61 _ x63 K => cont_I K (fun v62 H => ?_) (fun r HX => XR_nc rfl HX)))
        exact r_iret dX4_runs_59 rfl H
    · replace H := H.2 b9
      refine r_aload_n dX4_runs_20 rfl rfl ?_
      refine r_iconst dX4_runs_21 rfl ?_
      refine r_aload_n dX4_runs_22 rfl rfl ?_
      refine r_getG fr_X4_9_12 (by decide) dX4_runs_23 (x8.kd k5 (by decide)) (by decide) ?_
      refine r_iconst dX4_runs_26 rfl ?_
      obtain ⟨k64, H⟩ := H
      obtain ⟨k65, H⟩ := H
      refine r_iald dX4_runs_27 k64 k65 ?_
      refine r_invV (y := m_X4_refuses) dX4_runs_28 rfl (lw_V q3318 q3320 qp69 q122 q3321) py_X4_refuses (Nat.le_of_ble_eq_true rfl) (args := [_, _]) rfl rfl (Nat.le_of_ble_eq_true rfl) (x8.kd k5 (by decide)) (by decide) rfl (C.monoE H (fun o h66 _ x68 K => cont_I K (fun v67 H => ?_) (fun r HX => XR_nc rfl HX)))
      exact r_iret dX4_runs_31 rfl H
  · replace H := H.2 b4
    refine r_iconst dX4_runs_10 rfl ?_
    exact r_iret dX4_runs_11 rfl H
theorem c_X4_runs_0 {g : PG} {d : Nat} {l0 : Nat} {l1 : Int32} {l2 : Int32} {h : PH} {Q : Out → PH → Prop} (H : w_X4_runs_0 g d l0 l1 l2 h Q) : C g (d + 1) m_X4_runs [.ref l0, .int l1, .int l2] h Q := C_of_R rfl rfl (Nat.le_of_ble_eq_true rfl) rfl (v_X4_runs_0 H)
abbrev w_X4_isMan_0 (g : PG) (d : Nat) (l0 : Nat) (l1 : Int32) (h : PH) (Q : Out → PH → Prop) : Prop := hkd h l0 = 12 ∧ hkd h (hG h 521 l0) / 100 = 1 ∧ vp_in (0 : Int32) (hln h (hG h 521 l0)) ∧ C g d m_X4_in [.int l1, .int 0, .int ((hA h (hG h 521 l0) (0 : Int32).toNatClampNeg) - (1 : Int32))] h (oI (fun v5 h4 => narrow .boolean (.int v5) = .int v5 ∧ Q (.inl (some (.int v5))) h4) (fun r hx => Q (.inr r) hx))
theorem v_X4_isMan_0 {g : PG} {d : Nat} {l0 : Nat} {l1 : Int32} {h : PH} {Q : Out → PH → Prop} (H : w_X4_isMan_0 g d l0 l1 h Q) : R g d m_X4_isMan 0 [.ref l0, .int l1] [] h Q := by
  refine r_iload_n dX4_isMan_0 rfl rfl ?_
  refine r_iconst dX4_isMan_1 rfl ?_
  refine r_aload_n dX4_isMan_2 rfl rfl ?_
  obtain ⟨k1, H⟩ := H
  refine r_getG fr_X4_9_12 (by decide) dX4_isMan_3 k1 (by decide) ?_
  refine r_iconst dX4_isMan_6 rfl ?_
  obtain ⟨k2, H⟩ := H
  obtain ⟨k3, H⟩ := H
  refine r_iald dX4_isMan_7 k2 k3 ?_
  refine r_iconst dX4_isMan_8 rfl ?_
  refine r_isub dX4_isMan_9 ?_
  refine r_invS (y := m_X4_in) dX4_isMan_10 rfl (lw_S q3315 q3316 q122 q3317) py_X4_in (Nat.le_of_ble_eq_true rfl) (args := [_, _, _]) rfl rfl (Nat.le_of_ble_eq_true rfl) (C.monoE H (fun o h4 _ x6 K => cont_I K (fun v5 H => ?_) (fun r HX => XR_nc rfl HX)))
  exact r_zret dX4_isMan_13 rfl H.1 H.2
theorem c_X4_isMan_0 {g : PG} {d : Nat} {l0 : Nat} {l1 : Int32} {h : PH} {Q : Out → PH → Prop} (H : w_X4_isMan_0 g d l0 l1 h Q) : C g (d + 1) m_X4_isMan [.ref l0, .int l1] h Q := C_of_R rfl rfl (Nat.le_of_ble_eq_true rfl) rfl (v_X4_isMan_0 H)
abbrev w_X4_of_0 (g : PG) (d : Nat) (l0 : Nat) (l1 : Int32) (l2 : Int32) (h : PH) (Q : Out → PH → Prop) : Prop := hkd h l0 = 12 ∧ hkd h (hG h 521 l0) / 100 = 1 ∧ vp_in (((48 : Int32) + ((6 : Int32) * l1)) + l2) (hln h (hG h 521 l0)) ∧ Q (.inl (some (.int (hA h (hG h 521 l0) (((48 : Int32) + ((6 : Int32) * l1)) + l2).toNatClampNeg)))) h
theorem v_X4_of_0 {g : PG} {d : Nat} {l0 : Nat} {l1 : Int32} {l2 : Int32} {h : PH} {Q : Out → PH → Prop} (H : w_X4_of_0 g d l0 l1 l2 h Q) : R g d m_X4_of 0 [.ref l0, .int l1, .int l2] [] h Q := by
  refine r_aload_n dX4_of_0 rfl rfl ?_
  obtain ⟨k1, H⟩ := H
  refine r_getG fr_X4_9_12 (by decide) dX4_of_1 k1 (by decide) ?_
  refine r_bipush dX4_of_4 rfl ?_
  refine r_bipush dX4_of_6 rfl ?_
  refine r_iload_n dX4_of_8 rfl rfl ?_
  refine r_imul dX4_of_9 ?_
  refine r_iadd dX4_of_10 ?_
  refine r_iload_n dX4_of_11 rfl rfl ?_
  refine r_iadd dX4_of_12 ?_
  obtain ⟨k2, H⟩ := H
  obtain ⟨k3, H⟩ := H
  refine r_iald dX4_of_13 k2 k3 ?_
  exact r_iret dX4_of_14 rfl H
theorem c_X4_of_0 {g : PG} {d : Nat} {l0 : Nat} {l1 : Int32} {l2 : Int32} {h : PH} {Q : Out → PH → Prop} (H : w_X4_of_0 g d l0 l1 l2 h Q) : C g (d + 1) m_X4_of [.ref l0, .int l1, .int l2] h Q := C_of_R rfl rfl (Nat.le_of_ble_eq_true rfl) rfl (v_X4_of_0 H)
abbrev w_X4_hasHat_0 (g : PG) (d : Nat) (l0 : Nat) (l1 : Int32) (h : PH) (Q : Out → PH → Prop) : Prop := hkd h l0 = 12 ∧ C g d m_X4_of [.ref l0, .int l1, .int 0] h (oI (fun v3 h2 => C g d m_X4_hat [.ref l0, .int v3] h2 (oI (fun v6 h5 => ((¬ v6 = (l1 + (1 : Int32))) → Q (.inl (some (.int 0))) h5) ∧ ((v6 = (l1 + (1 : Int32))) → Q (.inl (some (.int 1))) h5)) (fun r hx => Q (.inr r) hx))) (fun r hx => Q (.inr r) hx))
theorem v_X4_hasHat_0 {g : PG} {d : Nat} {l0 : Nat} {l1 : Int32} {h : PH} {Q : Out → PH → Prop} (H : w_X4_hasHat_0 g d l0 l1 h Q) : R g d m_X4_hasHat 0 [.ref l0, .int l1] [] h Q := by
  refine r_aload_n dX4_hasHat_0 rfl rfl ?_
  refine r_aload_n dX4_hasHat_1 rfl rfl ?_
  refine r_iload_n dX4_hasHat_2 rfl rfl ?_
  refine r_iconst dX4_hasHat_3 rfl ?_
  obtain ⟨k1, H⟩ := H
  refine r_invV (y := m_X4_of) dX4_hasHat_4 rfl (lw_V q3362 q3364 qp79 q122 q3365) py_X4_of (Nat.le_of_ble_eq_true rfl) (args := [_, _]) rfl rfl (Nat.le_of_ble_eq_true rfl) k1 (by decide) rfl (C.monoE H (fun o h2 _ x4 K => cont_I K (fun v3 H => ?_) (fun r HX => XR_nc rfl HX)))
  refine r_invV (y := m_X4_hat) dX4_hasHat_7 rfl (lw_V q3330 q3332 qp72 q122 q3333) py_X4_hat (Nat.le_of_ble_eq_true rfl) (args := [_]) rfl rfl (Nat.le_of_ble_eq_true rfl) (x4.kd k1 (by decide)) (by decide) rfl (C.monoE H (fun o h5 _ x7 K => cont_I K (fun v6 H => ?_) (fun r HX => XR_nc rfl HX)))
  refine r_iload_n dX4_hasHat_10 rfl rfl ?_
  refine r_iconst dX4_hasHat_11 rfl ?_
  refine r_iadd dX4_hasHat_12 ?_
  refine r_icmp_ne (tgt := 20) dX4_hasHat_13 rfl (fun b8 => ?_) (fun b8 => ?_)
  · replace H := H.1 b8
    refine r_iconst dX4_hasHat_20 rfl ?_
    exact r_zret dX4_hasHat_21 rfl rfl H
  · replace H := H.2 b8
    refine r_iconst dX4_hasHat_16 rfl ?_
    refine r_goto (tgt := 21) dX4_hasHat_17 rfl ?_
    exact r_zret dX4_hasHat_21 rfl rfl H
theorem c_X4_hasHat_0 {g : PG} {d : Nat} {l0 : Nat} {l1 : Int32} {h : PH} {Q : Out → PH → Prop} (H : w_X4_hasHat_0 g d l0 l1 h Q) : C g (d + 1) m_X4_hasHat [.ref l0, .int l1] h Q := C_of_R rfl rfl (Nat.le_of_ble_eq_true rfl) rfl (v_X4_hasHat_0 H)
abbrev w_X4_wearer_0 (g : PG) (d : Nat) (l0 : Nat) (l1 : Int32) (h : PH) (Q : Out → PH → Prop) : Prop := hkd h l0 = 12 ∧ C g d m_X4_hat [.ref l0, .int l1] h (oI (fun v3 h2 => ((v3 ≤ 0) → Q (.inl (some (.int (-1 : Int32)))) h2) ∧ ((¬ v3 ≤ 0) → C g d m_X4_hat [.ref l0, .int l1] h2 (oI (fun v7 h6 => Q (.inl (some (.int (v7 - (1 : Int32))))) h6) (fun r hx => Q (.inr r) hx)))) (fun r hx => Q (.inr r) hx))
theorem v_X4_wearer_0 {g : PG} {d : Nat} {l0 : Nat} {l1 : Int32} {h : PH} {Q : Out → PH → Prop} (H : w_X4_wearer_0 g d l0 l1 h Q) : R g d m_X4_wearer 0 [.ref l0, .int l1] [] h Q := by
  refine r_aload_n dX4_wearer_0 rfl rfl ?_
  refine r_iload_n dX4_wearer_1 rfl rfl ?_
  obtain ⟨k1, H⟩ := H
  refine r_invV (y := m_X4_hat) dX4_wearer_2 rfl (lw_V q3330 q3332 qp72 q122 q3333) py_X4_hat (Nat.le_of_ble_eq_true rfl) (args := [_]) rfl rfl (Nat.le_of_ble_eq_true rfl) k1 (by decide) rfl (C.monoE H (fun o h2 _ x4 K => cont_I K (fun v3 H => ?_) (fun r HX => XR_nc rfl HX)))
  refine r_if_le (tgt := 18) dX4_wearer_5 rfl (fun b5 => ?_) (fun b5 => ?_)
  · replace H := H.1 b5
    refine r_iconst dX4_wearer_18 rfl ?_
    exact r_iret dX4_wearer_19 rfl H
  · replace H := H.2 b5
    refine r_aload_n dX4_wearer_8 rfl rfl ?_
    refine r_iload_n dX4_wearer_9 rfl rfl ?_
    refine r_invV (y := m_X4_hat) dX4_wearer_10 rfl (lw_V q3330 q3332 qp72 q122 q3333) py_X4_hat (Nat.le_of_ble_eq_true rfl) (args := [_]) rfl rfl (Nat.le_of_ble_eq_true rfl) (x4.kd k1 (by decide)) (by decide) rfl (C.monoE H (fun o h6 _ x8 K => cont_I K (fun v7 H => ?_) (fun r HX => XR_nc rfl HX)))
    refine r_iconst dX4_wearer_13 rfl ?_
    refine r_isub dX4_wearer_14 ?_
    refine r_goto (tgt := 19) dX4_wearer_15 rfl ?_
    exact r_iret dX4_wearer_19 rfl H
theorem c_X4_wearer_0 {g : PG} {d : Nat} {l0 : Nat} {l1 : Int32} {h : PH} {Q : Out → PH → Prop} (H : w_X4_wearer_0 g d l0 l1 h Q) : C g (d + 1) m_X4_wearer [.ref l0, .int l1] h Q := C_of_R rfl rfl (Nat.le_of_ble_eq_true rfl) rfl (v_X4_wearer_0 H)
abbrev w_X4_goes_2 (g : PG) (d : Nat) (l0 : Nat) (l1 : Int32) (l2 : Int32) (l3 : Int32) (h : PH) (Q : Out → PH → Prop) : Prop := ((l2 ≤ l3) → Q (.inl (some (.int l3))) h) ∧ ((¬ l2 ≤ l3) → hkd h l0 = 12 ∧ C g d m_X4_of [.ref l0, .int l1, .int 2] h (oI (fun v4 h3 => ((v4 ≤ 0) → Q (.inl (some (.int l3))) h3) ∧ ((¬ v4 ≤ 0) → C g d m_X4_of [.ref l0, .int l1, .int 1] h3 (oI (fun v8 h7 => C g d m_X4_sets [.ref l0, .int l1, .int 1, .int (v8 + (1 : Int32))] h7 (oV (fun h10 => C g d m_X4_acts [.ref l0, .int l1] h10 (oV (fun h13 => R g d m_X4_goes 2 [.ref l0, .int l1, .int l2, .int (l3 + 1)] [] h13 Q) (fun r hx => Q (.inr r) hx))) (fun r hx => Q (.inr r) hx))) (fun r hx => Q (.inr r) hx)))) (fun r hx => Q (.inr r) hx)))
theorem v_X4_goes_2 {g : PG} {d : Nat} {l0 : Nat} {l1 : Int32} {l2 : Int32} {l3 : Int32} {h : PH} {Q : Out → PH → Prop} (H : w_X4_goes_2 g d l0 l1 l2 l3 h Q) : R g d m_X4_goes 2 [.ref l0, .int l1, .int l2, .int l3] [] h Q := by
  refine r_iload_n dX4_goes_2 rfl rfl ?_
  refine r_iload_n dX4_goes_3 rfl rfl ?_
  refine r_icmp_ge (tgt := 41) dX4_goes_4 rfl (fun b1 => ?_) (fun b1 => ?_)
  · replace H := H.1 b1
    refine r_iload_n dX4_goes_41 rfl rfl ?_
    exact r_iret dX4_goes_42 rfl H
  · replace H := H.2 b1
    refine r_aload_n dX4_goes_7 rfl rfl ?_
    refine r_iload_n dX4_goes_8 rfl rfl ?_
    refine r_iconst dX4_goes_9 rfl ?_
    obtain ⟨k2, H⟩ := H
    refine r_invV (y := m_X4_of) dX4_goes_10 rfl (lw_V q3362 q3364 qp79 q122 q3365) py_X4_of (Nat.le_of_ble_eq_true rfl) (args := [_, _]) rfl rfl (Nat.le_of_ble_eq_true rfl) k2 (by decide) rfl (C.monoE H (fun o h3 _ x5 K => cont_I K (fun v4 H => ?_) (fun r HX => XR_nc rfl HX)))
    refine r_if_le (tgt := 41) dX4_goes_13 rfl (fun b6 => ?_) (fun b6 => ?_)
    · replace H := H.1 b6
      refine r_iload_n dX4_goes_41 rfl rfl ?_
      exact r_iret dX4_goes_42 rfl H
    · replace H := H.2 b6
      refine r_aload_n dX4_goes_16 rfl rfl ?_
      refine r_iload_n dX4_goes_17 rfl rfl ?_
      refine r_iconst dX4_goes_18 rfl ?_
      refine r_aload_n dX4_goes_19 rfl rfl ?_
      refine r_iload_n dX4_goes_20 rfl rfl ?_
      refine r_iconst dX4_goes_21 rfl ?_
      refine r_invV (y := m_X4_of) dX4_goes_22 rfl (lw_V q3362 q3364 qp79 q122 q3365) py_X4_of (Nat.le_of_ble_eq_true rfl) (args := [_, _]) rfl rfl (Nat.le_of_ble_eq_true rfl) (x5.kd k2 (by decide)) (by decide) rfl (C.monoE H (fun o h7 _ x9 K => cont_I K (fun v8 H => ?_) (fun r HX => XR_nc rfl HX)))
      refine r_iconst dX4_goes_25 rfl ?_
      refine r_iadd dX4_goes_26 ?_
      refine r_invV (y := m_X4_sets) dX4_goes_27 rfl (lw_V q3326 q3328 qp71 q122 q3329) py_X4_sets (Nat.le_of_ble_eq_true rfl) (args := [_, _, _]) rfl rfl (Nat.le_of_ble_eq_true rfl) (x9.kd (x5.kd k2 (by decide)) (by decide)) (by decide) rfl (C.monoE H (fun o h10 _ x12 K => cont_V K (fun H => ?_) (fun r HX => XR_nc rfl HX)))
      refine r_aload_n dX4_goes_30 rfl rfl ?_
      refine r_iload_n dX4_goes_31 rfl rfl ?_
      refine r_invV (y := m_X4_acts) dX4_goes_32 rfl (lw_V q3378 q3380 qp83 q122 q3381) py_X4_acts (Nat.le_of_ble_eq_true rfl) (args := [_]) rfl rfl (Nat.le_of_ble_eq_true rfl) (x12.kd (x9.kd (x5.kd k2 (by decide)) (by decide)) (by decide)) (by decide) rfl (C.monoE H (fun o h13 _ x15 K => cont_V K (fun H => ?_) (fun r HX => XR_nc rfl HX)))
      refine r_iinc dX4_goes_35 rfl rfl (Nat.le_of_ble_eq_true rfl) rfl (slS (slS (slS sl0))) ?_
      refine r_goto (tgt := 2) dX4_goes_38 rfl ?_
      exact H
abbrev w_X4_goes_0 (g : PG) (d : Nat) (l0 : Nat) (l1 : Int32) (l2 : Int32) (h : PH) (Q : Out → PH → Prop) : Prop := R g d m_X4_goes 2 [.ref l0, .int l1, .int l2, .int 0] [] h Q
theorem v_X4_goes_0 {g : PG} {d : Nat} {l0 : Nat} {l1 : Int32} {l2 : Int32} {h : PH} {Q : Out → PH → Prop} (H : w_X4_goes_0 g d l0 l1 l2 h Q) : R g d m_X4_goes 0 [.ref l0, .int l1, .int l2, .null] [] h Q := by
  refine r_iconst dX4_goes_0 rfl ?_
  refine r_istore_n dX4_goes_1 rfl (Nat.le_of_ble_eq_true rfl) rfl (slS (slS (slS sl0))) ?_
  exact H
theorem c_X4_goes_0 {g : PG} {d : Nat} {l0 : Nat} {l1 : Int32} {l2 : Int32} {h : PH} {Q : Out → PH → Prop} (H : w_X4_goes_0 g d l0 l1 l2 h Q) : C g (d + 1) m_X4_goes [.ref l0, .int l1, .int l2] h Q := C_of_R rfl rfl (Nat.le_of_ble_eq_true rfl) rfl (v_X4_goes_0 H)
abbrev w_X4_acts_161 (g : PG) (d : Nat) (l0 : Nat) (l1 : Int32) (l2 : Int32) (h : PH) (Q : Out → PH → Prop) : Prop := hkd h l0 = 12 ∧ C g d m_X4_of [.ref l0, .int l1, .int 2] h (oI (fun v3 h2 => ((¬ v3 = 0) → Q (.inl none) h2) ∧ ((v3 = 0) → C g d m_X4_hasHat [.ref l0, .int l1] h2 (oI (fun v7 h6 => ((v7 = 0) → Q (.inl none) h6) ∧ ((¬ v7 = 0) → C g d m_X4_of [.ref l0, .int l1, .int 0] h6 (oI (fun v11 h10 => hkd h10 (hG h6 521 l0) / 100 = 1 ∧ hkd h10 (hG h6 521 l0) % 100 < 50 ∧ vp_in ((39 : Int32) + ((3 : Int32) * v11)) (hln h10 (hG h6 521 l0)) ∧ ∀ h16, h16 = setA (hG h6 521 l0) ((39 : Int32) + ((3 : Int32) * v11)).toNatClampNeg ((-1 : Int32) - l2) h10 → Q (.inl none) h16) (fun r hx => Q (.inr r) hx)))) (fun r hx => Q (.inr r) hx)))) (fun r hx => Q (.inr r) hx))
theorem v_X4_acts_161 {g : PG} {d : Nat} {l0 : Nat} {l1 : Int32} {l2 : Int32} {h : PH} {Q : Out → PH → Prop} (H : w_X4_acts_161 g d l0 l1 l2 h Q) : R g d m_X4_acts 161 [.ref l0, .int l1, .int l2, .null, .null] [] h Q := by
  refine r_aload_n dX4_acts_161 rfl rfl ?_
  refine r_iload_n dX4_acts_162 rfl rfl ?_
  refine r_iconst dX4_acts_163 rfl ?_
  obtain ⟨k1, H⟩ := H
  refine r_invV (y := m_X4_of) dX4_acts_164 rfl (lw_V q3362 q3364 qp79 q122 q3365) py_X4_of (Nat.le_of_ble_eq_true rfl) (args := [_, _]) rfl rfl (Nat.le_of_ble_eq_true rfl) k1 (by decide) rfl (C.monoE H (fun o h2 _ x4 K => cont_I K (fun v3 H => ?_) (fun r HX => XR_nc rfl HX)))
  refine r_if_ne (tgt := 197) dX4_acts_167 rfl (fun b5 => ?_) (fun b5 => ?_)
  · replace H := H.1 b5
    exact r_vret dX4_acts_197 rfl H
  · replace H := H.2 b5
    refine r_aload_n dX4_acts_170 rfl rfl ?_
    refine r_iload_n dX4_acts_171 rfl rfl ?_
    refine r_invV (y := m_X4_hasHat) dX4_acts_172 rfl (lw_V q3366 q3368 qp80 q122 q3369) py_X4_hasHat (Nat.le_of_ble_eq_true rfl) (args := [_]) rfl rfl (Nat.le_of_ble_eq_true rfl) (x4.kd k1 (by decide)) (by decide) rfl (C.monoE H (fun o h6 _ x8 K => cont_I K (fun v7 H => ?_) (fun r HX => XR_nc rfl HX)))
    refine r_if_eq (tgt := 197) dX4_acts_175 rfl (fun b9 => ?_) (fun b9 => ?_)
    · replace H := H.1 b9
      exact r_vret dX4_acts_197 rfl H
    · replace H := H.2 b9
      refine r_aload_n dX4_acts_178 rfl rfl ?_
      refine r_getG fr_X4_9_12 (by decide) dX4_acts_179 (x8.kd (x4.kd k1 (by decide)) (by decide)) (by decide) ?_
      refine r_bipush dX4_acts_182 rfl ?_
      refine r_iconst dX4_acts_184 rfl ?_
      refine r_aload_n dX4_acts_185 rfl rfl ?_
      refine r_iload_n dX4_acts_186 rfl rfl ?_
      refine r_iconst dX4_acts_187 rfl ?_
      refine r_invV (y := m_X4_of) dX4_acts_188 rfl (lw_V q3362 q3364 qp79 q122 q3365) py_X4_of (Nat.le_of_ble_eq_true rfl) (args := [_, _]) rfl rfl (Nat.le_of_ble_eq_true rfl) (x8.kd (x4.kd k1 (by decide)) (by decide)) (by decide) rfl (C.monoE H (fun o h10 _ x12 K => cont_I K (fun v11 H => ?_) (fun r HX => XR_nc rfl HX)))
      refine r_imul dX4_acts_191 ?_
      refine r_iadd dX4_acts_192 ?_
      refine r_iconst dX4_acts_193 rfl ?_
      refine r_iload_n dX4_acts_194 rfl rfl ?_
      refine r_isub dX4_acts_195 ?_
      obtain ⟨k13, H⟩ := H
      obtain ⟨k14, H⟩ := H
      obtain ⟨k15, H⟩ := H
      replace H := H _ rfl
      refine r_iast dX4_acts_196 k13 k14 k15 ?_
      exact r_vret dX4_acts_197 rfl H
abbrev w_X4_acts_121 (g : PG) (d : Nat) (l0 : Nat) (l1 : Int32) (l2 : Int32) (l3 : Int32) (h : PH) (Q : Out → PH → Prop) : Prop := hkd h l0 = 12 ∧ C g d m_X4_of [.ref l0, .int l1, .int 2] h (oI (fun v3 h2 => (((10 : Int32) ≤ v3) → w_X4_acts_161 g d l0 l1 l2 h2 Q) ∧ ((¬ (10 : Int32) ≤ v3) → C g d m_X4_of [.ref l0, .int l1, .int 3] h2 (oI (fun v7 h6 => ((¬ v7 = (1 : Int32)) → w_X4_acts_161 g d l0 l1 l2 h6 Q) ∧ ((v7 = (1 : Int32)) → C g d m_X4_sets [.ref l0, .int l1, .int 3, .int 0] h6 (oV (fun h10 => hkd h10 (hG h10 521 l0) / 100 = 1 ∧ vp_in (l3 + (2 : Int32)) (hln h10 (hG h10 521 l0)) ∧ hkd h10 (hG h10 521 l0) % 100 < 50 ∧ ∀ h18, h18 = setA (hG h10 521 l0) (l3 + (2 : Int32)).toNatClampNeg ((hA h10 (hG h10 521 l0) (l3 + (2 : Int32)).toNatClampNeg) + (1 : Int32)) h10 → w_X4_acts_161 g d l0 l1 l2 h18 Q) (fun r hx => Q (.inr r) hx)))) (fun r hx => Q (.inr r) hx)))) (fun r hx => Q (.inr r) hx))
theorem v_X4_acts_121 {g : PG} {d : Nat} {l0 : Nat} {l1 : Int32} {l2 : Int32} {l3 : Int32} {h : PH} {Q : Out → PH → Prop} (H : w_X4_acts_121 g d l0 l1 l2 l3 h Q) : R g d m_X4_acts 121 [.ref l0, .int l1, .int l2, .int l3, .null] [] h Q := by
  refine r_aload_n dX4_acts_121 rfl rfl ?_
  refine r_iload_n dX4_acts_122 rfl rfl ?_
  refine r_iconst dX4_acts_123 rfl ?_
  obtain ⟨k1, H⟩ := H
  refine r_invV (y := m_X4_of) dX4_acts_124 rfl (lw_V q3362 q3364 qp79 q122 q3365) py_X4_of (Nat.le_of_ble_eq_true rfl) (args := [_, _]) rfl rfl (Nat.le_of_ble_eq_true rfl) k1 (by decide) rfl (C.monoE H (fun o h2 _ x4 K => cont_I K (fun v3 H => ?_) (fun r HX => XR_nc rfl HX)))
  refine r_bipush dX4_acts_127 rfl ?_
  refine r_icmp_ge (tgt := 161) dX4_acts_129 rfl (fun b5 => ?_) (fun b5 => ?_)
  · replace H := H.1 b5
    exact R.forget (v_X4_acts_161 H) ⟨Or.inl rfl, ⟨Or.inl rfl, ⟨Or.inl rfl, ⟨Or.inr rfl, ⟨Or.inl rfl, trivial⟩⟩⟩⟩⟩
  · replace H := H.2 b5
    refine r_aload_n dX4_acts_132 rfl rfl ?_
    refine r_iload_n dX4_acts_133 rfl rfl ?_
    refine r_iconst dX4_acts_134 rfl ?_
    refine r_invV (y := m_X4_of) dX4_acts_135 rfl (lw_V q3362 q3364 qp79 q122 q3365) py_X4_of (Nat.le_of_ble_eq_true rfl) (args := [_, _]) rfl rfl (Nat.le_of_ble_eq_true rfl) (x4.kd k1 (by decide)) (by decide) rfl (C.monoE H (fun o h6 _ x8 K => cont_I K (fun v7 H => ?_) (fun r HX => XR_nc rfl HX)))
    refine r_iconst dX4_acts_138 rfl ?_
    refine r_icmp_ne (tgt := 161) dX4_acts_139 rfl (fun b9 => ?_) (fun b9 => ?_)
    · replace H := H.1 b9
      exact R.forget (v_X4_acts_161 H) ⟨Or.inl rfl, ⟨Or.inl rfl, ⟨Or.inl rfl, ⟨Or.inr rfl, ⟨Or.inl rfl, trivial⟩⟩⟩⟩⟩
    · replace H := H.2 b9
      refine r_aload_n dX4_acts_142 rfl rfl ?_
      refine r_iload_n dX4_acts_143 rfl rfl ?_
      refine r_iconst dX4_acts_144 rfl ?_
      refine r_iconst dX4_acts_145 rfl ?_
      refine r_invV (y := m_X4_sets) dX4_acts_146 rfl (lw_V q3326 q3328 qp71 q122 q3329) py_X4_sets (Nat.le_of_ble_eq_true rfl) (args := [_, _, _]) rfl rfl (Nat.le_of_ble_eq_true rfl) (x8.kd (x4.kd k1 (by decide)) (by decide)) (by decide) rfl (C.monoE H (fun o h10 _ x12 K => cont_V K (fun H => ?_) (fun r HX => XR_nc rfl HX)))
      refine r_aload_n dX4_acts_149 rfl rfl ?_
      refine r_getG fr_X4_9_12 (by decide) dX4_acts_150 (x12.kd (x8.kd (x4.kd k1 (by decide)) (by decide)) (by decide)) (by decide) ?_
      refine r_iload_n dX4_acts_153 rfl rfl ?_
      refine r_iconst dX4_acts_154 rfl ?_
      refine r_iadd dX4_acts_155 ?_
      refine r_dup2 dX4_acts_156 rfl rfl ?_
      obtain ⟨k13, H⟩ := H
      obtain ⟨k14, H⟩ := H
      refine r_iald dX4_acts_157 k13 k14 ?_
      refine r_iconst dX4_acts_158 rfl ?_
      refine r_iadd dX4_acts_159 ?_
      obtain ⟨k16, H⟩ := H
      replace H := H _ rfl
      refine r_iast dX4_acts_160 k13 k16 k14 ?_
      exact R.forget (v_X4_acts_161 H) ⟨Or.inl rfl, ⟨Or.inl rfl, ⟨Or.inl rfl, ⟨Or.inr rfl, ⟨Or.inl rfl, trivial⟩⟩⟩⟩⟩
abbrev w_X4_acts_71 (g : PG) (d : Nat) (l0 : Nat) (l1 : Int32) (l2 : Int32) (l3 : Int32) (s0 : Int32) (h : PH) (Q : Out → PH → Prop) : Prop := hkd h l0 = 12 ∧ hkd h (hG h 521 l0) / 100 = 1 ∧ vp_in (l3 + (1 : Int32)) (hln h (hG h 521 l0)) ∧ hkd h (hG h 521 l0) % 100 < 50 ∧ ∀ h7, h7 = setA (hG h 521 l0) (l3 + (1 : Int32)).toNatClampNeg ((hA h (hG h 521 l0) (l3 + (1 : Int32)).toNatClampNeg) - s0) h → C g d m_X4_of [.ref l0, .int l1, .int 2] h7 (oI (fun v9 h8 => C g d m_X4_sets [.ref l0, .int l1, .int 2, .int (v9 + s0)] h8 (oV (fun h11 => ((0 ≤ s0) → w_X4_acts_121 g d l0 l1 l2 l3 h11 Q) ∧ ((¬ 0 ≤ s0) → C g d m_X4_of [.ref l0, .int l1, .int 5] h11 (oI (fun v16 h15 => C g d m_X4_sets [.ref l0, .int l1, .int 5, .int (v16 - s0)] h15 (oV (fun h18 => w_X4_acts_121 g d l0 l1 l2 l3 h18 Q) (fun r hx => Q (.inr r) hx))) (fun r hx => Q (.inr r) hx)))) (fun r hx => Q (.inr r) hx))) (fun r hx => Q (.inr r) hx))
theorem v_X4_acts_71 {g : PG} {d : Nat} {l0 : Nat} {l1 : Int32} {l2 : Int32} {l3 : Int32} {s0 : Int32} {h : PH} {Q : Out → PH → Prop} (H : w_X4_acts_71 g d l0 l1 l2 l3 s0 h Q) : R g d m_X4_acts 71 [.ref l0, .int l1, .int l2, .int l3, .null] [.int s0] h Q := by
  refine r_istore dX4_acts_71 (Nat.le_of_ble_eq_true rfl) rfl (slS (slS (slS (slS sl0)))) ?_
  refine r_aload_n dX4_acts_73 rfl rfl ?_
  obtain ⟨k1, H⟩ := H
  refine r_getG fr_X4_9_12 (by decide) dX4_acts_74 k1 (by decide) ?_
  refine r_iload_n dX4_acts_77 rfl rfl ?_
  refine r_iconst dX4_acts_78 rfl ?_
  refine r_iadd dX4_acts_79 ?_
  refine r_dup2 dX4_acts_80 rfl rfl ?_
  obtain ⟨k2, H⟩ := H
  obtain ⟨k3, H⟩ := H
  refine r_iald dX4_acts_81 k2 k3 ?_
  refine r_iload dX4_acts_82 rfl ?_
  refine r_isub dX4_acts_84 ?_
  obtain ⟨k5, H⟩ := H
  replace H := H _ rfl
  refine r_iast dX4_acts_85 k2 k5 k3 ?_
  refine r_aload_n dX4_acts_86 rfl rfl ?_
  refine r_iload_n dX4_acts_87 rfl rfl ?_
  refine r_iconst dX4_acts_88 rfl ?_
  refine r_aload_n dX4_acts_89 rfl rfl ?_
  refine r_iload_n dX4_acts_90 rfl rfl ?_
  refine r_iconst dX4_acts_91 rfl ?_
  refine r_invV (y := m_X4_of) dX4_acts_92 rfl (lw_V q3362 q3364 qp79 q122 q3365) py_X4_of (Nat.le_of_ble_eq_true rfl) (args := [_, _]) rfl rfl (Nat.le_of_ble_eq_true rfl) k1 (by decide) rfl (C.monoE H (fun o h8 _ x10 K => cont_I K (fun v9 H => ?_) (fun r HX => XR_nc rfl HX)))
  refine r_iload dX4_acts_95 rfl ?_
  refine r_iadd dX4_acts_97 ?_
  refine r_invV (y := m_X4_sets) dX4_acts_98 rfl (lw_V q3326 q3328 qp71 q122 q3329) py_X4_sets (Nat.le_of_ble_eq_true rfl) (args := [_, _, _]) rfl rfl (Nat.le_of_ble_eq_true rfl) (x10.kd k1 (by decide)) (by decide) rfl (C.monoE H (fun o h11 _ x13 K => cont_V K (fun H => ?_) (fun r HX => XR_nc rfl HX)))
  refine r_iload dX4_acts_101 rfl ?_
  refine r_if_ge (tgt := 121) dX4_acts_103 rfl (fun b14 => ?_) (fun b14 => ?_)
  · replace H := H.1 b14
    exact R.forget (v_X4_acts_121 H) ⟨Or.inl rfl, ⟨Or.inl rfl, ⟨Or.inl rfl, ⟨Or.inl rfl, ⟨Or.inr rfl, trivial⟩⟩⟩⟩⟩
  · replace H := H.2 b14
    refine r_aload_n dX4_acts_106 rfl rfl ?_
    refine r_iload_n dX4_acts_107 rfl rfl ?_
    refine r_iconst dX4_acts_108 rfl ?_
    refine r_aload_n dX4_acts_109 rfl rfl ?_
    refine r_iload_n dX4_acts_110 rfl rfl ?_
    refine r_iconst dX4_acts_111 rfl ?_
    refine r_invV (y := m_X4_of) dX4_acts_112 rfl (lw_V q3362 q3364 qp79 q122 q3365) py_X4_of (Nat.le_of_ble_eq_true rfl) (args := [_, _]) rfl rfl (Nat.le_of_ble_eq_true rfl) (x13.kd (x10.kd k1 (by decide)) (by decide)) (by decide) rfl (C.monoE H (fun o h15 _ x17 K => cont_I K (fun v16 H => ?_) (fun r HX => XR_nc rfl HX)))
    refine r_iload dX4_acts_115 rfl ?_
    refine r_isub dX4_acts_117 ?_
    refine r_invV (y := m_X4_sets) dX4_acts_118 rfl (lw_V q3326 q3328 qp71 q122 q3329) py_X4_sets (Nat.le_of_ble_eq_true rfl) (args := [_, _, _]) rfl rfl (Nat.le_of_ble_eq_true rfl) (x17.kd (x13.kd (x10.kd k1 (by decide)) (by decide)) (by decide)) (by decide) rfl (C.monoE H (fun o h18 _ x20 K => cont_V K (fun H => ?_) (fun r HX => XR_nc rfl HX)))
    exact R.forget (v_X4_acts_121 H) ⟨Or.inl rfl, ⟨Or.inl rfl, ⟨Or.inl rfl, ⟨Or.inl rfl, ⟨Or.inr rfl, trivial⟩⟩⟩⟩⟩
abbrev w_X4_acts_0 (g : PG) (d : Nat) (l0 : Nat) (l1 : Int32) (h : PH) (Q : Out → PH → Prop) : Prop := hkd h l0 = 12 ∧ C g d m_X4_of [.ref l0, .int l1, .int 1] h (oI (fun v3 h2 => hkd h2 (hG h2 521 l0) / 100 = 1 ∧ vp_in ((3 : Int32) + ((3 : Int32) * v3)) (hln h2 (hG h2 521 l0)) ∧ (((hA h2 (hG h2 521 l0) ((3 : Int32) + ((3 : Int32) * v3)).toNatClampNeg) ≤ 0) → vp_in (((3 : Int32) + ((3 : Int32) * v3)) + (1 : Int32)) (hln h2 (hG h2 521 l0)) ∧ C g d m_X4_of [.ref l0, .int l1, .int 2] h2 (oI (fun v13 h12 => w_X4_acts_71 g d l0 l1 v3 ((3 : Int32) + ((3 : Int32) * v3)) (i32min (i32min (-(hA h2 (hG h2 521 l0) ((3 : Int32) + ((3 : Int32) * v3)).toNatClampNeg)) (hA h2 (hG h2 521 l0) (((3 : Int32) + ((3 : Int32) * v3)) + (1 : Int32)).toNatClampNeg)) ((60 : Int32) - v13)) h12 Q) (fun r hx => Q (.inr r) hx))) ∧ ((¬ (hA h2 (hG h2 521 l0) ((3 : Int32) + ((3 : Int32) * v3)).toNatClampNeg) ≤ 0) → C g d m_X4_of [.ref l0, .int l1, .int 2] h2 (oI (fun v18 h17 => w_X4_acts_71 g d l0 l1 v3 ((3 : Int32) + ((3 : Int32) * v3)) (-(i32min (hA h2 (hG h2 521 l0) ((3 : Int32) + ((3 : Int32) * v3)).toNatClampNeg) v18)) h17 Q) (fun r hx => Q (.inr r) hx)))) (fun r hx => Q (.inr r) hx))
theorem v_X4_acts_0 {g : PG} {d : Nat} {l0 : Nat} {l1 : Int32} {h : PH} {Q : Out → PH → Prop} (H : w_X4_acts_0 g d l0 l1 h Q) : R g d m_X4_acts 0 [.ref l0, .int l1, .null, .null, .null] [] h Q := by
  refine r_aload_n dX4_acts_0 rfl rfl ?_
  refine r_iload_n dX4_acts_1 rfl rfl ?_
  refine r_iconst dX4_acts_2 rfl ?_
  obtain ⟨k1, H⟩ := H
  refine r_invV (y := m_X4_of) dX4_acts_3 rfl (lw_V q3362 q3364 qp79 q122 q3365) py_X4_of (Nat.le_of_ble_eq_true rfl) (args := [_, _]) rfl rfl (Nat.le_of_ble_eq_true rfl) k1 (by decide) rfl (C.monoE H (fun o h2 _ x4 K => cont_I K (fun v3 H => ?_) (fun r HX => XR_nc rfl HX)))
  refine r_istore_n dX4_acts_6 rfl (Nat.le_of_ble_eq_true rfl) rfl (slS (slS sl0)) ?_
  refine r_iconst dX4_acts_7 rfl ?_
  refine r_iconst dX4_acts_8 rfl ?_
  refine r_iload_n dX4_acts_9 rfl rfl ?_
  refine r_imul dX4_acts_10 ?_
  refine r_iadd dX4_acts_11 ?_
  refine r_istore_n dX4_acts_12 rfl (Nat.le_of_ble_eq_true rfl) rfl (slS (slS (slS sl0))) ?_
  refine r_aload_n dX4_acts_13 rfl rfl ?_
  refine r_getG fr_X4_9_12 (by decide) dX4_acts_14 (x4.kd k1 (by decide)) (by decide) ?_
  refine r_iload_n dX4_acts_17 rfl rfl ?_
  obtain ⟨k5, H⟩ := H
  obtain ⟨k6, H⟩ := H
  refine r_iald dX4_acts_18 k5 k6 ?_
  refine r_if_le (tgt := 41) dX4_acts_19 rfl (fun b7 => ?_) (fun b7 => ?_)
  · replace H := H.1 b7
    refine r_aload_n dX4_acts_41 rfl rfl ?_
    refine r_getG fr_X4_9_12 (by decide) dX4_acts_42 (x4.kd k1 (by decide)) (by decide) ?_
    refine r_iload_n dX4_acts_45 rfl rfl ?_
    refine r_iald dX4_acts_46 k5 k6 ?_
    refine r_ineg dX4_acts_47 ?_
    refine r_aload_n dX4_acts_48 rfl rfl ?_
    refine r_getG fr_X4_9_12 (by decide) dX4_acts_49 (x4.kd k1 (by decide)) (by decide) ?_
    refine r_iload_n dX4_acts_52 rfl rfl ?_
    refine r_iconst dX4_acts_53 rfl ?_
    refine r_iadd dX4_acts_54 ?_
    obtain ⟨k11, H⟩ := H
    refine r_iald dX4_acts_55 k5 k11 ?_
    refine r_mmin dX4_acts_56 q3382 q485 q134 q486 (Nat.le_of_ble_eq_true rfl) ?_
    refine r_bipush dX4_acts_59 rfl ?_
    refine r_aload_n dX4_acts_61 rfl rfl ?_
    refine r_iload_n dX4_acts_62 rfl rfl ?_
    refine r_iconst dX4_acts_63 rfl ?_
    refine r_invV (y := m_X4_of) dX4_acts_64 rfl (lw_V q3362 q3364 qp79 q122 q3365) py_X4_of (Nat.le_of_ble_eq_true rfl) (args := [_, _]) rfl rfl (Nat.le_of_ble_eq_true rfl) (x4.kd k1 (by decide)) (by decide) rfl (C.monoE H (fun o h12 _ x14 K => cont_I K (fun v13 H => ?_) (fun r HX => XR_nc rfl HX)))
    refine r_isub dX4_acts_67 ?_
    refine r_mmin dX4_acts_68 q3382 q485 q134 q486 (Nat.le_of_ble_eq_true rfl) ?_
    exact v_X4_acts_71 H
  · replace H := H.2 b7
    refine r_aload_n dX4_acts_22 rfl rfl ?_
    refine r_getG fr_X4_9_12 (by decide) dX4_acts_23 (x4.kd k1 (by decide)) (by decide) ?_
    refine r_iload_n dX4_acts_26 rfl rfl ?_
    refine r_iald dX4_acts_27 k5 k6 ?_
    refine r_aload_n dX4_acts_28 rfl rfl ?_
    refine r_iload_n dX4_acts_29 rfl rfl ?_
    refine r_iconst dX4_acts_30 rfl ?_
    refine r_invV (y := m_X4_of) dX4_acts_31 rfl (lw_V q3362 q3364 qp79 q122 q3365) py_X4_of (Nat.le_of_ble_eq_true rfl) (args := [_, _]) rfl rfl (Nat.le_of_ble_eq_true rfl) (x4.kd k1 (by decide)) (by decide) rfl (C.monoE H (fun o h17 _ x19 K => cont_I K (fun v18 H => ?_) (fun r HX => XR_nc rfl HX)))
    refine r_mmin dX4_acts_34 q3382 q485 q134 q486 (Nat.le_of_ble_eq_true rfl) ?_
    refine r_ineg dX4_acts_37 ?_
    refine r_goto (tgt := 71) dX4_acts_38 rfl ?_
    exact v_X4_acts_71 H
theorem c_X4_acts_0 {g : PG} {d : Nat} {l0 : Nat} {l1 : Int32} {h : PH} {Q : Out → PH → Prop} (H : w_X4_acts_0 g d l0 l1 h Q) : C g (d + 1) m_X4_acts [.ref l0, .int l1] h Q := C_of_R rfl rfl (Nat.le_of_ble_eq_true rfl) rfl (v_X4_acts_0 H)
abbrev w_X4_pass_0 (g : PG) (d : Nat) (l0 : Nat) (l1 : Int32) (l2 : Int32) (h : PH) (Q : Out → PH → Prop) : Prop := hkd h l0 = 12 ∧ C g d m_X4_tries [.ref l0] h (oV (fun h2 => C g d m_X4_gives [.ref l0, .int l1, .int l2] h2 (oI (fun v6 h5 => C g d m_X4_ends [.ref l0, .int v6, .int 1] h5 (oI (fun v9 h8 => Q (.inl (some (.int v9))) h8) (fun r hx => Q (.inr r) hx))) (fun r hx => Q (.inr r) hx))) (fun r hx => Q (.inr r) hx))
theorem v_X4_pass_0 {g : PG} {d : Nat} {l0 : Nat} {l1 : Int32} {l2 : Int32} {h : PH} {Q : Out → PH → Prop} (H : w_X4_pass_0 g d l0 l1 l2 h Q) : R g d m_X4_pass 0 [.ref l0, .int l1, .int l2] [] h Q := by
  refine r_aload_n dX4_pass_0 rfl rfl ?_
  obtain ⟨k1, H⟩ := H
  refine r_invV (y := m_X4_tries) dX4_pass_1 rfl (lw_V q3307 q3309 qp67 q122 q3310) py_X4_tries (Nat.le_of_ble_eq_true rfl) (args := []) rfl rfl (Nat.le_of_ble_eq_true rfl) k1 (by decide) rfl (C.monoE H (fun o h2 _ x4 K => cont_V K (fun H => ?_) (fun r HX => XR_nc rfl HX)))
  refine r_aload_n dX4_pass_4 rfl rfl ?_
  refine r_aload_n dX4_pass_5 rfl rfl ?_
  refine r_iload_n dX4_pass_6 rfl rfl ?_
  refine r_iload_n dX4_pass_7 rfl rfl ?_
  refine r_invV (y := m_X4_gives) dX4_pass_8 rfl (lw_V q3387 q3389 qp84 q122 q3390) py_X4_gives (Nat.le_of_ble_eq_true rfl) (args := [_, _]) rfl rfl (Nat.le_of_ble_eq_true rfl) (x4.kd k1 (by decide)) (by decide) rfl (C.monoE H (fun o h5 _ x7 K => cont_I K (fun v6 H => ?_) (fun r HX => XR_nc rfl HX)))
  refine r_iconst dX4_pass_11 rfl ?_
  refine r_invV (y := m_X4_ends) dX4_pass_12 rfl (lw_V q3338 q3340 qp74 q122 q3341) py_X4_ends (Nat.le_of_ble_eq_true rfl) (args := [_, _]) rfl rfl (Nat.le_of_ble_eq_true rfl) (x7.kd (x4.kd k1 (by decide)) (by decide)) (by decide) rfl (C.monoE H (fun o h8 _ x10 K => cont_I K (fun v9 H => ?_) (fun r HX => XR_nc rfl HX)))
  exact r_iret dX4_pass_15 rfl H
theorem c_X4_pass_0 {g : PG} {d : Nat} {l0 : Nat} {l1 : Int32} {l2 : Int32} {h : PH} {Q : Out → PH → Prop} (H : w_X4_pass_0 g d l0 l1 l2 h Q) : C g (d + 1) m_X4_pass [.ref l0, .int l1, .int l2] h Q := C_of_R rfl rfl (Nat.le_of_ble_eq_true rfl) rfl (v_X4_pass_0 H)
abbrev w_X4_gives_72 (g : PG) (d : Nat) (l0 : Nat) (l1 : Int32) (l2 : Int32) (h : PH) (Q : Out → PH → Prop) : Prop := hkd h l0 = 12 ∧ C g d m_X4_of [.ref l0, .int l2, .int 0] h (oI (fun v3 h2 => C g d m_X4_refuses_2 [.ref l0, .int 7, .int l1, .int 8, .int v3] h2 (oI (fun v6 h5 => Q (.inl (some (.int v6))) h5) (fun r hx => Q (.inr r) hx))) (fun r hx => Q (.inr r) hx))
theorem v_X4_gives_72 {g : PG} {d : Nat} {l0 : Nat} {l1 : Int32} {l2 : Int32} {h : PH} {Q : Out → PH → Prop} (H : w_X4_gives_72 g d l0 l1 l2 h Q) : R g d m_X4_gives 72 [.ref l0, .int l1, .int l2, .null, .null] [] h Q := by
  refine r_aload_n dX4_gives_72 rfl rfl ?_
  refine r_bipush dX4_gives_73 rfl ?_
  refine r_iload_n dX4_gives_75 rfl rfl ?_
  refine r_bipush dX4_gives_76 rfl ?_
  refine r_aload_n dX4_gives_78 rfl rfl ?_
  refine r_iload_n dX4_gives_79 rfl rfl ?_
  refine r_iconst dX4_gives_80 rfl ?_
  obtain ⟨k1, H⟩ := H
  refine r_invV (y := m_X4_of) dX4_gives_81 rfl (lw_V q3362 q3364 qp79 q122 q3365) py_X4_of (Nat.le_of_ble_eq_true rfl) (args := [_, _]) rfl rfl (Nat.le_of_ble_eq_true rfl) k1 (by decide) rfl (C.monoE H (fun o h2 _ x4 K => cont_I K (fun v3 H => ?_) (fun r HX => XR_nc rfl HX)))
  refine r_invV (y := m_X4_refuses_2) dX4_gives_84 rfl (lw_V q3322 q3324 qp70 q122 q3325) py_X4_refuses_2 (Nat.le_of_ble_eq_true rfl) (args := [_, _, _, _]) rfl rfl (Nat.le_of_ble_eq_true rfl) (x4.kd k1 (by decide)) (by decide) rfl (C.monoE H (fun o h5 _ x7 K => cont_I K (fun v6 H => ?_) (fun r HX => XR_nc rfl HX)))
  exact r_iret dX4_gives_87 rfl H
abbrev w_X4_gives_16 (g : PG) (d : Nat) (l0 : Nat) (h : PH) (Q : Out → PH → Prop) : Prop := hkd h l0 = 12 ∧ hkd h (hG h 521 l0) / 100 = 1 ∧ vp_in (0 : Int32) (hln h (hG h 521 l0)) ∧ C g d m_X4_refuses [.ref l0, .int 2, .int (hA h (hG h 521 l0) (0 : Int32).toNatClampNeg)] h (oI (fun v5 h4 => Q (.inl (some (.int v5))) h4) (fun r hx => Q (.inr r) hx))
theorem v_X4_gives_16 {g : PG} {d : Nat} {l0 : Nat} {h : PH} {Q : Out → PH → Prop} (H : w_X4_gives_16 g d l0 h Q) : R g d m_X4_gives 16 [.ref l0, .null, .null, .null, .null] [] h Q := by
  refine r_aload_n dX4_gives_16 rfl rfl ?_
  refine r_iconst dX4_gives_17 rfl ?_
  refine r_aload_n dX4_gives_18 rfl rfl ?_
  obtain ⟨k1, H⟩ := H
  refine r_getG fr_X4_9_12 (by decide) dX4_gives_19 k1 (by decide) ?_
  refine r_iconst dX4_gives_22 rfl ?_
  obtain ⟨k2, H⟩ := H
  obtain ⟨k3, H⟩ := H
  refine r_iald dX4_gives_23 k2 k3 ?_
  refine r_invV (y := m_X4_refuses) dX4_gives_24 rfl (lw_V q3318 q3320 qp69 q122 q3321) py_X4_refuses (Nat.le_of_ble_eq_true rfl) (args := [_, _]) rfl rfl (Nat.le_of_ble_eq_true rfl) k1 (by decide) rfl (C.monoE H (fun o h4 _ x6 K => cont_I K (fun v5 H => ?_) (fun r HX => XR_nc rfl HX)))
  exact r_iret dX4_gives_27 rfl H
abbrev w_X4_gives_0 (g : PG) (d : Nat) (l0 : Nat) (l1 : Int32) (l2 : Int32) (h : PH) (Q : Out → PH → Prop) : Prop := hkd h l0 = 12 ∧ C g d m_X4_isMan [.ref l0, .int l1] h (oI (fun v3 h2 => ((v3 = 0) → w_X4_gives_16 g d l0 h2 Q) ∧ ((¬ v3 = 0) → C g d m_X4_isMan [.ref l0, .int l2] h2 (oI (fun v7 h6 => ((¬ v7 = 0) → C g d m_X4_of [.ref l0, .int l1, .int 0] h6 (oI (fun v11 h10 => C g d m_X4_hasHat [.ref l0, .int l1] h10 (oI (fun v14 h13 => ((¬ v14 = 0) → C g d m_X4_of [.ref l0, .int l2, .int 0] h13 (oI (fun v18 h17 => ((¬ v18 = v11) → w_X4_gives_72 g d l0 l1 l2 h17 Q) ∧ ((v18 = v11) → ((¬ l2 = l1) → C g d m_X4_of [.ref l0, .int l2, .int 2] h17 (oI (fun v23 h22 => ((¬ v23 = 0) → C g d m_X4_of [.ref l0, .int l1, .int 1] h22 (oI (fun v27 h26 => C g d m_X4_of [.ref l0, .int l2, .int 1] h26 (oI (fun v30 h29 => (((i32abs (v27 - v30)) ≤ (1 : Int32)) → hkd h29 (hG h29 521 l0) / 100 = 1 ∧ hkd h29 (hG h29 521 l0) % 100 < 50 ∧ vp_in ((39 : Int32) + ((3 : Int32) * v11)) (hln h29 (hG h29 521 l0)) ∧ ∀ h36, h36 = setA (hG h29 521 l0) ((39 : Int32) + ((3 : Int32) * v11)).toNatClampNeg (l2 + (1 : Int32)) h29 → hkd h36 (hG h36 521 l0) / 100 = 1 ∧ vp_in (((39 : Int32) + ((3 : Int32) * v11)) + (2 : Int32)) (hln h36 (hG h36 521 l0)) ∧ hkd h36 (hG h36 521 l0) % 100 < 50 ∧ ∀ h42, h42 = setA (hG h36 521 l0) (((39 : Int32) + ((3 : Int32) * v11)) + (2 : Int32)).toNatClampNeg ((hA h36 (hG h36 521 l0) (((39 : Int32) + ((3 : Int32) * v11)) + (2 : Int32)).toNatClampNeg) + (1 : Int32)) h36 → C g d m_X4_of [.ref l0, .int l2, .int 1] h42 (oI (fun v44 h43 => C g d m_X4_does [.ref l0, .int v44] h43 (oI (fun v47 h46 => Q (.inl (some (.int v47))) h46) (fun r hx => Q (.inr r) hx))) (fun r hx => Q (.inr r) hx))) ∧ ((¬ (i32abs (v27 - v30)) ≤ (1 : Int32)) → C g d m_X4_refuses_2 [.ref l0, .int 7, .int l1, .int 10, .int (i32abs (v27 - v30))] h29 (oI (fun v50 h49 => Q (.inl (some (.int v50))) h49) (fun r hx => Q (.inr r) hx)))) (fun r hx => Q (.inr r) hx))) (fun r hx => Q (.inr r) hx))) ∧ ((v23 = 0) → C g d m_X4_of [.ref l0, .int l2, .int 1] h22 (oI (fun v53 h52 => C g d m_X4_refuses_2 [.ref l0, .int 7, .int l1, .int 9, .int v53] h52 (oI (fun v56 h55 => Q (.inl (some (.int v56))) h55) (fun r hx => Q (.inr r) hx))) (fun r hx => Q (.inr r) hx)))) (fun r hx => Q (.inr r) hx))) ∧ ((l2 = l1) → w_X4_gives_72 g d l0 l1 l2 h17 Q))) (fun r hx => Q (.inr r) hx))) ∧ ((v14 = 0) → C g d m_X4_wearer [.ref l0, .int v11] h13 (oI (fun v59 h58 => C g d m_X4_refuses_2 [.ref l0, .int 7, .int l1, .int 4, .int v59] h58 (oI (fun v62 h61 => Q (.inl (some (.int v62))) h61) (fun r hx => Q (.inr r) hx))) (fun r hx => Q (.inr r) hx)))) (fun r hx => Q (.inr r) hx))) (fun r hx => Q (.inr r) hx))) ∧ ((v7 = 0) → w_X4_gives_16 g d l0 h6 Q)) (fun r hx => Q (.inr r) hx)))) (fun r hx => Q (.inr r) hx))
theorem v_X4_gives_0 {g : PG} {d : Nat} {l0 : Nat} {l1 : Int32} {l2 : Int32} {h : PH} {Q : Out → PH → Prop} (H : w_X4_gives_0 g d l0 l1 l2 h Q) : R g d m_X4_gives 0 [.ref l0, .int l1, .int l2, .null, .null] [] h Q := by
  refine r_aload_n dX4_gives_0 rfl rfl ?_
  refine r_iload_n dX4_gives_1 rfl rfl ?_
  obtain ⟨k1, H⟩ := H
  refine r_invV (y := m_X4_isMan) dX4_gives_2 rfl (lw_V q3358 q3360 qp78 q122 q3361) py_X4_isMan (Nat.le_of_ble_eq_true rfl) (args := [_]) rfl rfl (Nat.le_of_ble_eq_true rfl) k1 (by decide) rfl (C.monoE H (fun o h2 _ x4 K => cont_I K (fun v3 H => ?_) (fun r HX => XR_nc rfl HX)))
  refine r_if_eq (tgt := 16) dX4_gives_5 rfl (fun b5 => ?_) (fun b5 => ?_)
  · replace H := H.1 b5
    exact R.forget (v_X4_gives_16 H) ⟨Or.inl rfl, ⟨Or.inr rfl, ⟨Or.inr rfl, ⟨Or.inl rfl, ⟨Or.inl rfl, trivial⟩⟩⟩⟩⟩
  · replace H := H.2 b5
    refine r_aload_n dX4_gives_8 rfl rfl ?_
    refine r_iload_n dX4_gives_9 rfl rfl ?_
    refine r_invV (y := m_X4_isMan) dX4_gives_10 rfl (lw_V q3358 q3360 qp78 q122 q3361) py_X4_isMan (Nat.le_of_ble_eq_true rfl) (args := [_]) rfl rfl (Nat.le_of_ble_eq_true rfl) (x4.kd k1 (by decide)) (by decide) rfl (C.monoE H (fun o h6 _ x8 K => cont_I K (fun v7 H => ?_) (fun r HX => XR_nc rfl HX)))
    refine r_if_ne (tgt := 28) dX4_gives_13 rfl (fun b9 => ?_) (fun b9 => ?_)
    · replace H := H.1 b9
      refine r_aload_n dX4_gives_28 rfl rfl ?_
      refine r_iload_n dX4_gives_29 rfl rfl ?_
      refine r_iconst dX4_gives_30 rfl ?_
      refine r_invV (y := m_X4_of) dX4_gives_31 rfl (lw_V q3362 q3364 qp79 q122 q3365) py_X4_of (Nat.le_of_ble_eq_true rfl) (args := [_, _]) rfl rfl (Nat.le_of_ble_eq_true rfl) (x8.kd (x4.kd k1 (by decide)) (by decide)) (by decide) rfl (C.monoE H (fun o h10 _ x12 K => cont_I K (fun v11 H => ?_) (fun r HX => XR_nc rfl HX)))
      refine r_istore_n dX4_gives_34 rfl (Nat.le_of_ble_eq_true rfl) rfl (slS (slS (slS sl0))) ?_
      refine r_aload_n dX4_gives_35 rfl rfl ?_
      refine r_iload_n dX4_gives_36 rfl rfl ?_
      refine r_invV (y := m_X4_hasHat) dX4_gives_37 rfl (lw_V q3366 q3368 qp80 q122 q3369) py_X4_hasHat (Nat.le_of_ble_eq_true rfl) (args := [_]) rfl rfl (Nat.le_of_ble_eq_true rfl) (x12.kd (x8.kd (x4.kd k1 (by decide)) (by decide)) (by decide)) (by decide) rfl (C.monoE H (fun o h13 _ x15 K => cont_I K (fun v14 H => ?_) (fun r HX => XR_nc rfl HX)))
      refine r_if_ne (tgt := 57) dX4_gives_40 rfl (fun b16 => ?_) (fun b16 => ?_)
      · replace H := H.1 b16
        refine r_aload_n dX4_gives_57 rfl rfl ?_
        refine r_iload_n dX4_gives_58 rfl rfl ?_
        refine r_iconst dX4_gives_59 rfl ?_
        refine r_invV (y := m_X4_of) dX4_gives_60 rfl (lw_V q3362 q3364 qp79 q122 q3365) py_X4_of (Nat.le_of_ble_eq_true rfl) (args := [_, _]) rfl rfl (Nat.le_of_ble_eq_true rfl) (x15.kd (x12.kd (x8.kd (x4.kd k1 (by decide)) (by decide)) (by decide)) (by decide)) (by decide) rfl (C.monoE H (fun o h17 _ x19 K => cont_I K (fun v18 H => ?_) (fun r HX => XR_nc rfl HX)))
        refine r_iload_n dX4_gives_63 rfl rfl ?_
        refine r_icmp_ne (tgt := 72) dX4_gives_64 rfl (fun b20 => ?_) (fun b20 => ?_)
        · replace H := H.1 b20
          exact R.forget (v_X4_gives_72 H) ⟨Or.inl rfl, ⟨Or.inl rfl, ⟨Or.inl rfl, ⟨Or.inr rfl, ⟨Or.inl rfl, trivial⟩⟩⟩⟩⟩
        · replace H := H.2 b20
          refine r_iload_n dX4_gives_67 rfl rfl ?_
          refine r_iload_n dX4_gives_68 rfl rfl ?_
          refine r_icmp_ne (tgt := 88) dX4_gives_69 rfl (fun b21 => ?_) (fun b21 => ?_)
          · replace H := H.1 b21
            refine r_aload_n dX4_gives_88 rfl rfl ?_
            refine r_iload_n dX4_gives_89 rfl rfl ?_
            refine r_iconst dX4_gives_90 rfl ?_
            refine r_invV (y := m_X4_of) dX4_gives_91 rfl (lw_V q3362 q3364 qp79 q122 q3365) py_X4_of (Nat.le_of_ble_eq_true rfl) (args := [_, _]) rfl rfl (Nat.le_of_ble_eq_true rfl) (x19.kd (x15.kd (x12.kd (x8.kd (x4.kd k1 (by decide)) (by decide)) (by decide)) (by decide)) (by decide)) (by decide) rfl (C.monoE H (fun o h22 _ x24 K => cont_I K (fun v23 H => ?_) (fun r HX => XR_nc rfl HX)))
            refine r_if_ne (tgt := 113) dX4_gives_94 rfl (fun b25 => ?_) (fun b25 => ?_)
            · replace H := H.1 b25
              refine r_aload_n dX4_gives_113 rfl rfl ?_
              refine r_iload_n dX4_gives_114 rfl rfl ?_
              refine r_iconst dX4_gives_115 rfl ?_
              refine r_invV (y := m_X4_of) dX4_gives_116 rfl (lw_V q3362 q3364 qp79 q122 q3365) py_X4_of (Nat.le_of_ble_eq_true rfl) (args := [_, _]) rfl rfl (Nat.le_of_ble_eq_true rfl) (x24.kd (x19.kd (x15.kd (x12.kd (x8.kd (x4.kd k1 (by decide)) (by decide)) (by decide)) (by decide)) (by decide)) (by decide)) (by decide) rfl (C.monoE H (fun o h26 _ x28 K => cont_I K (fun v27 H => ?_) (fun r HX => XR_nc rfl HX)))
              refine r_aload_n dX4_gives_119 rfl rfl ?_
              refine r_iload_n dX4_gives_120 rfl rfl ?_
              refine r_iconst dX4_gives_121 rfl ?_
              refine r_invV (y := m_X4_of) dX4_gives_122 rfl (lw_V q3362 q3364 qp79 q122 q3365) py_X4_of (Nat.le_of_ble_eq_true rfl) (args := [_, _]) rfl rfl (Nat.le_of_ble_eq_true rfl) (x28.kd (x24.kd (x19.kd (x15.kd (x12.kd (x8.kd (x4.kd k1 (by decide)) (by decide)) (by decide)) (by decide)) (by decide)) (by decide)) (by decide)) (by decide) rfl (C.monoE H (fun o h29 _ x31 K => cont_I K (fun v30 H => ?_) (fun r HX => XR_nc rfl HX)))
              refine r_isub dX4_gives_125 ?_
              refine r_mabs dX4_gives_126 q3391 q2534 q134 q2535 (Nat.le_of_ble_eq_true rfl) ?_
              refine r_istore dX4_gives_129 (Nat.le_of_ble_eq_true rfl) rfl (slS (slS (slS (slS sl0)))) ?_
              refine r_iload dX4_gives_131 rfl ?_
              refine r_iconst dX4_gives_133 rfl ?_
              refine r_icmp_le (tgt := 149) dX4_gives_134 rfl (fun b32 => ?_) (fun b32 => ?_)
              · replace H := H.1 b32
                refine r_aload_n dX4_gives_149 rfl rfl ?_
                refine r_getG fr_X4_9_12 (by decide) dX4_gives_150 (x31.kd (x28.kd (x24.kd (x19.kd (x15.kd (x12.kd (x8.kd (x4.kd k1 (by decide)) (by decide)) (by decide)) (by decide)) (by decide)) (by decide)) (by decide)) (by decide)) (by decide) ?_
                refine r_bipush dX4_gives_153 rfl ?_
                refine r_iconst dX4_gives_155 rfl ?_
                refine r_iload_n dX4_gives_156 rfl rfl ?_
                refine r_imul dX4_gives_157 ?_
                refine r_iadd dX4_gives_158 ?_
                refine r_iload_n dX4_gives_159 rfl rfl ?_
                refine r_iconst dX4_gives_160 rfl ?_
                refine r_iadd dX4_gives_161 ?_
                obtain ⟨k33, H⟩ := H
                obtain ⟨k34, H⟩ := H
                obtain ⟨k35, H⟩ := H
                replace H := H _ rfl
                refine r_iast dX4_gives_162 k33 k34 k35 ?_
                refine r_aload_n dX4_gives_163 rfl rfl ?_
                refine r_getG fr_X4_9_12 (by decide) dX4_gives_164 (x31.kd (x28.kd (x24.kd (x19.kd (x15.kd (x12.kd (x8.kd (x4.kd k1 (by decide)) (by decide)) (by decide)) (by decide)) (by decide)) (by decide)) (by decide)) (by decide)) (by decide) ?_
                refine r_bipush dX4_gives_167 rfl ?_
                refine r_iconst dX4_gives_169 rfl ?_
                refine r_iload_n dX4_gives_170 rfl rfl ?_
                refine r_imul dX4_gives_171 ?_
                refine r_iadd dX4_gives_172 ?_
                refine r_iconst dX4_gives_173 rfl ?_
                refine r_iadd dX4_gives_174 ?_
                refine r_dup2 dX4_gives_175 rfl rfl ?_
                obtain ⟨k37, H⟩ := H
                obtain ⟨k38, H⟩ := H
                refine r_iald dX4_gives_176 k37 k38 ?_
                refine r_iconst dX4_gives_177 rfl ?_
                refine r_iadd dX4_gives_178 ?_
                obtain ⟨k40, H⟩ := H
                replace H := H _ rfl
                refine r_iast dX4_gives_179 k37 k40 k38 ?_
                refine r_aload_n dX4_gives_180 rfl rfl ?_
                refine r_aload_n dX4_gives_181 rfl rfl ?_
                refine r_iload_n dX4_gives_182 rfl rfl ?_
                refine r_iconst dX4_gives_183 rfl ?_
                refine r_invV (y := m_X4_of) dX4_gives_184 rfl (lw_V q3362 q3364 qp79 q122 q3365) py_X4_of (Nat.le_of_ble_eq_true rfl) (args := [_, _]) rfl rfl (Nat.le_of_ble_eq_true rfl) (x31.kd (x28.kd (x24.kd (x19.kd (x15.kd (x12.kd (x8.kd (x4.kd k1 (by decide)) (by decide)) (by decide)) (by decide)) (by decide)) (by decide)) (by decide)) (by decide)) (by decide) rfl (C.monoE H (fun o h43 _ x45 K => cont_I K (fun v44 H => ?_) (fun r HX => XR_nc rfl HX)))
                refine r_invV (y := m_X4_does) dX4_gives_187 rfl (lw_V q3334 q3336 qp73 q122 q3337) py_X4_does (Nat.le_of_ble_eq_true rfl) (args := [_]) rfl rfl (Nat.le_of_ble_eq_true rfl) (x45.kd (x31.kd (x28.kd (x24.kd (x19.kd (x15.kd (x12.kd (x8.kd (x4.kd k1 (by decide)) (by decide)) (by decide)) (by decide)) (by decide)) (by decide)) (by decide)) (by decide)) (by decide)) (by decide) rfl (C.monoE H (fun o h46 _ x48 K => cont_I K (fun v47 H => ?_) (fun r HX => XR_nc rfl HX)))
                exact r_iret dX4_gives_190 rfl H
              · replace H := H.2 b32
                refine r_aload_n dX4_gives_137 rfl rfl ?_
                refine r_bipush dX4_gives_138 rfl ?_
                refine r_iload_n dX4_gives_140 rfl rfl ?_
                refine r_bipush dX4_gives_141 rfl ?_
                refine r_iload dX4_gives_143 rfl ?_
                refine r_invV (y := m_X4_refuses_2) dX4_gives_145 rfl (lw_V q3322 q3324 qp70 q122 q3325) py_X4_refuses_2 (Nat.le_of_ble_eq_true rfl) (args := [_, _, _, _]) rfl rfl (Nat.le_of_ble_eq_true rfl) (x31.kd (x28.kd (x24.kd (x19.kd (x15.kd (x12.kd (x8.kd (x4.kd k1 (by decide)) (by decide)) (by decide)) (by decide)) (by decide)) (by decide)) (by decide)) (by decide)) (by decide) rfl (C.monoE H (fun o h49 _ x51 K => cont_I K (fun v50 H => ?_) (fun r HX => XR_nc rfl HX)))
                exact r_iret dX4_gives_148 rfl H
            · replace H := H.2 b25
              refine r_aload_n dX4_gives_97 rfl rfl ?_
              refine r_bipush dX4_gives_98 rfl ?_
              refine r_iload_n dX4_gives_100 rfl rfl ?_
              refine r_bipush dX4_gives_101 rfl ?_
              refine r_aload_n dX4_gives_103 rfl rfl ?_
              refine r_iload_n dX4_gives_104 rfl rfl ?_
              refine r_iconst dX4_gives_105 rfl ?_
              refine r_invV (y := m_X4_of) dX4_gives_106 rfl (lw_V q3362 q3364 qp79 q122 q3365) py_X4_of (Nat.le_of_ble_eq_true rfl) (args := [_, _]) rfl rfl (Nat.le_of_ble_eq_true rfl) (x24.kd (x19.kd (x15.kd (x12.kd (x8.kd (x4.kd k1 (by decide)) (by decide)) (by decide)) (by decide)) (by decide)) (by decide)) (by decide) rfl (C.monoE H (fun o h52 _ x54 K => cont_I K (fun v53 H => ?_) (fun r HX => XR_nc rfl HX)))
              refine r_invV (y := m_X4_refuses_2) dX4_gives_109 rfl (lw_V q3322 q3324 qp70 q122 q3325) py_X4_refuses_2 (Nat.le_of_ble_eq_true rfl) (args := [_, _, _, _]) rfl rfl (Nat.le_of_ble_eq_true rfl) (x54.kd (x24.kd (x19.kd (x15.kd (x12.kd (x8.kd (x4.kd k1 (by decide)) (by decide)) (by decide)) (by decide)) (by decide)) (by decide)) (by decide)) (by decide) rfl (C.monoE H (fun o h55 _ x57 K => cont_I K (fun v56 H => ?_) (fun r HX => XR_nc rfl HX)))
              exact r_iret dX4_gives_112 rfl H
          · replace H := H.2 b21
            exact R.forget (v_X4_gives_72 H) ⟨Or.inl rfl, ⟨Or.inl rfl, ⟨Or.inl rfl, ⟨Or.inr rfl, ⟨Or.inl rfl, trivial⟩⟩⟩⟩⟩
      · replace H := H.2 b16
        refine r_aload_n dX4_gives_43 rfl rfl ?_
        refine r_bipush dX4_gives_44 rfl ?_
        refine r_iload_n dX4_gives_46 rfl rfl ?_
        refine r_iconst dX4_gives_47 rfl ?_
        refine r_aload_n dX4_gives_48 rfl rfl ?_
        refine r_iload_n dX4_gives_49 rfl rfl ?_
        refine r_invV (y := m_X4_wearer) dX4_gives_50 rfl (lw_V q3370 q3372 qp81 q122 q3373) py_X4_wearer (Nat.le_of_ble_eq_true rfl) (args := [_]) rfl rfl (Nat.le_of_ble_eq_true rfl) (x15.kd (x12.kd (x8.kd (x4.kd k1 (by decide)) (by decide)) (by decide)) (by decide)) (by decide) rfl (C.monoE H (fun o h58 _ x60 K => cont_I K (fun v59 H => ?_) (fun r HX => XR_nc rfl HX)))
        refine r_invV (y := m_X4_refuses_2) dX4_gives_53 rfl (lw_V q3322 q3324 qp70 q122 q3325) py_X4_refuses_2 (Nat.le_of_ble_eq_true rfl) (args := [_, _, _, _]) rfl rfl (Nat.le_of_ble_eq_true rfl) (x60.kd (x15.kd (x12.kd (x8.kd (x4.kd k1 (by decide)) (by decide)) (by decide)) (by decide)) (by decide)) (by decide) rfl (C.monoE H (fun o h61 _ x63 K => cont_I K (fun v62 H => ?_) (fun r HX => XR_nc rfl HX)))
        exact r_iret dX4_gives_56 rfl H
    · replace H := H.2 b9
      exact R.forget (v_X4_gives_16 H) ⟨Or.inl rfl, ⟨Or.inr rfl, ⟨Or.inr rfl, ⟨Or.inl rfl, ⟨Or.inl rfl, trivial⟩⟩⟩⟩⟩
theorem c_X4_gives_0 {g : PG} {d : Nat} {l0 : Nat} {l1 : Int32} {l2 : Int32} {h : PH} {Q : Out → PH → Prop} (H : w_X4_gives_0 g d l0 l1 l2 h Q) : C g (d + 1) m_X4_gives [.ref l0, .int l1, .int l2] h Q := C_of_R rfl rfl (Nat.le_of_ble_eq_true rfl) rfl (v_X4_gives_0 H)
abbrev w_X4_pick_0 (g : PG) (d : Nat) (l0 : Nat) (l1 : Int32) (h : PH) (Q : Out → PH → Prop) : Prop := hkd h l0 = 12 ∧ C g d m_X4_tries [.ref l0] h (oV (fun h2 => C g d m_X4_picks [.ref l0, .int l1] h2 (oI (fun v6 h5 => C g d m_X4_ends [.ref l0, .int v6, .int 1] h5 (oI (fun v9 h8 => Q (.inl (some (.int v9))) h8) (fun r hx => Q (.inr r) hx))) (fun r hx => Q (.inr r) hx))) (fun r hx => Q (.inr r) hx))
theorem v_X4_pick_0 {g : PG} {d : Nat} {l0 : Nat} {l1 : Int32} {h : PH} {Q : Out → PH → Prop} (H : w_X4_pick_0 g d l0 l1 h Q) : R g d m_X4_pick 0 [.ref l0, .int l1] [] h Q := by
  refine r_aload_n dX4_pick_0 rfl rfl ?_
  obtain ⟨k1, H⟩ := H
  refine r_invV (y := m_X4_tries) dX4_pick_1 rfl (lw_V q3307 q3309 qp67 q122 q3310) py_X4_tries (Nat.le_of_ble_eq_true rfl) (args := []) rfl rfl (Nat.le_of_ble_eq_true rfl) k1 (by decide) rfl (C.monoE H (fun o h2 _ x4 K => cont_V K (fun H => ?_) (fun r HX => XR_nc rfl HX)))
  refine r_aload_n dX4_pick_4 rfl rfl ?_
  refine r_aload_n dX4_pick_5 rfl rfl ?_
  refine r_iload_n dX4_pick_6 rfl rfl ?_
  refine r_invV (y := m_X4_picks) dX4_pick_7 rfl (lw_V q3396 q3398 qp85 q122 q3399) py_X4_picks (Nat.le_of_ble_eq_true rfl) (args := [_]) rfl rfl (Nat.le_of_ble_eq_true rfl) (x4.kd k1 (by decide)) (by decide) rfl (C.monoE H (fun o h5 _ x7 K => cont_I K (fun v6 H => ?_) (fun r HX => XR_nc rfl HX)))
  refine r_iconst dX4_pick_10 rfl ?_
  refine r_invV (y := m_X4_ends) dX4_pick_11 rfl (lw_V q3338 q3340 qp74 q122 q3341) py_X4_ends (Nat.le_of_ble_eq_true rfl) (args := [_, _]) rfl rfl (Nat.le_of_ble_eq_true rfl) (x7.kd (x4.kd k1 (by decide)) (by decide)) (by decide) rfl (C.monoE H (fun o h8 _ x10 K => cont_I K (fun v9 H => ?_) (fun r HX => XR_nc rfl HX)))
  exact r_iret dX4_pick_14 rfl H
theorem c_X4_pick_0 {g : PG} {d : Nat} {l0 : Nat} {l1 : Int32} {h : PH} {Q : Out → PH → Prop} (H : w_X4_pick_0 g d l0 l1 h Q) : C g (d + 1) m_X4_pick [.ref l0, .int l1] h Q := C_of_R rfl rfl (Nat.le_of_ble_eq_true rfl) rfl (v_X4_pick_0 H)
abbrev w_X4_picks_185 (g : PG) (d : Nat) (l0 : Nat) (l5 : Int32) (h : PH) (Q : Out → PH → Prop) : Prop := hkd h l0 = 12 ∧ C g d m_X4_does [.ref l0, .int l5] h (oI (fun v3 h2 => Q (.inl (some (.int v3))) h2) (fun r hx => Q (.inr r) hx))
theorem v_X4_picks_185 {g : PG} {d : Nat} {l0 : Nat} {l5 : Int32} {h : PH} {Q : Out → PH → Prop} (H : w_X4_picks_185 g d l0 l5 h Q) : R g d m_X4_picks 185 [.ref l0, .null, .null, .null, .null, .int l5] [] h Q := by
  refine r_aload_n dX4_picks_185 rfl rfl ?_
  refine r_iload dX4_picks_186 rfl ?_
  obtain ⟨k1, H⟩ := H
  refine r_invV (y := m_X4_does) dX4_picks_188 rfl (lw_V q3334 q3336 qp73 q122 q3337) py_X4_does (Nat.le_of_ble_eq_true rfl) (args := [_]) rfl rfl (Nat.le_of_ble_eq_true rfl) k1 (by decide) rfl (C.monoE H (fun o h2 _ x4 K => cont_I K (fun v3 H => ?_) (fun r HX => XR_nc rfl HX)))
  exact r_iret dX4_picks_191 rfl H
abbrev w_X4_picks_154 (g : PG) (d : Nat) (l0 : Nat) (l1 : Int32) (l2 : Int32) (l4 : Int32) (l5 : Int32) (h : PH) (Q : Out → PH → Prop) : Prop := ((l4 = 0) → w_X4_picks_185 g d l0 l5 h Q) ∧ ((¬ l4 = 0) → hkd h l0 = 12 ∧ C g d m_X4_sets [.ref l0, .int l1, .int 3, .int 1] h (oV (fun h3 => hkd h3 (hG h3 521 l0) / 100 = 1 ∧ vp_in (((3 : Int32) + ((3 : Int32) * l2)) + (2 : Int32)) (hln h3 (hG h3 521 l0)) ∧ hkd h3 (hG h3 521 l0) % 100 < 50 ∧ ∀ h11, h11 = setA (hG h3 521 l0) (((3 : Int32) + ((3 : Int32) * l2)) + (2 : Int32)).toNatClampNeg ((hA h3 (hG h3 521 l0) (((3 : Int32) + ((3 : Int32) * l2)) + (2 : Int32)).toNatClampNeg) - (1 : Int32)) h3 → w_X4_picks_185 g d l0 (l5 + 1) h11 Q) (fun r hx => Q (.inr r) hx)))
theorem v_X4_picks_154 {g : PG} {d : Nat} {l0 : Nat} {l1 : Int32} {l2 : Int32} {l4 : Int32} {l5 : Int32} {h : PH} {Q : Out → PH → Prop} (H : w_X4_picks_154 g d l0 l1 l2 l4 l5 h Q) : R g d m_X4_picks 154 [.ref l0, .int l1, .int l2, .null, .int l4, .int l5] [] h Q := by
  refine r_iload dX4_picks_154 rfl ?_
  refine r_if_eq (tgt := 185) dX4_picks_156 rfl (fun b1 => ?_) (fun b1 => ?_)
  · replace H := H.1 b1
    exact R.forget (v_X4_picks_185 H) ⟨Or.inl rfl, ⟨Or.inr rfl, ⟨Or.inr rfl, ⟨Or.inl rfl, ⟨Or.inr rfl, ⟨Or.inl rfl, trivial⟩⟩⟩⟩⟩⟩
  · replace H := H.2 b1
    refine r_aload_n dX4_picks_159 rfl rfl ?_
    refine r_iload_n dX4_picks_160 rfl rfl ?_
    refine r_iconst dX4_picks_161 rfl ?_
    refine r_iconst dX4_picks_162 rfl ?_
    obtain ⟨k2, H⟩ := H
    refine r_invV (y := m_X4_sets) dX4_picks_163 rfl (lw_V q3326 q3328 qp71 q122 q3329) py_X4_sets (Nat.le_of_ble_eq_true rfl) (args := [_, _, _]) rfl rfl (Nat.le_of_ble_eq_true rfl) k2 (by decide) rfl (C.monoE H (fun o h3 _ x5 K => cont_V K (fun H => ?_) (fun r HX => XR_nc rfl HX)))
    refine r_aload_n dX4_picks_166 rfl rfl ?_
    refine r_getG fr_X4_9_12 (by decide) dX4_picks_167 (x5.kd k2 (by decide)) (by decide) ?_
    refine r_iconst dX4_picks_170 rfl ?_
    refine r_iconst dX4_picks_171 rfl ?_
    refine r_iload_n dX4_picks_172 rfl rfl ?_
    refine r_imul dX4_picks_173 ?_
    refine r_iadd dX4_picks_174 ?_
    refine r_iconst dX4_picks_175 rfl ?_
    refine r_iadd dX4_picks_176 ?_
    refine r_dup2 dX4_picks_177 rfl rfl ?_
    obtain ⟨k6, H⟩ := H
    obtain ⟨k7, H⟩ := H
    refine r_iald dX4_picks_178 k6 k7 ?_
    refine r_iconst dX4_picks_179 rfl ?_
    refine r_isub dX4_picks_180 ?_
    obtain ⟨k9, H⟩ := H
    replace H := H _ rfl
    refine r_iast dX4_picks_181 k6 k9 k7 ?_
    refine r_iinc dX4_picks_182 rfl rfl (Nat.le_of_ble_eq_true rfl) rfl (slS (slS (slS (slS (slS sl0))))) ?_
    exact R.forget (v_X4_picks_185 H) ⟨Or.inl rfl, ⟨Or.inr rfl, ⟨Or.inr rfl, ⟨Or.inl rfl, ⟨Or.inr rfl, ⟨Or.inl rfl, trivial⟩⟩⟩⟩⟩⟩
abbrev w_X4_picks_132 (g : PG) (d : Nat) (l0 : Nat) (l1 : Int32) (l2 : Int32) (l3 : Int32) (l4 : Int32) (s0 : Int32) (h : PH) (Q : Out → PH → Prop) : Prop := ((¬ s0 = (2 : Int32)) → w_X4_picks_154 g d l0 l1 l2 l4 s0 h Q) ∧ ((s0 = (2 : Int32)) → hkd h l0 = 12 ∧ hkd h (hG h 521 l0) / 100 = 1 ∧ hkd h (hG h 521 l0) % 100 < 50 ∧ vp_in ((39 : Int32) + ((3 : Int32) * l3)) (hln h (hG h 521 l0)) ∧ ∀ h6, h6 = setA (hG h 521 l0) ((39 : Int32) + ((3 : Int32) * l3)).toNatClampNeg (l1 + (1 : Int32)) h → w_X4_picks_154 g d l0 l1 l2 l4 s0 h6 Q)
theorem v_X4_picks_132 {g : PG} {d : Nat} {l0 : Nat} {l1 : Int32} {l2 : Int32} {l3 : Int32} {l4 : Int32} {s0 : Int32} {h : PH} {Q : Out → PH → Prop} (H : w_X4_picks_132 g d l0 l1 l2 l3 l4 s0 h Q) : R g d m_X4_picks 132 [.ref l0, .int l1, .int l2, .int l3, .int l4, .null] [.int s0] h Q := by
  refine r_istore dX4_picks_132 (Nat.le_of_ble_eq_true rfl) rfl (slS (slS (slS (slS (slS sl0))))) ?_
  refine r_iload dX4_picks_134 rfl ?_
  refine r_iconst dX4_picks_136 rfl ?_
  refine r_icmp_ne (tgt := 154) dX4_picks_137 rfl (fun b1 => ?_) (fun b1 => ?_)
  · replace H := H.1 b1
    exact R.forget (v_X4_picks_154 H) ⟨Or.inl rfl, ⟨Or.inl rfl, ⟨Or.inl rfl, ⟨Or.inr rfl, ⟨Or.inl rfl, ⟨Or.inl rfl, trivial⟩⟩⟩⟩⟩⟩
  · replace H := H.2 b1
    refine r_aload_n dX4_picks_140 rfl rfl ?_
    obtain ⟨k2, H⟩ := H
    refine r_getG fr_X4_9_12 (by decide) dX4_picks_141 k2 (by decide) ?_
    refine r_bipush dX4_picks_144 rfl ?_
    refine r_iconst dX4_picks_146 rfl ?_
    refine r_iload_n dX4_picks_147 rfl rfl ?_
    refine r_imul dX4_picks_148 ?_
    refine r_iadd dX4_picks_149 ?_
    refine r_iload_n dX4_picks_150 rfl rfl ?_
    refine r_iconst dX4_picks_151 rfl ?_
    refine r_iadd dX4_picks_152 ?_
    obtain ⟨k3, H⟩ := H
    obtain ⟨k4, H⟩ := H
    obtain ⟨k5, H⟩ := H
    replace H := H _ rfl
    refine r_iast dX4_picks_153 k3 k4 k5 ?_
    exact R.forget (v_X4_picks_154 H) ⟨Or.inl rfl, ⟨Or.inl rfl, ⟨Or.inl rfl, ⟨Or.inr rfl, ⟨Or.inl rfl, ⟨Or.inl rfl, trivial⟩⟩⟩⟩⟩⟩
abbrev w_X4_picks_118 (g : PG) (d : Nat) (l0 : Nat) (l1 : Int32) (l2 : Int32) (l3 : Int32) (l4 : Int32) (h : PH) (Q : Out → PH → Prop) : Prop := hkd h l0 = 12 ∧ C g d m_X4_lies [.ref l0, .int l3, .int l2] h (oI (fun v3 h2 => ((v3 = 0) → w_X4_picks_132 g d l0 l1 l2 l3 l4 (0 : Int32) h2 Q) ∧ ((¬ v3 = 0) → w_X4_picks_132 g d l0 l1 l2 l3 l4 (2 : Int32) h2 Q)) (fun r hx => Q (.inr r) hx))
theorem v_X4_picks_118 {g : PG} {d : Nat} {l0 : Nat} {l1 : Int32} {l2 : Int32} {l3 : Int32} {l4 : Int32} {h : PH} {Q : Out → PH → Prop} (H : w_X4_picks_118 g d l0 l1 l2 l3 l4 h Q) : R g d m_X4_picks 118 [.ref l0, .int l1, .int l2, .int l3, .int l4, .null] [] h Q := by
  refine r_aload_n dX4_picks_118 rfl rfl ?_
  refine r_iload_n dX4_picks_119 rfl rfl ?_
  refine r_iload_n dX4_picks_120 rfl rfl ?_
  obtain ⟨k1, H⟩ := H
  refine r_invV (y := m_X4_lies) dX4_picks_121 rfl (lw_V q3404 q3406 qp87 q122 q3407) py_X4_lies (Nat.le_of_ble_eq_true rfl) (args := [_, _]) rfl rfl (Nat.le_of_ble_eq_true rfl) k1 (by decide) rfl (C.monoE H (fun o h2 _ x4 K => cont_I K (fun v3 H => ?_) (fun r HX => XR_nc rfl HX)))
  refine r_if_eq (tgt := 131) dX4_picks_124 rfl (fun b5 => ?_) (fun b5 => ?_)
  · replace H := H.1 b5
    refine r_iconst dX4_picks_131 rfl ?_
    exact v_X4_picks_132 H
  · replace H := H.2 b5
    refine r_iconst dX4_picks_127 rfl ?_
    refine r_goto (tgt := 132) dX4_picks_128 rfl ?_
    exact v_X4_picks_132 H
abbrev w_X4_picks_113 (g : PG) (d : Nat) (l2 : Int32) (s0 : Nat) (s1 : Int32) (s2 : Int32) (s3 : Int32) (h : PH) (Q : Out → PH → Prop) : Prop := hkd h s0 = 12 ∧ C g d m_X4_refuses_2 [.ref s0, .int s1, .int s2, .int s3, .int l2] h (oI (fun v3 h2 => Q (.inl (some (.int v3))) h2) (fun r hx => Q (.inr r) hx))
theorem v_X4_picks_113 {g : PG} {d : Nat} {l2 : Int32} {s0 : Nat} {s1 : Int32} {s2 : Int32} {s3 : Int32} {h : PH} {Q : Out → PH → Prop} (H : w_X4_picks_113 g d l2 s0 s1 s2 s3 h Q) : R g d m_X4_picks 113 [.null, .null, .int l2, .null, .null, .null] [.int s3, .int s2, .int s1, .ref s0] h Q := by
  refine r_iload_n dX4_picks_113 rfl rfl ?_
  obtain ⟨k1, H⟩ := H
  refine r_invV (y := m_X4_refuses_2) dX4_picks_114 rfl (lw_V q3322 q3324 qp70 q122 q3325) py_X4_refuses_2 (Nat.le_of_ble_eq_true rfl) (args := [_, _, _, _]) rfl rfl (Nat.le_of_ble_eq_true rfl) k1 (by decide) rfl (C.monoE H (fun o h2 _ x4 K => cont_I K (fun v3 H => ?_) (fun r HX => XR_nc rfl HX)))
  exact r_iret dX4_picks_117 rfl H
abbrev w_X4_picks_76 (g : PG) (d : Nat) (l0 : Nat) (l1 : Int32) (l2 : Int32) (l3 : Int32) (s0 : Int32) (h : PH) (Q : Out → PH → Prop) : Prop := ((¬ s0 = 0) → w_X4_picks_118 g d l0 l1 l2 l3 s0 h Q) ∧ ((s0 = 0) → hkd h l0 = 12 ∧ C g d m_X4_lies [.ref l0, .int l3, .int l2] h (oI (fun v4 h3 => ((¬ v4 = 0) → w_X4_picks_118 g d l0 l1 l2 l3 s0 h3 Q) ∧ ((v4 = 0) → C g d m_X4_of [.ref l0, .int l1, .int 3] h3 (oI (fun v8 h7 => ((¬ v8 = (1 : Int32)) → w_X4_picks_113 g d l2 l0 (12 : Int32) l1 (14 : Int32) h7 Q) ∧ ((v8 = (1 : Int32)) → w_X4_picks_113 g d l2 l0 (12 : Int32) l1 (13 : Int32) h7 Q)) (fun r hx => Q (.inr r) hx)))) (fun r hx => Q (.inr r) hx)))
theorem v_X4_picks_76 {g : PG} {d : Nat} {l0 : Nat} {l1 : Int32} {l2 : Int32} {l3 : Int32} {s0 : Int32} {h : PH} {Q : Out → PH → Prop} (H : w_X4_picks_76 g d l0 l1 l2 l3 s0 h Q) : R g d m_X4_picks 76 [.ref l0, .int l1, .int l2, .int l3, .null, .null] [.int s0] h Q := by
  refine r_istore dX4_picks_76 (Nat.le_of_ble_eq_true rfl) rfl (slS (slS (slS (slS sl0)))) ?_
  refine r_iload dX4_picks_78 rfl ?_
  refine r_if_ne (tgt := 118) dX4_picks_80 rfl (fun b1 => ?_) (fun b1 => ?_)
  · replace H := H.1 b1
    exact v_X4_picks_118 H
  · replace H := H.2 b1
    refine r_aload_n dX4_picks_83 rfl rfl ?_
    refine r_iload_n dX4_picks_84 rfl rfl ?_
    refine r_iload_n dX4_picks_85 rfl rfl ?_
    obtain ⟨k2, H⟩ := H
    refine r_invV (y := m_X4_lies) dX4_picks_86 rfl (lw_V q3404 q3406 qp87 q122 q3407) py_X4_lies (Nat.le_of_ble_eq_true rfl) (args := [_, _]) rfl rfl (Nat.le_of_ble_eq_true rfl) k2 (by decide) rfl (C.monoE H (fun o h3 _ x5 K => cont_I K (fun v4 H => ?_) (fun r HX => XR_nc rfl HX)))
    refine r_if_ne (tgt := 118) dX4_picks_89 rfl (fun b6 => ?_) (fun b6 => ?_)
    · replace H := H.1 b6
      exact v_X4_picks_118 H
    · replace H := H.2 b6
      refine r_aload_n dX4_picks_92 rfl rfl ?_
      refine r_bipush dX4_picks_93 rfl ?_
      refine r_iload_n dX4_picks_95 rfl rfl ?_
      refine r_aload_n dX4_picks_96 rfl rfl ?_
      refine r_iload_n dX4_picks_97 rfl rfl ?_
      refine r_iconst dX4_picks_98 rfl ?_
      refine r_invV (y := m_X4_of) dX4_picks_99 rfl (lw_V q3362 q3364 qp79 q122 q3365) py_X4_of (Nat.le_of_ble_eq_true rfl) (args := [_, _]) rfl rfl (Nat.le_of_ble_eq_true rfl) (x5.kd k2 (by decide)) (by decide) rfl (C.monoE H (fun o h7 _ x9 K => cont_I K (fun v8 H => ?_) (fun r HX => XR_nc rfl HX)))
      refine r_iconst dX4_picks_102 rfl ?_
      refine r_icmp_ne (tgt := 111) dX4_picks_103 rfl (fun b10 => ?_) (fun b10 => ?_)
      · replace H := H.1 b10
        refine r_bipush dX4_picks_111 rfl ?_
        exact R.forget (v_X4_picks_113 H) ⟨Or.inr rfl, ⟨Or.inr rfl, ⟨Or.inl rfl, ⟨Or.inr rfl, ⟨Or.inr rfl, ⟨Or.inl rfl, trivial⟩⟩⟩⟩⟩⟩
      · replace H := H.2 b10
        refine r_bipush dX4_picks_106 rfl ?_
        refine r_goto (tgt := 113) dX4_picks_108 rfl ?_
        exact R.forget (v_X4_picks_113 H) ⟨Or.inr rfl, ⟨Or.inr rfl, ⟨Or.inl rfl, ⟨Or.inr rfl, ⟨Or.inr rfl, ⟨Or.inl rfl, trivial⟩⟩⟩⟩⟩⟩
abbrev w_X4_picks_75 (g : PG) (d : Nat) (l0 : Nat) (l1 : Int32) (l2 : Int32) (l3 : Int32) (h : PH) (Q : Out → PH → Prop) : Prop := w_X4_picks_76 g d l0 l1 l2 l3 (0 : Int32) h Q
theorem v_X4_picks_75 {g : PG} {d : Nat} {l0 : Nat} {l1 : Int32} {l2 : Int32} {l3 : Int32} {h : PH} {Q : Out → PH → Prop} (H : w_X4_picks_75 g d l0 l1 l2 l3 h Q) : R g d m_X4_picks 75 [.ref l0, .int l1, .int l2, .int l3, .null, .null] [] h Q := by
  refine r_iconst dX4_picks_75 rfl ?_
  exact v_X4_picks_76 H
abbrev w_X4_picks_0 (g : PG) (d : Nat) (l0 : Nat) (l1 : Int32) (h : PH) (Q : Out → PH → Prop) : Prop := hkd h l0 = 12 ∧ C g d m_X4_isMan [.ref l0, .int l1] h (oI (fun v3 h2 => ((¬ v3 = 0) → C g d m_X4_of [.ref l0, .int l1, .int 1] h2 (oI (fun v7 h6 => C g d m_X4_of [.ref l0, .int l1, .int 0] h6 (oI (fun v10 h9 => C g d m_X4_of [.ref l0, .int l1, .int 2] h9 (oI (fun v13 h12 => ((¬ v13 = 0) → C g d m_X4_of [.ref l0, .int l1, .int 3] h12 (oI (fun v17 h16 => ((¬ v17 = 0) → w_X4_picks_75 g d l0 l1 v7 v10 h16 Q) ∧ ((v17 = 0) → C g d m_X4_noses [.ref l0, .int v7] h16 (oI (fun v21 h20 => ((v21 ≤ 0) → w_X4_picks_75 g d l0 l1 v7 v10 h20 Q) ∧ ((¬ v21 ≤ 0) → w_X4_picks_76 g d l0 l1 v7 v10 (1 : Int32) h20 Q)) (fun r hx => Q (.inr r) hx)))) (fun r hx => Q (.inr r) hx))) ∧ ((v13 = 0) → C g d m_X4_refuses_2 [.ref l0, .int 12, .int l1, .int 9, .int v7] h12 (oI (fun v25 h24 => Q (.inl (some (.int v25))) h24) (fun r hx => Q (.inr r) hx)))) (fun r hx => Q (.inr r) hx))) (fun r hx => Q (.inr r) hx))) (fun r hx => Q (.inr r) hx))) ∧ ((v3 = 0) → hkd h2 (hG h2 521 l0) / 100 = 1 ∧ vp_in (0 : Int32) (hln h2 (hG h2 521 l0)) ∧ C g d m_X4_refuses [.ref l0, .int 2, .int (hA h2 (hG h2 521 l0) (0 : Int32).toNatClampNeg)] h2 (oI (fun v30 h29 => Q (.inl (some (.int v30))) h29) (fun r hx => Q (.inr r) hx)))) (fun r hx => Q (.inr r) hx))
theorem v_X4_picks_0 {g : PG} {d : Nat} {l0 : Nat} {l1 : Int32} {h : PH} {Q : Out → PH → Prop} (H : w_X4_picks_0 g d l0 l1 h Q) : R g d m_X4_picks 0 [.ref l0, .int l1, .null, .null, .null, .null] [] h Q := by
  refine r_aload_n dX4_picks_0 rfl rfl ?_
  refine r_iload_n dX4_picks_1 rfl rfl ?_
  obtain ⟨k1, H⟩ := H
  refine r_invV (y := m_X4_isMan) dX4_picks_2 rfl (lw_V q3358 q3360 qp78 q122 q3361) py_X4_isMan (Nat.le_of_ble_eq_true rfl) (args := [_]) rfl rfl (Nat.le_of_ble_eq_true rfl) k1 (by decide) rfl (C.monoE H (fun o h2 _ x4 K => cont_I K (fun v3 H => ?_) (fun r HX => XR_nc rfl HX)))
  refine r_if_ne (tgt := 20) dX4_picks_5 rfl (fun b5 => ?_) (fun b5 => ?_)
  · replace H := H.1 b5
    refine r_aload_n dX4_picks_20 rfl rfl ?_
    refine r_iload_n dX4_picks_21 rfl rfl ?_
    refine r_iconst dX4_picks_22 rfl ?_
    refine r_invV (y := m_X4_of) dX4_picks_23 rfl (lw_V q3362 q3364 qp79 q122 q3365) py_X4_of (Nat.le_of_ble_eq_true rfl) (args := [_, _]) rfl rfl (Nat.le_of_ble_eq_true rfl) (x4.kd k1 (by decide)) (by decide) rfl (C.monoE H (fun o h6 _ x8 K => cont_I K (fun v7 H => ?_) (fun r HX => XR_nc rfl HX)))
    refine r_istore_n dX4_picks_26 rfl (Nat.le_of_ble_eq_true rfl) rfl (slS (slS sl0)) ?_
    refine r_aload_n dX4_picks_27 rfl rfl ?_
    refine r_iload_n dX4_picks_28 rfl rfl ?_
    refine r_iconst dX4_picks_29 rfl ?_
    refine r_invV (y := m_X4_of) dX4_picks_30 rfl (lw_V q3362 q3364 qp79 q122 q3365) py_X4_of (Nat.le_of_ble_eq_true rfl) (args := [_, _]) rfl rfl (Nat.le_of_ble_eq_true rfl) (x8.kd (x4.kd k1 (by decide)) (by decide)) (by decide) rfl (C.monoE H (fun o h9 _ x11 K => cont_I K (fun v10 H => ?_) (fun r HX => XR_nc rfl HX)))
    refine r_istore_n dX4_picks_33 rfl (Nat.le_of_ble_eq_true rfl) rfl (slS (slS (slS sl0))) ?_
    refine r_aload_n dX4_picks_34 rfl rfl ?_
    refine r_iload_n dX4_picks_35 rfl rfl ?_
    refine r_iconst dX4_picks_36 rfl ?_
    refine r_invV (y := m_X4_of) dX4_picks_37 rfl (lw_V q3362 q3364 qp79 q122 q3365) py_X4_of (Nat.le_of_ble_eq_true rfl) (args := [_, _]) rfl rfl (Nat.le_of_ble_eq_true rfl) (x11.kd (x8.kd (x4.kd k1 (by decide)) (by decide)) (by decide)) (by decide) rfl (C.monoE H (fun o h12 _ x14 K => cont_I K (fun v13 H => ?_) (fun r HX => XR_nc rfl HX)))
    refine r_if_ne (tgt := 54) dX4_picks_40 rfl (fun b15 => ?_) (fun b15 => ?_)
    · replace H := H.1 b15
      refine r_aload_n dX4_picks_54 rfl rfl ?_
      refine r_iload_n dX4_picks_55 rfl rfl ?_
      refine r_iconst dX4_picks_56 rfl ?_
      refine r_invV (y := m_X4_of) dX4_picks_57 rfl (lw_V q3362 q3364 qp79 q122 q3365) py_X4_of (Nat.le_of_ble_eq_true rfl) (args := [_, _]) rfl rfl (Nat.le_of_ble_eq_true rfl) (x14.kd (x11.kd (x8.kd (x4.kd k1 (by decide)) (by decide)) (by decide)) (by decide)) (by decide) rfl (C.monoE H (fun o h16 _ x18 K => cont_I K (fun v17 H => ?_) (fun r HX => XR_nc rfl HX)))
      refine r_if_ne (tgt := 75) dX4_picks_60 rfl (fun b19 => ?_) (fun b19 => ?_)
      · replace H := H.1 b19
        exact v_X4_picks_75 H
      · replace H := H.2 b19
        refine r_aload_n dX4_picks_63 rfl rfl ?_
        refine r_iload_n dX4_picks_64 rfl rfl ?_
        refine r_invV (y := m_X4_noses) dX4_picks_65 rfl (lw_V q3400 q3402 qp86 q122 q3403) py_X4_noses (Nat.le_of_ble_eq_true rfl) (args := [_]) rfl rfl (Nat.le_of_ble_eq_true rfl) (x18.kd (x14.kd (x11.kd (x8.kd (x4.kd k1 (by decide)) (by decide)) (by decide)) (by decide)) (by decide)) (by decide) rfl (C.monoE H (fun o h20 _ x22 K => cont_I K (fun v21 H => ?_) (fun r HX => XR_nc rfl HX)))
        refine r_if_le (tgt := 75) dX4_picks_68 rfl (fun b23 => ?_) (fun b23 => ?_)
        · replace H := H.1 b23
          exact v_X4_picks_75 H
        · replace H := H.2 b23
          refine r_iconst dX4_picks_71 rfl ?_
          refine r_goto (tgt := 76) dX4_picks_72 rfl ?_
          exact v_X4_picks_76 H
    · replace H := H.2 b15
      refine r_aload_n dX4_picks_43 rfl rfl ?_
      refine r_bipush dX4_picks_44 rfl ?_
      refine r_iload_n dX4_picks_46 rfl rfl ?_
      refine r_bipush dX4_picks_47 rfl ?_
      refine r_iload_n dX4_picks_49 rfl rfl ?_
      refine r_invV (y := m_X4_refuses_2) dX4_picks_50 rfl (lw_V q3322 q3324 qp70 q122 q3325) py_X4_refuses_2 (Nat.le_of_ble_eq_true rfl) (args := [_, _, _, _]) rfl rfl (Nat.le_of_ble_eq_true rfl) (x14.kd (x11.kd (x8.kd (x4.kd k1 (by decide)) (by decide)) (by decide)) (by decide)) (by decide) rfl (C.monoE H (fun o h24 _ x26 K => cont_I K (fun v25 H => ?_) (fun r HX => XR_nc rfl HX)))
      exact r_iret dX4_picks_53 rfl H
  · replace H := H.2 b5
    refine r_aload_n dX4_picks_8 rfl rfl ?_
    refine r_iconst dX4_picks_9 rfl ?_
    refine r_aload_n dX4_picks_10 rfl rfl ?_
    refine r_getG fr_X4_9_12 (by decide) dX4_picks_11 (x4.kd k1 (by decide)) (by decide) ?_
    refine r_iconst dX4_picks_14 rfl ?_
    obtain ⟨k27, H⟩ := H
    obtain ⟨k28, H⟩ := H
    refine r_iald dX4_picks_15 k27 k28 ?_
    refine r_invV (y := m_X4_refuses) dX4_picks_16 rfl (lw_V q3318 q3320 qp69 q122 q3321) py_X4_refuses (Nat.le_of_ble_eq_true rfl) (args := [_, _]) rfl rfl (Nat.le_of_ble_eq_true rfl) (x4.kd k1 (by decide)) (by decide) rfl (C.monoE H (fun o h29 _ x31 K => cont_I K (fun v30 H => ?_) (fun r HX => XR_nc rfl HX)))
    exact r_iret dX4_picks_19 rfl H
theorem c_X4_picks_0 {g : PG} {d : Nat} {l0 : Nat} {l1 : Int32} {h : PH} {Q : Out → PH → Prop} (H : w_X4_picks_0 g d l0 l1 h Q) : C g (d + 1) m_X4_picks [.ref l0, .int l1] h Q := C_of_R rfl rfl (Nat.le_of_ble_eq_true rfl) rfl (v_X4_picks_0 H)
abbrev w_X4_noses_0 (g : PG) (d : Nat) (l0 : Nat) (l1 : Int32) (h : PH) (Q : Out → PH → Prop) : Prop := hkd h l0 = 12 ∧ hkd h (hG h 521 l0) / 100 = 1 ∧ vp_in (((3 : Int32) + ((3 : Int32) * l1)) + (2 : Int32)) (hln h (hG h 521 l0)) ∧ Q (.inl (some (.int (hA h (hG h 521 l0) (((3 : Int32) + ((3 : Int32) * l1)) + (2 : Int32)).toNatClampNeg)))) h
theorem v_X4_noses_0 {g : PG} {d : Nat} {l0 : Nat} {l1 : Int32} {h : PH} {Q : Out → PH → Prop} (H : w_X4_noses_0 g d l0 l1 h Q) : R g d m_X4_noses 0 [.ref l0, .int l1] [] h Q := by
  refine r_aload_n dX4_noses_0 rfl rfl ?_
  obtain ⟨k1, H⟩ := H
  refine r_getG fr_X4_9_12 (by decide) dX4_noses_1 k1 (by decide) ?_
  refine r_iconst dX4_noses_4 rfl ?_
  refine r_iconst dX4_noses_5 rfl ?_
  refine r_iload_n dX4_noses_6 rfl rfl ?_
  refine r_imul dX4_noses_7 ?_
  refine r_iadd dX4_noses_8 ?_
  refine r_iconst dX4_noses_9 rfl ?_
  refine r_iadd dX4_noses_10 ?_
  obtain ⟨k2, H⟩ := H
  obtain ⟨k3, H⟩ := H
  refine r_iald dX4_noses_11 k2 k3 ?_
  exact r_iret dX4_noses_12 rfl H
theorem c_X4_noses_0 {g : PG} {d : Nat} {l0 : Nat} {l1 : Int32} {h : PH} {Q : Out → PH → Prop} (H : w_X4_noses_0 g d l0 l1 h Q) : C g (d + 1) m_X4_noses [.ref l0, .int l1] h Q := C_of_R rfl rfl (Nat.le_of_ble_eq_true rfl) rfl (v_X4_noses_0 H)
abbrev w_X4_lies_0 (g : PG) (d : Nat) (l0 : Nat) (l1 : Int32) (l2 : Int32) (h : PH) (Q : Out → PH → Prop) : Prop := hkd h l0 = 12 ∧ C g d m_X4_hat [.ref l0, .int l1] h (oI (fun v3 h2 => ((¬ v3 = ((-1 : Int32) - l2)) → Q (.inl (some (.int 0))) h2) ∧ ((v3 = ((-1 : Int32) - l2)) → Q (.inl (some (.int 1))) h2)) (fun r hx => Q (.inr r) hx))
theorem v_X4_lies_0 {g : PG} {d : Nat} {l0 : Nat} {l1 : Int32} {l2 : Int32} {h : PH} {Q : Out → PH → Prop} (H : w_X4_lies_0 g d l0 l1 l2 h Q) : R g d m_X4_lies 0 [.ref l0, .int l1, .int l2] [] h Q := by
  refine r_aload_n dX4_lies_0 rfl rfl ?_
  refine r_iload_n dX4_lies_1 rfl rfl ?_
  obtain ⟨k1, H⟩ := H
  refine r_invV (y := m_X4_hat) dX4_lies_2 rfl (lw_V q3330 q3332 qp72 q122 q3333) py_X4_hat (Nat.le_of_ble_eq_true rfl) (args := [_]) rfl rfl (Nat.le_of_ble_eq_true rfl) k1 (by decide) rfl (C.monoE H (fun o h2 _ x4 K => cont_I K (fun v3 H => ?_) (fun r HX => XR_nc rfl HX)))
  refine r_iconst dX4_lies_5 rfl ?_
  refine r_iload_n dX4_lies_6 rfl rfl ?_
  refine r_isub dX4_lies_7 ?_
  refine r_icmp_ne (tgt := 15) dX4_lies_8 rfl (fun b5 => ?_) (fun b5 => ?_)
  · replace H := H.1 b5
    refine r_iconst dX4_lies_15 rfl ?_
    exact r_zret dX4_lies_16 rfl rfl H
  · replace H := H.2 b5
    refine r_iconst dX4_lies_11 rfl ?_
    refine r_goto (tgt := 16) dX4_lies_12 rfl ?_
    exact r_zret dX4_lies_16 rfl rfl H
theorem c_X4_lies_0 {g : PG} {d : Nat} {l0 : Nat} {l1 : Int32} {l2 : Int32} {h : PH} {Q : Out → PH → Prop} (H : w_X4_lies_0 g d l0 l1 l2 h Q) : C g (d + 1) m_X4_lies [.ref l0, .int l1, .int l2] h Q := C_of_R rfl rfl (Nat.le_of_ble_eq_true rfl) rfl (v_X4_lies_0 H)
abbrev w_X4_warm_0 (g : PG) (d : Nat) (l0 : Nat) (l1 : Int32) (l2 : Int32) (h : PH) (Q : Out → PH → Prop) : Prop := hkd h l0 = 12 ∧ C g d m_X4_tries [.ref l0] h (oV (fun h2 => C g d m_X4_warms [.ref l0, .int l1, .int l2] h2 (oI (fun v6 h5 => C g d m_X4_ends [.ref l0, .int v6, .int 3] h5 (oI (fun v9 h8 => Q (.inl (some (.int v9))) h8) (fun r hx => Q (.inr r) hx))) (fun r hx => Q (.inr r) hx))) (fun r hx => Q (.inr r) hx))
theorem v_X4_warm_0 {g : PG} {d : Nat} {l0 : Nat} {l1 : Int32} {l2 : Int32} {h : PH} {Q : Out → PH → Prop} (H : w_X4_warm_0 g d l0 l1 l2 h Q) : R g d m_X4_warm 0 [.ref l0, .int l1, .int l2] [] h Q := by
  refine r_aload_n dX4_warm_0 rfl rfl ?_
  obtain ⟨k1, H⟩ := H
  refine r_invV (y := m_X4_tries) dX4_warm_1 rfl (lw_V q3307 q3309 qp67 q122 q3310) py_X4_tries (Nat.le_of_ble_eq_true rfl) (args := []) rfl rfl (Nat.le_of_ble_eq_true rfl) k1 (by decide) rfl (C.monoE H (fun o h2 _ x4 K => cont_V K (fun H => ?_) (fun r HX => XR_nc rfl HX)))
  refine r_aload_n dX4_warm_4 rfl rfl ?_
  refine r_aload_n dX4_warm_5 rfl rfl ?_
  refine r_iload_n dX4_warm_6 rfl rfl ?_
  refine r_iload_n dX4_warm_7 rfl rfl ?_
  refine r_invV (y := m_X4_warms) dX4_warm_8 rfl (lw_V q3412 q3414 qp88 q122 q3415) py_X4_warms (Nat.le_of_ble_eq_true rfl) (args := [_, _]) rfl rfl (Nat.le_of_ble_eq_true rfl) (x4.kd k1 (by decide)) (by decide) rfl (C.monoE H (fun o h5 _ x7 K => cont_I K (fun v6 H => ?_) (fun r HX => XR_nc rfl HX)))
  refine r_iconst dX4_warm_11 rfl ?_
  refine r_invV (y := m_X4_ends) dX4_warm_12 rfl (lw_V q3338 q3340 qp74 q122 q3341) py_X4_ends (Nat.le_of_ble_eq_true rfl) (args := [_, _]) rfl rfl (Nat.le_of_ble_eq_true rfl) (x7.kd (x4.kd k1 (by decide)) (by decide)) (by decide) rfl (C.monoE H (fun o h8 _ x10 K => cont_I K (fun v9 H => ?_) (fun r HX => XR_nc rfl HX)))
  exact r_iret dX4_warm_15 rfl H
theorem c_X4_warm_0 {g : PG} {d : Nat} {l0 : Nat} {l1 : Int32} {l2 : Int32} {h : PH} {Q : Out → PH → Prop} (H : w_X4_warm_0 g d l0 l1 l2 h Q) : C g (d + 1) m_X4_warm [.ref l0, .int l1, .int l2] h Q := C_of_R rfl rfl (Nat.le_of_ble_eq_true rfl) rfl (v_X4_warm_0 H)
abbrev w_X4_warms_0 (g : PG) (d : Nat) (l0 : Nat) (l1 : Int32) (l2 : Int32) (h : PH) (Q : Out → PH → Prop) : Prop := C g d m_X4_in [.int l1, .int 0, .int 11] h (oI (fun v2 h1 => ((¬ v2 = 0) → C g d m_X4_in [.int l2, .int (-5 : Int32), .int 9] h1 (oI (fun v6 h5 => ((¬ v6 = 0) → hkd h5 l0 = 12 ∧ hkd h5 (hG h5 521 l0) / 100 = 1 ∧ vp_in ((3 : Int32) + ((3 : Int32) * l1)) (hln h5 (hG h5 521 l0)) ∧ ((¬ (hA h5 (hG h5 521 l0) ((3 : Int32) + ((3 : Int32) * l1)).toNatClampNeg) = l2) → hkd h5 (hG h5 521 l0) % 100 < 50 ∧ ∀ h16, h16 = setA (hG h5 521 l0) ((3 : Int32) + ((3 : Int32) * l1)).toNatClampNeg l2 h5 → C g d m_X4_does [.ref l0, .int (hA h5 (hG h5 521 l0) ((3 : Int32) + ((3 : Int32) * l1)).toNatClampNeg)] h16 (oI (fun v18 h17 => Q (.inl (some (.int v18))) h17) (fun r hx => Q (.inr r) hx))) ∧ (((hA h5 (hG h5 521 l0) ((3 : Int32) + ((3 : Int32) * l1)).toNatClampNeg) = l2) → C g d m_X4_refuses [.ref l0, .int 11, .int l2] h5 (oI (fun v21 h20 => Q (.inl (some (.int v21))) h20) (fun r hx => Q (.inr r) hx)))) ∧ ((v6 = 0) → Q (.inl (some (.int 2))) h5)) (fun r hx => Q (.inr r) hx))) ∧ ((v2 = 0) → Q (.inl (some (.int 1))) h1)) (fun r hx => Q (.inr r) hx))
theorem v_X4_warms_0 {g : PG} {d : Nat} {l0 : Nat} {l1 : Int32} {l2 : Int32} {h : PH} {Q : Out → PH → Prop} (H : w_X4_warms_0 g d l0 l1 l2 h Q) : R g d m_X4_warms 0 [.ref l0, .int l1, .int l2, .null] [] h Q := by
  refine r_iload_n dX4_warms_0 rfl rfl ?_
  refine r_iconst dX4_warms_1 rfl ?_
  refine r_bipush dX4_warms_2 rfl ?_
  refine r_invS (y := m_X4_in) dX4_warms_4 rfl (lw_S q3315 q3316 q122 q3317) py_X4_in (Nat.le_of_ble_eq_true rfl) (args := [_, _, _]) rfl rfl (Nat.le_of_ble_eq_true rfl) (C.monoE H (fun o h1 _ x3 K => cont_I K (fun v2 H => ?_) (fun r HX => XR_nc rfl HX)))
  refine r_if_ne (tgt := 12) dX4_warms_7 rfl (fun b4 => ?_) (fun b4 => ?_)
  · replace H := H.1 b4
    refine r_iload_n dX4_warms_12 rfl rfl ?_
    refine r_bipush dX4_warms_13 rfl ?_
    refine r_bipush dX4_warms_15 rfl ?_
    refine r_invS (y := m_X4_in) dX4_warms_17 rfl (lw_S q3315 q3316 q122 q3317) py_X4_in (Nat.le_of_ble_eq_true rfl) (args := [_, _, _]) rfl rfl (Nat.le_of_ble_eq_true rfl) (C.monoE H (fun o h5 _ x7 K => cont_I K (fun v6 H => ?_) (fun r HX => XR_nc rfl HX)))
    refine r_if_ne (tgt := 25) dX4_warms_20 rfl (fun b8 => ?_) (fun b8 => ?_)
    · replace H := H.1 b8
      refine r_aload_n dX4_warms_25 rfl rfl ?_
      obtain ⟨k9, H⟩ := H
      refine r_getG fr_X4_9_12 (by decide) dX4_warms_26 k9 (by decide) ?_
      refine r_iconst dX4_warms_29 rfl ?_
      refine r_iconst dX4_warms_30 rfl ?_
      refine r_iload_n dX4_warms_31 rfl rfl ?_
      refine r_imul dX4_warms_32 ?_
      refine r_iadd dX4_warms_33 ?_
      obtain ⟨k10, H⟩ := H
      obtain ⟨k11, H⟩ := H
      refine r_iald dX4_warms_34 k10 k11 ?_
      refine r_istore_n dX4_warms_35 rfl (Nat.le_of_ble_eq_true rfl) rfl (slS (slS (slS sl0))) ?_
      refine r_iload_n dX4_warms_36 rfl rfl ?_
      refine r_iload_n dX4_warms_37 rfl rfl ?_
      refine r_icmp_ne (tgt := 49) dX4_warms_38 rfl (fun b12 => ?_) (fun b12 => ?_)
      · replace H := H.1 b12
        refine r_aload_n dX4_warms_49 rfl rfl ?_
        refine r_getG fr_X4_9_12 (by decide) dX4_warms_50 k9 (by decide) ?_
        refine r_iconst dX4_warms_53 rfl ?_
        refine r_iconst dX4_warms_54 rfl ?_
        refine r_iload_n dX4_warms_55 rfl rfl ?_
        refine r_imul dX4_warms_56 ?_
        refine r_iadd dX4_warms_57 ?_
        refine r_iload_n dX4_warms_58 rfl rfl ?_
        obtain ⟨k14, H⟩ := H
        replace H := H _ rfl
        refine r_iast dX4_warms_59 k10 k14 k11 ?_
        refine r_aload_n dX4_warms_60 rfl rfl ?_
        refine r_iload_n dX4_warms_61 rfl rfl ?_
        refine r_invV (y := m_X4_does) dX4_warms_62 rfl (lw_V q3334 q3336 qp73 q122 q3337) py_X4_does (Nat.le_of_ble_eq_true rfl) (args := [_]) rfl rfl (Nat.le_of_ble_eq_true rfl) k9 (by decide) rfl (C.monoE H (fun o h17 _ x19 K => cont_I K (fun v18 H => ?_) (fun r HX => XR_nc rfl HX)))
        exact r_iret dX4_warms_65 rfl H
      · replace H := H.2 b12
        refine r_aload_n dX4_warms_41 rfl rfl ?_
        refine r_bipush dX4_warms_42 rfl ?_
        refine r_iload_n dX4_warms_44 rfl rfl ?_
        refine r_invV (y := m_X4_refuses) dX4_warms_45 rfl (lw_V q3318 q3320 qp69 q122 q3321) py_X4_refuses (Nat.le_of_ble_eq_true rfl) (args := [_, _]) rfl rfl (Nat.le_of_ble_eq_true rfl) k9 (by decide) rfl (C.monoE H (fun o h20 _ x22 K => cont_I K (fun v21 H => ?_) (fun r HX => XR_nc rfl HX)))
        exact r_iret dX4_warms_48 rfl H
    · replace H := H.2 b8
      refine r_iconst dX4_warms_23 rfl ?_
      exact r_iret dX4_warms_24 rfl H
  · replace H := H.2 b4
    refine r_iconst dX4_warms_10 rfl ?_
    exact r_iret dX4_warms_11 rfl H
theorem c_X4_warms_0 {g : PG} {d : Nat} {l0 : Nat} {l1 : Int32} {l2 : Int32} {h : PH} {Q : Out → PH → Prop} (H : w_X4_warms_0 g d l0 l1 l2 h Q) : C g (d + 1) m_X4_warms [.ref l0, .int l1, .int l2] h Q := C_of_R rfl rfl (Nat.le_of_ble_eq_true rfl) rfl (v_X4_warms_0 H)
abbrev w_X4_hour_0 (g : PG) (d : Nat) (l0 : Nat) (l1 : Int32) (h : PH) (Q : Out → PH → Prop) : Prop := hkd h l0 = 12 ∧ C g d m_X4_tries [.ref l0] h (oV (fun h2 => C g d m_X4_passes [.ref l0, .int l1] h2 (oI (fun v6 h5 => C g d m_X4_ends [.ref l0, .int v6, .int 1] h5 (oI (fun v9 h8 => Q (.inl (some (.int v9))) h8) (fun r hx => Q (.inr r) hx))) (fun r hx => Q (.inr r) hx))) (fun r hx => Q (.inr r) hx))
theorem v_X4_hour_0 {g : PG} {d : Nat} {l0 : Nat} {l1 : Int32} {h : PH} {Q : Out → PH → Prop} (H : w_X4_hour_0 g d l0 l1 h Q) : R g d m_X4_hour 0 [.ref l0, .int l1] [] h Q := by
  refine r_aload_n dX4_hour_0 rfl rfl ?_
  obtain ⟨k1, H⟩ := H
  refine r_invV (y := m_X4_tries) dX4_hour_1 rfl (lw_V q3307 q3309 qp67 q122 q3310) py_X4_tries (Nat.le_of_ble_eq_true rfl) (args := []) rfl rfl (Nat.le_of_ble_eq_true rfl) k1 (by decide) rfl (C.monoE H (fun o h2 _ x4 K => cont_V K (fun H => ?_) (fun r HX => XR_nc rfl HX)))
  refine r_aload_n dX4_hour_4 rfl rfl ?_
  refine r_aload_n dX4_hour_5 rfl rfl ?_
  refine r_iload_n dX4_hour_6 rfl rfl ?_
  refine r_invV (y := m_X4_passes) dX4_hour_7 rfl (lw_V q3420 q3422 qp89 q122 q3423) py_X4_passes (Nat.le_of_ble_eq_true rfl) (args := [_]) rfl rfl (Nat.le_of_ble_eq_true rfl) (x4.kd k1 (by decide)) (by decide) rfl (C.monoE H (fun o h5 _ x7 K => cont_I K (fun v6 H => ?_) (fun r HX => XR_nc rfl HX)))
  refine r_iconst dX4_hour_10 rfl ?_
  refine r_invV (y := m_X4_ends) dX4_hour_11 rfl (lw_V q3338 q3340 qp74 q122 q3341) py_X4_ends (Nat.le_of_ble_eq_true rfl) (args := [_, _]) rfl rfl (Nat.le_of_ble_eq_true rfl) (x7.kd (x4.kd k1 (by decide)) (by decide)) (by decide) rfl (C.monoE H (fun o h8 _ x10 K => cont_I K (fun v9 H => ?_) (fun r HX => XR_nc rfl HX)))
  exact r_iret dX4_hour_14 rfl H
theorem c_X4_hour_0 {g : PG} {d : Nat} {l0 : Nat} {l1 : Int32} {h : PH} {Q : Out → PH → Prop} (H : w_X4_hour_0 g d l0 l1 h Q) : C g (d + 1) m_X4_hour [.ref l0, .int l1] h Q := C_of_R rfl rfl (Nat.le_of_ble_eq_true rfl) rfl (v_X4_hour_0 H)
abbrev w_X4_passes_16 (g : PG) (d : Nat) (l0 : Nat) (l1 : Int32) (l2 : Int32) (l3 : Int32) (h : PH) (Q : Out → PH → Prop) : Prop := ((l1 ≤ l3) → hkd h l0 = 12 ∧ C g d m_X4_does [.ref l0, .int l2] h (oI (fun v4 h3 => Q (.inl (some (.int v4))) h3) (fun r hx => Q (.inr r) hx))) ∧ ((¬ l1 ≤ l3) → hkd h l0 = 12 ∧ C g d m_X4_goesBy [.ref l0] h (oI (fun v8 h7 => R g d m_X4_passes 16 [.ref l0, .int l1, .int (l2 + v8), .int (l3 + 1)] [] h7 Q) (fun r hx => Q (.inr r) hx)))
theorem v_X4_passes_16 {g : PG} {d : Nat} {l0 : Nat} {l1 : Int32} {l2 : Int32} {l3 : Int32} {h : PH} {Q : Out → PH → Prop} (H : w_X4_passes_16 g d l0 l1 l2 l3 h Q) : R g d m_X4_passes 16 [.ref l0, .int l1, .int l2, .int l3] [] h Q := by
  refine r_iload_n dX4_passes_16 rfl rfl ?_
  refine r_iload_n dX4_passes_17 rfl rfl ?_
  refine r_icmp_ge (tgt := 34) dX4_passes_18 rfl (fun b1 => ?_) (fun b1 => ?_)
  · replace H := H.1 b1
    refine r_aload_n dX4_passes_34 rfl rfl ?_
    refine r_iload_n dX4_passes_35 rfl rfl ?_
    obtain ⟨k2, H⟩ := H
    refine r_invV (y := m_X4_does) dX4_passes_36 rfl (lw_V q3334 q3336 qp73 q122 q3337) py_X4_does (Nat.le_of_ble_eq_true rfl) (args := [_]) rfl rfl (Nat.le_of_ble_eq_true rfl) k2 (by decide) rfl (C.monoE H (fun o h3 _ x5 K => cont_I K (fun v4 H => ?_) (fun r HX => XR_nc rfl HX)))
    exact r_iret dX4_passes_39 rfl H
  · replace H := H.2 b1
    refine r_iload_n dX4_passes_21 rfl rfl ?_
    refine r_aload_n dX4_passes_22 rfl rfl ?_
    obtain ⟨k6, H⟩ := H
    refine r_invV (y := m_X4_goesBy) dX4_passes_23 rfl (lw_V q3424 q3426 qp90 q122 q3427) py_X4_goesBy (Nat.le_of_ble_eq_true rfl) (args := []) rfl rfl (Nat.le_of_ble_eq_true rfl) k6 (by decide) rfl (C.monoE H (fun o h7 _ x9 K => cont_I K (fun v8 H => ?_) (fun r HX => XR_nc rfl HX)))
    refine r_iadd dX4_passes_26 ?_
    refine r_istore_n dX4_passes_27 rfl (Nat.le_of_ble_eq_true rfl) rfl (slS (slS sl0)) ?_
    refine r_iinc dX4_passes_28 rfl rfl (Nat.le_of_ble_eq_true rfl) rfl (slS (slS (slS sl0))) ?_
    refine r_goto (tgt := 16) dX4_passes_31 rfl ?_
    exact H
abbrev w_X4_passes_0 (g : PG) (d : Nat) (l0 : Nat) (l1 : Int32) (h : PH) (Q : Out → PH → Prop) : Prop := C g d m_X4_in [.int l1, .int 1, .int 24] h (oI (fun v2 h1 => ((¬ v2 = 0) → R g d m_X4_passes 16 [.ref l0, .int l1, .int 0, .int 0] [] h1 Q) ∧ ((v2 = 0) → Q (.inl (some (.int 1))) h1)) (fun r hx => Q (.inr r) hx))
theorem v_X4_passes_0 {g : PG} {d : Nat} {l0 : Nat} {l1 : Int32} {h : PH} {Q : Out → PH → Prop} (H : w_X4_passes_0 g d l0 l1 h Q) : R g d m_X4_passes 0 [.ref l0, .int l1, .null, .null] [] h Q := by
  refine r_iload_n dX4_passes_0 rfl rfl ?_
  refine r_iconst dX4_passes_1 rfl ?_
  refine r_bipush dX4_passes_2 rfl ?_
  refine r_invS (y := m_X4_in) dX4_passes_4 rfl (lw_S q3315 q3316 q122 q3317) py_X4_in (Nat.le_of_ble_eq_true rfl) (args := [_, _, _]) rfl rfl (Nat.le_of_ble_eq_true rfl) (C.monoE H (fun o h1 _ x3 K => cont_I K (fun v2 H => ?_) (fun r HX => XR_nc rfl HX)))
  refine r_if_ne (tgt := 12) dX4_passes_7 rfl (fun b4 => ?_) (fun b4 => ?_)
  · replace H := H.1 b4
    refine r_iconst dX4_passes_12 rfl ?_
    refine r_istore_n dX4_passes_13 rfl (Nat.le_of_ble_eq_true rfl) rfl (slS (slS sl0)) ?_
    refine r_iconst dX4_passes_14 rfl ?_
    refine r_istore_n dX4_passes_15 rfl (Nat.le_of_ble_eq_true rfl) rfl (slS (slS (slS sl0))) ?_
    exact H
  · replace H := H.2 b4
    refine r_iconst dX4_passes_10 rfl ?_
    exact r_iret dX4_passes_11 rfl H
theorem c_X4_passes_0 {g : PG} {d : Nat} {l0 : Nat} {l1 : Int32} {h : PH} {Q : Out → PH → Prop} (H : w_X4_passes_0 g d l0 l1 h Q) : C g (d + 1) m_X4_passes [.ref l0, .int l1] h Q := C_of_R rfl rfl (Nat.le_of_ble_eq_true rfl) rfl (v_X4_passes_0 H)
abbrev w_X4_goesBy_71 (g : PG) (d : Nat) (l0 : Nat) (l1 : Int32) (l2 : Int32) (l3 : Int32) (h : PH) (Q : Out → PH → Prop) : Prop := (((12 : Int32) ≤ l3) → hkd h l0 = 12 ∧ hkd h (hG h 521 l0) / 100 = 1 ∧ vp_in (1 : Int32) (hln h (hG h 521 l0)) ∧ hkd h (hG h 521 l0) % 100 < 50 ∧ ∀ h8, h8 = setA (hG h 521 l0) (1 : Int32).toNatClampNeg ((hA h (hG h 521 l0) (1 : Int32).toNatClampNeg) + (1 : Int32)) h → Q (.inl (some (.int l1))) h8) ∧ ((¬ (12 : Int32) ≤ l3) → hkd h l0 = 12 ∧ hkd h (hG h 521 l0) / 100 = 1 ∧ vp_in ((3 : Int32) + ((3 : Int32) * l3)) (hln h (hG h 521 l0)) ∧ hkd h (hG h 521 l0) % 100 < 50 ∧ ∀ h15, h15 = setA (hG h 521 l0) ((3 : Int32) + ((3 : Int32) * l3)).toNatClampNeg (i32max (-5 : Int32) (i32min (9 : Int32) ((hA h (hG h 521 l0) ((3 : Int32) + ((3 : Int32) * l3)).toNatClampNeg) + l2))) h → R g d m_X4_goesBy 71 [.ref l0, .int l1, .int l2, .int (l3 + 1)] [] h15 Q)
theorem v_X4_goesBy_71 {g : PG} {d : Nat} {l0 : Nat} {l1 : Int32} {l2 : Int32} {l3 : Int32} {h : PH} {Q : Out → PH → Prop} (H : w_X4_goesBy_71 g d l0 l1 l2 l3 h Q) : R g d m_X4_goesBy 71 [.ref l0, .int l1, .int l2, .int l3] [] h Q := by
  refine r_iload_n dX4_goesBy_71 rfl rfl ?_
  refine r_bipush dX4_goesBy_72 rfl ?_
  refine r_icmp_ge (tgt := 115) dX4_goesBy_74 rfl (fun b1 => ?_) (fun b1 => ?_)
  · replace H := H.1 b1
    refine r_aload_n dX4_goesBy_115 rfl rfl ?_
    obtain ⟨k2, H⟩ := H
    refine r_getG fr_X4_9_12 (by decide) dX4_goesBy_116 k2 (by decide) ?_
    refine r_iconst dX4_goesBy_119 rfl ?_
    refine r_dup2 dX4_goesBy_120 rfl rfl ?_
    obtain ⟨k3, H⟩ := H
    obtain ⟨k4, H⟩ := H
    refine r_iald dX4_goesBy_121 k3 k4 ?_
    refine r_iconst dX4_goesBy_122 rfl ?_
    refine r_iadd dX4_goesBy_123 ?_
    obtain ⟨k6, H⟩ := H
    replace H := H _ rfl
    refine r_iast dX4_goesBy_124 k3 k6 k4 ?_
    refine r_iload_n dX4_goesBy_125 rfl rfl ?_
    exact r_iret dX4_goesBy_126 rfl H
  · replace H := H.2 b1
    refine r_aload_n dX4_goesBy_77 rfl rfl ?_
    obtain ⟨k9, H⟩ := H
    refine r_getG fr_X4_9_12 (by decide) dX4_goesBy_78 k9 (by decide) ?_
    refine r_iconst dX4_goesBy_81 rfl ?_
    refine r_iconst dX4_goesBy_82 rfl ?_
    refine r_iload_n dX4_goesBy_83 rfl rfl ?_
    refine r_imul dX4_goesBy_84 ?_
    refine r_iadd dX4_goesBy_85 ?_
    refine r_bipush dX4_goesBy_86 rfl ?_
    refine r_bipush dX4_goesBy_88 rfl ?_
    refine r_aload_n dX4_goesBy_90 rfl rfl ?_
    refine r_getG fr_X4_9_12 (by decide) dX4_goesBy_91 k9 (by decide) ?_
    refine r_iconst dX4_goesBy_94 rfl ?_
    refine r_iconst dX4_goesBy_95 rfl ?_
    refine r_iload_n dX4_goesBy_96 rfl rfl ?_
    refine r_imul dX4_goesBy_97 ?_
    refine r_iadd dX4_goesBy_98 ?_
    obtain ⟨k10, H⟩ := H
    obtain ⟨k11, H⟩ := H
    refine r_iald dX4_goesBy_99 k10 k11 ?_
    refine r_iload_n dX4_goesBy_100 rfl rfl ?_
    refine r_iadd dX4_goesBy_101 ?_
    refine r_mmin dX4_goesBy_102 q3382 q485 q134 q486 (Nat.le_of_ble_eq_true rfl) ?_
    refine r_mmax dX4_goesBy_105 q3428 q467 q134 q468 (Nat.le_of_ble_eq_true rfl) ?_
    obtain ⟨k13, H⟩ := H
    replace H := H _ rfl
    refine r_iast dX4_goesBy_108 k10 k13 k11 ?_
    refine r_iinc dX4_goesBy_109 rfl rfl (Nat.le_of_ble_eq_true rfl) rfl (slS (slS (slS sl0))) ?_
    refine r_goto (tgt := 71) dX4_goesBy_112 rfl ?_
    exact H
abbrev w_X4_goesBy_68 (g : PG) (d : Nat) (l0 : Nat) (l1 : Int32) (s0 : Int32) (h : PH) (Q : Out → PH → Prop) : Prop := R g d m_X4_goesBy 71 [.ref l0, .int l1, .int s0, .int 0] [] h Q
theorem v_X4_goesBy_68 {g : PG} {d : Nat} {l0 : Nat} {l1 : Int32} {s0 : Int32} {h : PH} {Q : Out → PH → Prop} (H : w_X4_goesBy_68 g d l0 l1 s0 h Q) : R g d m_X4_goesBy 68 [.ref l0, .int l1, .null, .null] [.int s0] h Q := by
  refine r_istore_n dX4_goesBy_68 rfl (Nat.le_of_ble_eq_true rfl) rfl (slS (slS sl0)) ?_
  refine r_iconst dX4_goesBy_69 rfl ?_
  refine r_istore_n dX4_goesBy_70 rfl (Nat.le_of_ble_eq_true rfl) rfl (slS (slS (slS sl0))) ?_
  exact H
abbrev w_X4_goesBy_43 (g : PG) (d : Nat) (l0 : Nat) (l1 : Int32) (l2 : Int32) (h : PH) (Q : Out → PH → Prop) : Prop := R g d m_X4_goesBy 4 [.ref l0, .int l1, .int (l2 + 1), .null] [] h Q
theorem v_X4_goesBy_43 {g : PG} {d : Nat} {l0 : Nat} {l1 : Int32} {l2 : Int32} {h : PH} {Q : Out → PH → Prop} (H : w_X4_goesBy_43 g d l0 l1 l2 h Q) : R g d m_X4_goesBy 43 [.ref l0, .int l1, .int l2, .null] [] h Q := by
  refine r_iinc dX4_goesBy_43 rfl rfl (Nat.le_of_ble_eq_true rfl) rfl (slS (slS sl0)) ?_
  refine r_goto (tgt := 4) dX4_goesBy_46 rfl ?_
  exact H
abbrev w_X4_goesBy_4 (g : PG) (d : Nat) (l0 : Nat) (l1 : Int32) (l2 : Int32) (h : PH) (Q : Out → PH → Prop) : Prop := hkd h l0 = 12 ∧ hkd h (hG h 521 l0) / 100 = 1 ∧ vp_in (0 : Int32) (hln h (hG h 521 l0)) ∧ (((hA h (hG h 521 l0) (0 : Int32).toNatClampNeg) ≤ l2) → vp_in (1 : Int32) (hln h (hG h 521 l0)) ∧ ((¬ (((hA h (hG h 521 l0) (1 : Int32).toNatClampNeg) / (6 : Int32)) - ((hA h (hG h 521 l0) (1 : Int32).toNatClampNeg) / (6 : Int32)) / (2 : Int32) * (2 : Int32)) = 0) → w_X4_goesBy_68 g d l0 l1 (-1 : Int32) h Q) ∧ (((((hA h (hG h 521 l0) (1 : Int32).toNatClampNeg) / (6 : Int32)) - ((hA h (hG h 521 l0) (1 : Int32).toNatClampNeg) / (6 : Int32)) / (2 : Int32) * (2 : Int32)) = 0) → w_X4_goesBy_68 g d l0 l1 (1 : Int32) h Q)) ∧ ((¬ (hA h (hG h 521 l0) (0 : Int32).toNatClampNeg) ≤ l2) → C g d m_X4_of [.ref l0, .int l2, .int 2] h (oI (fun v11 h10 => ((¬ v11 = 0) → C g d m_X4_acts [.ref l0, .int l2] h10 (oV (fun h14 => C g d m_X4_of [.ref l0, .int l2, .int 2] h14 (oI (fun v18 h17 => ((¬ v18 = 0) → w_X4_goesBy_43 g d l0 l1 l2 h17 Q) ∧ ((v18 = 0) → w_X4_goesBy_43 g d l0 (l1 + 1) l2 h17 Q)) (fun r hx => Q (.inr r) hx))) (fun r hx => Q (.inr r) hx))) ∧ ((v11 = 0) → w_X4_goesBy_43 g d l0 l1 l2 h10 Q)) (fun r hx => Q (.inr r) hx)))
theorem v_X4_goesBy_4 {g : PG} {d : Nat} {l0 : Nat} {l1 : Int32} {l2 : Int32} {h : PH} {Q : Out → PH → Prop} (H : w_X4_goesBy_4 g d l0 l1 l2 h Q) : R g d m_X4_goesBy 4 [.ref l0, .int l1, .int l2, .null] [] h Q := by
  refine r_iload_n dX4_goesBy_4 rfl rfl ?_
  refine r_aload_n dX4_goesBy_5 rfl rfl ?_
  obtain ⟨k1, H⟩ := H
  refine r_getG fr_X4_9_12 (by decide) dX4_goesBy_6 k1 (by decide) ?_
  refine r_iconst dX4_goesBy_9 rfl ?_
  obtain ⟨k2, H⟩ := H
  obtain ⟨k3, H⟩ := H
  refine r_iald dX4_goesBy_10 k2 k3 ?_
  refine r_icmp_ge (tgt := 49) dX4_goesBy_11 rfl (fun b4 => ?_) (fun b4 => ?_)
  · replace H := H.1 b4
    refine r_aload_n dX4_goesBy_49 rfl rfl ?_
    refine r_getG fr_X4_9_12 (by decide) dX4_goesBy_50 k1 (by decide) ?_
    refine r_iconst dX4_goesBy_53 rfl ?_
    obtain ⟨k6, H⟩ := H
    refine r_iald dX4_goesBy_54 k2 k6 ?_
    refine r_bipush dX4_goesBy_55 rfl ?_
    refine r_idiv dX4_goesBy_57 (by decide) ?_
    refine r_iconst dX4_goesBy_58 rfl ?_
    refine r_irem dX4_goesBy_59 (by decide) ?_
    refine r_if_ne (tgt := 67) dX4_goesBy_60 rfl (fun b9 => ?_) (fun b9 => ?_)
    · replace H := H.1 b9
      refine r_iconst dX4_goesBy_67 rfl ?_
      exact R.forget (v_X4_goesBy_68 H) ⟨Or.inl rfl, ⟨Or.inl rfl, ⟨Or.inr rfl, ⟨Or.inl rfl, trivial⟩⟩⟩⟩
    · replace H := H.2 b9
      refine r_iconst dX4_goesBy_63 rfl ?_
      refine r_goto (tgt := 68) dX4_goesBy_64 rfl ?_
      exact R.forget (v_X4_goesBy_68 H) ⟨Or.inl rfl, ⟨Or.inl rfl, ⟨Or.inr rfl, ⟨Or.inl rfl, trivial⟩⟩⟩⟩
  · replace H := H.2 b4
    refine r_aload_n dX4_goesBy_14 rfl rfl ?_
    refine r_iload_n dX4_goesBy_15 rfl rfl ?_
    refine r_iconst dX4_goesBy_16 rfl ?_
    refine r_invV (y := m_X4_of) dX4_goesBy_17 rfl (lw_V q3362 q3364 qp79 q122 q3365) py_X4_of (Nat.le_of_ble_eq_true rfl) (args := [_, _]) rfl rfl (Nat.le_of_ble_eq_true rfl) k1 (by decide) rfl (C.monoE H (fun o h10 _ x12 K => cont_I K (fun v11 H => ?_) (fun r HX => XR_nc rfl HX)))
    refine r_if_ne (tgt := 26) dX4_goesBy_20 rfl (fun b13 => ?_) (fun b13 => ?_)
    · replace H := H.1 b13
      refine r_aload_n dX4_goesBy_26 rfl rfl ?_
      refine r_iload_n dX4_goesBy_27 rfl rfl ?_
      refine r_invV (y := m_X4_acts) dX4_goesBy_28 rfl (lw_V q3378 q3380 qp83 q122 q3381) py_X4_acts (Nat.le_of_ble_eq_true rfl) (args := [_]) rfl rfl (Nat.le_of_ble_eq_true rfl) (x12.kd k1 (by decide)) (by decide) rfl (C.monoE H (fun o h14 _ x16 K => cont_V K (fun H => ?_) (fun r HX => XR_nc rfl HX)))
      refine r_aload_n dX4_goesBy_31 rfl rfl ?_
      refine r_iload_n dX4_goesBy_32 rfl rfl ?_
      refine r_iconst dX4_goesBy_33 rfl ?_
      refine r_invV (y := m_X4_of) dX4_goesBy_34 rfl (lw_V q3362 q3364 qp79 q122 q3365) py_X4_of (Nat.le_of_ble_eq_true rfl) (args := [_, _]) rfl rfl (Nat.le_of_ble_eq_true rfl) (x16.kd (x12.kd k1 (by decide)) (by decide)) (by decide) rfl (C.monoE H (fun o h17 _ x19 K => cont_I K (fun v18 H => ?_) (fun r HX => XR_nc rfl HX)))
      refine r_if_ne (tgt := 43) dX4_goesBy_37 rfl (fun b20 => ?_) (fun b20 => ?_)
      · replace H := H.1 b20
        exact v_X4_goesBy_43 H
      · replace H := H.2 b20
        refine r_iinc dX4_goesBy_40 rfl rfl (Nat.le_of_ble_eq_true rfl) rfl (slS sl0) ?_
        exact v_X4_goesBy_43 H
    · replace H := H.2 b13
      refine r_goto (tgt := 43) dX4_goesBy_23 rfl ?_
      exact v_X4_goesBy_43 H
abbrev w_X4_goesBy_0 (g : PG) (d : Nat) (l0 : Nat) (h : PH) (Q : Out → PH → Prop) : Prop := R g d m_X4_goesBy 4 [.ref l0, .int 0, .int 0, .null] [] h Q
theorem v_X4_goesBy_0 {g : PG} {d : Nat} {l0 : Nat} {h : PH} {Q : Out → PH → Prop} (H : w_X4_goesBy_0 g d l0 h Q) : R g d m_X4_goesBy 0 [.ref l0, .null, .null, .null] [] h Q := by
  refine r_iconst dX4_goesBy_0 rfl ?_
  refine r_istore_n dX4_goesBy_1 rfl (Nat.le_of_ble_eq_true rfl) rfl (slS sl0) ?_
  refine r_iconst dX4_goesBy_2 rfl ?_
  refine r_istore_n dX4_goesBy_3 rfl (Nat.le_of_ble_eq_true rfl) rfl (slS (slS sl0)) ?_
  exact H
theorem c_X4_goesBy_0 {g : PG} {d : Nat} {l0 : Nat} {h : PH} {Q : Out → PH → Prop} (H : w_X4_goesBy_0 g d l0 h Q) : C g (d + 1) m_X4_goesBy [.ref l0] h Q := C_of_R rfl rfl (Nat.le_of_ble_eq_true rfl) rfl (v_X4_goesBy_0 H)
abbrev w_X4_plankOf_145 (g : PG) (d : Nat) (l0 : Nat) (l1 : Int32) (l3 : Int32) (l4 : Int32) (h : PH) (Q : Out → PH → Prop) : Prop := R g d m_X4_plankOf 110 [.ref l0, .int l1, .null, .int l3, .int (l4 + 1)] [] h Q
theorem v_X4_plankOf_145 {g : PG} {d : Nat} {l0 : Nat} {l1 : Int32} {l3 : Int32} {l4 : Int32} {h : PH} {Q : Out → PH → Prop} (H : w_X4_plankOf_145 g d l0 l1 l3 l4 h Q) : R g d m_X4_plankOf 145 [.ref l0, .int l1, .null, .int l3, .int l4] [] h Q := by
  refine r_iinc dX4_plankOf_145 rfl rfl (Nat.le_of_ble_eq_true rfl) rfl (slS (slS (slS (slS sl0)))) ?_
  refine r_goto (tgt := 110) dX4_plankOf_148 rfl ?_
  exact H
abbrev w_X4_plankOf_110 (g : PG) (d : Nat) (l0 : Nat) (l1 : Int32) (l3 : Int32) (l4 : Int32) (h : PH) (Q : Out → PH → Prop) : Prop := hkd h l0 = 12 ∧ hkd h (hG h 521 l0) / 100 = 1 ∧ vp_in (0 : Int32) (hln h (hG h 521 l0)) ∧ (((hA h (hG h 521 l0) (0 : Int32).toNatClampNeg) ≤ l4) → Q (.inl (some (.int l3))) h) ∧ ((¬ (hA h (hG h 521 l0) (0 : Int32).toNatClampNeg) ≤ l4) → C g d m_X4_of [.ref l0, .int l4, .int 1] h (oI (fun v6 h5 => ((¬ v6 = l1) → w_X4_plankOf_145 g d l0 l1 l3 l4 h5 Q) ∧ ((v6 = l1) → C g d m_X4_of [.ref l0, .int l4, .int 2] h5 (oI (fun v10 h9 => ((v10 ≤ 0) → w_X4_plankOf_145 g d l0 l1 l3 l4 h9 Q) ∧ ((¬ v10 ≤ 0) → w_X4_plankOf_145 g d l0 l1 (l3 + 1) l4 h9 Q)) (fun r hx => Q (.inr r) hx)))) (fun r hx => Q (.inr r) hx)))
theorem v_X4_plankOf_110 {g : PG} {d : Nat} {l0 : Nat} {l1 : Int32} {l3 : Int32} {l4 : Int32} {h : PH} {Q : Out → PH → Prop} (H : w_X4_plankOf_110 g d l0 l1 l3 l4 h Q) : R g d m_X4_plankOf 110 [.ref l0, .int l1, .null, .int l3, .int l4] [] h Q := by
  refine r_iload dX4_plankOf_110 rfl ?_
  refine r_aload_n dX4_plankOf_112 rfl rfl ?_
  obtain ⟨k1, H⟩ := H
  refine r_getG fr_X4_9_12 (by decide) dX4_plankOf_113 k1 (by decide) ?_
  refine r_iconst dX4_plankOf_116 rfl ?_
  obtain ⟨k2, H⟩ := H
  obtain ⟨k3, H⟩ := H
  refine r_iald dX4_plankOf_117 k2 k3 ?_
  refine r_icmp_ge (tgt := 151) dX4_plankOf_118 rfl (fun b4 => ?_) (fun b4 => ?_)
  · replace H := H.1 b4
    refine r_iload_n dX4_plankOf_151 rfl rfl ?_
    exact r_iret dX4_plankOf_152 rfl H
  · replace H := H.2 b4
    refine r_aload_n dX4_plankOf_121 rfl rfl ?_
    refine r_iload dX4_plankOf_122 rfl ?_
    refine r_iconst dX4_plankOf_124 rfl ?_
    refine r_invV (y := m_X4_of) dX4_plankOf_125 rfl (lw_V q3362 q3364 qp79 q122 q3365) py_X4_of (Nat.le_of_ble_eq_true rfl) (args := [_, _]) rfl rfl (Nat.le_of_ble_eq_true rfl) k1 (by decide) rfl (C.monoE H (fun o h5 _ x7 K => cont_I K (fun v6 H => ?_) (fun r HX => XR_nc rfl HX)))
    refine r_iload_n dX4_plankOf_128 rfl rfl ?_
    refine r_icmp_ne (tgt := 145) dX4_plankOf_129 rfl (fun b8 => ?_) (fun b8 => ?_)
    · replace H := H.1 b8
      exact v_X4_plankOf_145 H
    · replace H := H.2 b8
      refine r_aload_n dX4_plankOf_132 rfl rfl ?_
      refine r_iload dX4_plankOf_133 rfl ?_
      refine r_iconst dX4_plankOf_135 rfl ?_
      refine r_invV (y := m_X4_of) dX4_plankOf_136 rfl (lw_V q3362 q3364 qp79 q122 q3365) py_X4_of (Nat.le_of_ble_eq_true rfl) (args := [_, _]) rfl rfl (Nat.le_of_ble_eq_true rfl) (x7.kd k1 (by decide)) (by decide) rfl (C.monoE H (fun o h9 _ x11 K => cont_I K (fun v10 H => ?_) (fun r HX => XR_nc rfl HX)))
      refine r_if_le (tgt := 145) dX4_plankOf_139 rfl (fun b12 => ?_) (fun b12 => ?_)
      · replace H := H.1 b12
        exact v_X4_plankOf_145 H
      · replace H := H.2 b12
        refine r_iinc dX4_plankOf_142 rfl rfl (Nat.le_of_ble_eq_true rfl) rfl (slS (slS (slS sl0))) ?_
        exact v_X4_plankOf_145 H
abbrev w_X4_plankOf_99 (g : PG) (d : Nat) (l0 : Nat) (l1 : Int32) (l3 : Int32) (l4 : Int32) (h : PH) (Q : Out → PH → Prop) : Prop := R g d m_X4_plankOf 76 [.ref l0, .int l1, .null, .int l3, .int (l4 + 1)] [] h Q
theorem v_X4_plankOf_99 {g : PG} {d : Nat} {l0 : Nat} {l1 : Int32} {l3 : Int32} {l4 : Int32} {h : PH} {Q : Out → PH → Prop} (H : w_X4_plankOf_99 g d l0 l1 l3 l4 h Q) : R g d m_X4_plankOf 99 [.ref l0, .int l1, .null, .int l3, .int l4] [] h Q := by
  refine r_iinc dX4_plankOf_99 rfl rfl (Nat.le_of_ble_eq_true rfl) rfl (slS (slS (slS (slS sl0)))) ?_
  refine r_goto (tgt := 76) dX4_plankOf_102 rfl ?_
  exact H
abbrev w_X4_plankOf_76 (g : PG) (d : Nat) (l0 : Nat) (l1 : Int32) (l3 : Int32) (l4 : Int32) (h : PH) (Q : Out → PH → Prop) : Prop := (((3 : Int32) ≤ l4) → Q (.inl (some (.int l3))) h) ∧ ((¬ (3 : Int32) ≤ l4) → hkd h l0 = 12 ∧ C g d m_X4_lies [.ref l0, .int l4, .int l1] h (oI (fun v4 h3 => ((v4 = 0) → w_X4_plankOf_99 g d l0 l1 l3 l4 h3 Q) ∧ ((¬ v4 = 0) → w_X4_plankOf_99 g d l0 l1 (l3 ||| ((1 : Int32) <<< (l4 &&& 31))) l4 h3 Q)) (fun r hx => Q (.inr r) hx)))
theorem v_X4_plankOf_76 {g : PG} {d : Nat} {l0 : Nat} {l1 : Int32} {l3 : Int32} {l4 : Int32} {h : PH} {Q : Out → PH → Prop} (H : w_X4_plankOf_76 g d l0 l1 l3 l4 h Q) : R g d m_X4_plankOf 76 [.ref l0, .int l1, .null, .int l3, .int l4] [] h Q := by
  refine r_iload dX4_plankOf_76 rfl ?_
  refine r_iconst dX4_plankOf_78 rfl ?_
  refine r_icmp_ge (tgt := 105) dX4_plankOf_79 rfl (fun b1 => ?_) (fun b1 => ?_)
  · replace H := H.1 b1
    refine r_iload_n dX4_plankOf_105 rfl rfl ?_
    exact r_iret dX4_plankOf_106 rfl H
  · replace H := H.2 b1
    refine r_aload_n dX4_plankOf_82 rfl rfl ?_
    refine r_iload dX4_plankOf_83 rfl ?_
    refine r_iload_n dX4_plankOf_85 rfl rfl ?_
    obtain ⟨k2, H⟩ := H
    refine r_invV (y := m_X4_lies) dX4_plankOf_86 rfl (lw_V q3404 q3406 qp87 q122 q3407) py_X4_lies (Nat.le_of_ble_eq_true rfl) (args := [_, _]) rfl rfl (Nat.le_of_ble_eq_true rfl) k2 (by decide) rfl (C.monoE H (fun o h3 _ x5 K => cont_I K (fun v4 H => ?_) (fun r HX => XR_nc rfl HX)))
    refine r_if_eq (tgt := 99) dX4_plankOf_89 rfl (fun b6 => ?_) (fun b6 => ?_)
    · replace H := H.1 b6
      exact v_X4_plankOf_99 H
    · replace H := H.2 b6
      refine r_iload_n dX4_plankOf_92 rfl rfl ?_
      refine r_iconst dX4_plankOf_93 rfl ?_
      refine r_iload dX4_plankOf_94 rfl ?_
      refine r_ishl dX4_plankOf_96 ?_
      refine r_ior dX4_plankOf_97 ?_
      refine r_istore_n dX4_plankOf_98 rfl (Nat.le_of_ble_eq_true rfl) rfl (slS (slS (slS sl0))) ?_
      exact v_X4_plankOf_99 H
abbrev w_X4_plankOf_60 (g : PG) (d : Nat) (l0 : Nat) (l1 : Int32) (l2 : Int32) (h : PH) (Q : Out → PH → Prop) : Prop := hkd h l0 = 12 ∧ hkd h (hG h 521 l0) / 100 = 1 ∧ vp_in (((3 : Int32) + ((3 : Int32) * l1)) + l2) (hln h (hG h 521 l0)) ∧ Q (.inl (some (.int (hA h (hG h 521 l0) (((3 : Int32) + ((3 : Int32) * l1)) + l2).toNatClampNeg)))) h
theorem v_X4_plankOf_60 {g : PG} {d : Nat} {l0 : Nat} {l1 : Int32} {l2 : Int32} {h : PH} {Q : Out → PH → Prop} (H : w_X4_plankOf_60 g d l0 l1 l2 h Q) : R g d m_X4_plankOf 60 [.ref l0, .int l1, .int l2, .null, .null] [] h Q := by
  refine r_aload_n dX4_plankOf_60 rfl rfl ?_
  obtain ⟨k1, H⟩ := H
  refine r_getG fr_X4_9_12 (by decide) dX4_plankOf_61 k1 (by decide) ?_
  refine r_iconst dX4_plankOf_64 rfl ?_
  refine r_iconst dX4_plankOf_65 rfl ?_
  refine r_iload_n dX4_plankOf_66 rfl rfl ?_
  refine r_imul dX4_plankOf_67 ?_
  refine r_iadd dX4_plankOf_68 ?_
  refine r_iload_n dX4_plankOf_69 rfl rfl ?_
  refine r_iadd dX4_plankOf_70 ?_
  obtain ⟨k2, H⟩ := H
  obtain ⟨k3, H⟩ := H
  refine r_iald dX4_plankOf_71 k2 k3 ?_
  exact r_iret dX4_plankOf_72 rfl H
abbrev w_X4_plankOf_0 (g : PG) (d : Nat) (l0 : Nat) (l1 : Int32) (l2 : Int32) (h : PH) (Q : Out → PH → Prop) : Prop := hkd h l0 = 12 ∧ ∀ h2, h2 = setF 33 l0 (0 : Int32) h → C g d m_X4_in [.int l1, .int 0, .int 11] h2 (oI (fun v4 h3 => ((¬ v4 = 0) → (l2 = 0 → w_X4_plankOf_60 g d l0 l1 l2 h3 Q) ∧ (l2 = 1 → w_X4_plankOf_60 g d l0 l1 l2 h3 Q) ∧ (l2 = 2 → w_X4_plankOf_60 g d l0 l1 l2 h3 Q) ∧ (l2 = 3 → R g d m_X4_plankOf 76 [.ref l0, .int l1, .null, .int 0, .int 0] [] h3 Q) ∧ (l2 = 4 → R g d m_X4_plankOf 110 [.ref l0, .int l1, .null, .int 0, .int 0] [] h3 Q) ∧ (¬ l2 = 0 → ¬ l2 = 1 → ¬ l2 = 2 → ¬ l2 = 3 → ¬ l2 = 4 → C g d m_X4_raises [.ref l0, .int 2] h3 (oI (fun v13 h12 => Q (.inl (some (.int v13))) h12) (fun r hx => Q (.inr r) hx)))) ∧ ((v4 = 0) → C g d m_X4_raises [.ref l0, .int 1] h3 (oI (fun v16 h15 => Q (.inl (some (.int v16))) h15) (fun r hx => Q (.inr r) hx)))) (fun r hx => Q (.inr r) hx))
theorem v_X4_plankOf_0 {g : PG} {d : Nat} {l0 : Nat} {l1 : Int32} {l2 : Int32} {h : PH} {Q : Out → PH → Prop} (H : w_X4_plankOf_0 g d l0 l1 l2 h Q) : R g d m_X4_plankOf 0 [.ref l0, .int l1, .int l2, .null, .null] [] h Q := by
  refine r_aload_n dX4_plankOf_0 rfl rfl ?_
  refine r_iconst dX4_plankOf_1 rfl ?_
  obtain ⟨k1, H⟩ := H
  replace H := H _ rfl
  refine r_putF fw_X4_44_12 (by decide) dX4_plankOf_2 k1 (by decide) rfl rfl ?_
  refine r_iload_n dX4_plankOf_5 rfl rfl ?_
  refine r_iconst dX4_plankOf_6 rfl ?_
  refine r_bipush dX4_plankOf_7 rfl ?_
  refine r_invS (y := m_X4_in) dX4_plankOf_9 rfl (lw_S q3315 q3316 q122 q3317) py_X4_in (Nat.le_of_ble_eq_true rfl) (args := [_, _, _]) rfl rfl (Nat.le_of_ble_eq_true rfl) (C.monoE H (fun o h3 _ x5 K => cont_I K (fun v4 H => ?_) (fun r HX => XR_nc rfl HX)))
  refine r_if_ne (tgt := 21) dX4_plankOf_12 rfl (fun b6 => ?_) (fun b6 => ?_)
  · replace H := H.1 b6
    refine r_iconst dX4_plankOf_21 rfl ?_
    refine r_istore_n dX4_plankOf_22 rfl (Nat.le_of_ble_eq_true rfl) rfl (slS (slS (slS sl0))) ?_
    refine r_iload_n dX4_plankOf_23 rfl rfl ?_
    refine R.tri (k9 := 0) (fun b7 => ?_) (fun b7 => ?_)
    · replace H := H.1 b7
      refine r_tableIn (tgt := 60) dX4_plankOf_24 (by rw [b7]; decide) (by rw [b7]; decide) (by rw [b7]; first | done | rfl) rfl ?_
      exact R.forget (v_X4_plankOf_60 H) ⟨Or.inl rfl, ⟨Or.inl rfl, ⟨Or.inl rfl, ⟨Or.inr rfl, ⟨Or.inl rfl, trivial⟩⟩⟩⟩⟩
    replace H := H.2
    refine R.tri (k9 := 1) (fun b8 => ?_) (fun b8 => ?_)
    · replace H := H.1 b8
      refine r_tableIn (tgt := 60) dX4_plankOf_24 (by rw [b8]; decide) (by rw [b8]; decide) (by rw [b8]; first | done | rfl) rfl ?_
      exact R.forget (v_X4_plankOf_60 H) ⟨Or.inl rfl, ⟨Or.inl rfl, ⟨Or.inl rfl, ⟨Or.inr rfl, ⟨Or.inl rfl, trivial⟩⟩⟩⟩⟩
    replace H := H.2
    refine R.tri (k9 := 2) (fun b9 => ?_) (fun b9 => ?_)
    · replace H := H.1 b9
      refine r_tableIn (tgt := 60) dX4_plankOf_24 (by rw [b9]; decide) (by rw [b9]; decide) (by rw [b9]; first | done | rfl) rfl ?_
      exact R.forget (v_X4_plankOf_60 H) ⟨Or.inl rfl, ⟨Or.inl rfl, ⟨Or.inl rfl, ⟨Or.inr rfl, ⟨Or.inl rfl, trivial⟩⟩⟩⟩⟩
    replace H := H.2
    refine R.tri (k9 := 3) (fun b10 => ?_) (fun b10 => ?_)
    · replace H := H.1 b10
      refine r_tableIn (tgt := 73) dX4_plankOf_24 (by rw [b10]; decide) (by rw [b10]; decide) (by rw [b10]; first | done | rfl) rfl ?_
      refine r_iconst dX4_plankOf_73 rfl ?_
      refine r_istore dX4_plankOf_74 (Nat.le_of_ble_eq_true rfl) rfl (slS (slS (slS (slS sl0)))) ?_
      exact R.forget H ⟨Or.inl rfl, ⟨Or.inl rfl, ⟨Or.inr rfl, ⟨Or.inl rfl, ⟨Or.inl rfl, trivial⟩⟩⟩⟩⟩
    replace H := H.2
    refine R.tri (k9 := 4) (fun b11 => ?_) (fun b11 => ?_)
    · replace H := H.1 b11
      refine r_tableIn (tgt := 107) dX4_plankOf_24 (by rw [b11]; decide) (by rw [b11]; decide) (by rw [b11]; first | done | rfl) rfl ?_
      refine r_iconst dX4_plankOf_107 rfl ?_
      refine r_istore dX4_plankOf_108 (Nat.le_of_ble_eq_true rfl) rfl (slS (slS (slS (slS sl0)))) ?_
      exact R.forget H ⟨Or.inl rfl, ⟨Or.inl rfl, ⟨Or.inr rfl, ⟨Or.inl rfl, ⟨Or.inl rfl, trivial⟩⟩⟩⟩⟩
    replace H := H.2
    replace H := H b7 b8 b9 b10 b11
    refine r_tableOut (tgt := 153) dX4_plankOf_24 (tabOut (lo := 0) (n := 5) rfl (fun i hi => match i, hi with | 0, _ => b7 | 1, _ => b8 | 2, _ => b9 | 3, _ => b10 | 4, _ => b11 | k + 5, hi => absurd hi (by omega))) rfl ?_
    refine r_aload_n dX4_plankOf_153 rfl rfl ?_
    refine r_iconst dX4_plankOf_154 rfl ?_
    refine r_invV (y := m_X4_raises) dX4_plankOf_155 rfl (lw_V q3346 q3348 qp76 q122 q3349) py_X4_raises (Nat.le_of_ble_eq_true rfl) (args := [_]) rfl rfl (Nat.le_of_ble_eq_true rfl) (x5.kd k1 (by decide)) (by decide) rfl (C.monoE H (fun o h12 _ x14 K => cont_I K (fun v13 H => ?_) (fun r HX => XR_nc rfl HX)))
    exact r_iret dX4_plankOf_158 rfl H
  · replace H := H.2 b6
    refine r_aload_n dX4_plankOf_15 rfl rfl ?_
    refine r_iconst dX4_plankOf_16 rfl ?_
    refine r_invV (y := m_X4_raises) dX4_plankOf_17 rfl (lw_V q3346 q3348 qp76 q122 q3349) py_X4_raises (Nat.le_of_ble_eq_true rfl) (args := [_]) rfl rfl (Nat.le_of_ble_eq_true rfl) (x5.kd k1 (by decide)) (by decide) rfl (C.monoE H (fun o h15 _ x17 K => cont_I K (fun v16 H => ?_) (fun r HX => XR_nc rfl HX)))
    exact r_iret dX4_plankOf_20 rfl H
theorem c_X4_plankOf_0 {g : PG} {d : Nat} {l0 : Nat} {l1 : Int32} {l2 : Int32} {h : PH} {Q : Out → PH → Prop} (H : w_X4_plankOf_0 g d l0 l1 l2 h Q) : C g (d + 1) m_X4_plankOf [.ref l0, .int l1, .int l2] h Q := C_of_R rfl rfl (Nat.le_of_ble_eq_true rfl) rfl (v_X4_plankOf_0 H)
abbrev w_X4_snowmanOf_0 (g : PG) (d : Nat) (l0 : Nat) (l1 : Int32) (l2 : Int32) (h : PH) (Q : Out → PH → Prop) : Prop := hkd h l0 = 12 ∧ ∀ h2, h2 = setF 33 l0 (0 : Int32) h → C g d m_X4_isMan [.ref l0, .int l1] h2 (oI (fun v4 h3 => ((¬ v4 = 0) → (l2 = 4 → C g d m_X4_hasHat [.ref l0, .int l1] h3 (oI (fun v9 h8 => ((v9 = 0) → Q (.inl (some (.int 0))) h8) ∧ ((¬ v9 = 0) → Q (.inl (some (.int 1))) h8)) (fun r hx => Q (.inr r) hx))) ∧ (l2 = 5 → C g d m_X4_of [.ref l0, .int l1, .int 4] h3 (oI (fun v14 h13 => Q (.inl (some (.int v14))) h13) (fun r hx => Q (.inr r) hx))) ∧ (l2 = 6 → C g d m_X4_of [.ref l0, .int l1, .int 5] h3 (oI (fun v18 h17 => Q (.inl (some (.int v18))) h17) (fun r hx => Q (.inr r) hx))) ∧ (¬ l2 = 4 → ¬ l2 = 5 → ¬ l2 = 6 → C g d m_X4_in [.int l2, .int 0, .int 3] h3 (oI (fun v21 h20 => ((v21 = 0) → C g d m_X4_raises [.ref l0, .int 2] h20 (oI (fun v25 h24 => Q (.inl (some (.int v25))) h24) (fun r hx => Q (.inr r) hx))) ∧ ((¬ v21 = 0) → C g d m_X4_of [.ref l0, .int l1, .int l2] h20 (oI (fun v28 h27 => Q (.inl (some (.int v28))) h27) (fun r hx => Q (.inr r) hx)))) (fun r hx => Q (.inr r) hx)))) ∧ ((v4 = 0) → C g d m_X4_raises [.ref l0, .int 1] h3 (oI (fun v31 h30 => Q (.inl (some (.int v31))) h30) (fun r hx => Q (.inr r) hx)))) (fun r hx => Q (.inr r) hx))
theorem v_X4_snowmanOf_0 {g : PG} {d : Nat} {l0 : Nat} {l1 : Int32} {l2 : Int32} {h : PH} {Q : Out → PH → Prop} (H : w_X4_snowmanOf_0 g d l0 l1 l2 h Q) : R g d m_X4_snowmanOf 0 [.ref l0, .int l1, .int l2] [] h Q := by
  refine r_aload_n dX4_snowmanOf_0 rfl rfl ?_
  refine r_iconst dX4_snowmanOf_1 rfl ?_
  obtain ⟨k1, H⟩ := H
  replace H := H _ rfl
  refine r_putF fw_X4_44_12 (by decide) dX4_snowmanOf_2 k1 (by decide) rfl rfl ?_
  refine r_aload_n dX4_snowmanOf_5 rfl rfl ?_
  refine r_iload_n dX4_snowmanOf_6 rfl rfl ?_
  refine r_invV (y := m_X4_isMan) dX4_snowmanOf_7 rfl (lw_V q3358 q3360 qp78 q122 q3361) py_X4_isMan (Nat.le_of_ble_eq_true rfl) (args := [_]) rfl rfl (Nat.le_of_ble_eq_true rfl) k1 (by decide) rfl (C.monoE H (fun o h3 _ x5 K => cont_I K (fun v4 H => ?_) (fun r HX => XR_nc rfl HX)))
  refine r_if_ne (tgt := 19) dX4_snowmanOf_10 rfl (fun b6 => ?_) (fun b6 => ?_)
  · replace H := H.1 b6
    refine r_iload_n dX4_snowmanOf_19 rfl rfl ?_
    refine R.tri (k9 := 4) (fun b7 => ?_) (fun b7 => ?_)
    · replace H := H.1 b7
      refine r_tableIn (tgt := 48) dX4_snowmanOf_20 (by rw [b7]; decide) (by rw [b7]; decide) (by rw [b7]; first | done | rfl) rfl ?_
      refine r_aload_n dX4_snowmanOf_48 rfl rfl ?_
      refine r_iload_n dX4_snowmanOf_49 rfl rfl ?_
      refine r_invV (y := m_X4_hasHat) dX4_snowmanOf_50 rfl (lw_V q3366 q3368 qp80 q122 q3369) py_X4_hasHat (Nat.le_of_ble_eq_true rfl) (args := [_]) rfl rfl (Nat.le_of_ble_eq_true rfl) (x5.kd k1 (by decide)) (by decide) rfl (C.monoE H (fun o h8 _ x10 K => cont_I K (fun v9 H => ?_) (fun r HX => XR_nc rfl HX)))
      refine r_if_eq (tgt := 60) dX4_snowmanOf_53 rfl (fun b11 => ?_) (fun b11 => ?_)
      · replace H := H.1 b11
        refine r_iconst dX4_snowmanOf_60 rfl ?_
        exact r_iret dX4_snowmanOf_61 rfl H
      · replace H := H.2 b11
        refine r_iconst dX4_snowmanOf_56 rfl ?_
        refine r_goto (tgt := 61) dX4_snowmanOf_57 rfl ?_
        exact r_iret dX4_snowmanOf_61 rfl H
    replace H := H.2
    refine R.tri (k9 := 5) (fun b12 => ?_) (fun b12 => ?_)
    · replace H := H.1 b12
      refine r_tableIn (tgt := 62) dX4_snowmanOf_20 (by rw [b12]; decide) (by rw [b12]; decide) (by rw [b12]; first | done | rfl) rfl ?_
      refine r_aload_n dX4_snowmanOf_62 rfl rfl ?_
      refine r_iload_n dX4_snowmanOf_63 rfl rfl ?_
      refine r_iconst dX4_snowmanOf_64 rfl ?_
      refine r_invV (y := m_X4_of) dX4_snowmanOf_65 rfl (lw_V q3362 q3364 qp79 q122 q3365) py_X4_of (Nat.le_of_ble_eq_true rfl) (args := [_, _]) rfl rfl (Nat.le_of_ble_eq_true rfl) (x5.kd k1 (by decide)) (by decide) rfl (C.monoE H (fun o h13 _ x15 K => cont_I K (fun v14 H => ?_) (fun r HX => XR_nc rfl HX)))
      exact r_iret dX4_snowmanOf_68 rfl H
    replace H := H.2
    refine R.tri (k9 := 6) (fun b16 => ?_) (fun b16 => ?_)
    · replace H := H.1 b16
      refine r_tableIn (tgt := 69) dX4_snowmanOf_20 (by rw [b16]; decide) (by rw [b16]; decide) (by rw [b16]; first | done | rfl) rfl ?_
      refine r_aload_n dX4_snowmanOf_69 rfl rfl ?_
      refine r_iload_n dX4_snowmanOf_70 rfl rfl ?_
      refine r_iconst dX4_snowmanOf_71 rfl ?_
      refine r_invV (y := m_X4_of) dX4_snowmanOf_72 rfl (lw_V q3362 q3364 qp79 q122 q3365) py_X4_of (Nat.le_of_ble_eq_true rfl) (args := [_, _]) rfl rfl (Nat.le_of_ble_eq_true rfl) (x5.kd k1 (by decide)) (by decide) rfl (C.monoE H (fun o h17 _ x19 K => cont_I K (fun v18 H => ?_) (fun r HX => XR_nc rfl HX)))
      exact r_iret dX4_snowmanOf_75 rfl H
    replace H := H.2
    replace H := H b7 b12 b16
    refine r_tableOut (tgt := 76) dX4_snowmanOf_20 (tabOut (lo := 4) (n := 3) rfl (fun i hi => match i, hi with | 0, _ => b7 | 1, _ => b12 | 2, _ => b16 | k + 3, hi => absurd hi (by omega))) rfl ?_
    refine r_iload_n dX4_snowmanOf_76 rfl rfl ?_
    refine r_iconst dX4_snowmanOf_77 rfl ?_
    refine r_iconst dX4_snowmanOf_78 rfl ?_
    refine r_invS (y := m_X4_in) dX4_snowmanOf_79 rfl (lw_S q3315 q3316 q122 q3317) py_X4_in (Nat.le_of_ble_eq_true rfl) (args := [_, _, _]) rfl rfl (Nat.le_of_ble_eq_true rfl) (C.monoE H (fun o h20 _ x22 K => cont_I K (fun v21 H => ?_) (fun r HX => XR_nc rfl HX)))
    refine r_if_eq (tgt := 94) dX4_snowmanOf_82 rfl (fun b23 => ?_) (fun b23 => ?_)
    · replace H := H.1 b23
      refine r_aload_n dX4_snowmanOf_94 rfl rfl ?_
      refine r_iconst dX4_snowmanOf_95 rfl ?_
      refine r_invV (y := m_X4_raises) dX4_snowmanOf_96 rfl (lw_V q3346 q3348 qp76 q122 q3349) py_X4_raises (Nat.le_of_ble_eq_true rfl) (args := [_]) rfl rfl (Nat.le_of_ble_eq_true rfl) (x22.kd (x5.kd k1 (by decide)) (by decide)) (by decide) rfl (C.monoE H (fun o h24 _ x26 K => cont_I K (fun v25 H => ?_) (fun r HX => XR_nc rfl HX)))
      exact r_iret dX4_snowmanOf_99 rfl H
    · replace H := H.2 b23
      refine r_aload_n dX4_snowmanOf_85 rfl rfl ?_
      refine r_iload_n dX4_snowmanOf_86 rfl rfl ?_
      refine r_iload_n dX4_snowmanOf_87 rfl rfl ?_
      refine r_invV (y := m_X4_of) dX4_snowmanOf_88 rfl (lw_V q3362 q3364 qp79 q122 q3365) py_X4_of (Nat.le_of_ble_eq_true rfl) (args := [_, _]) rfl rfl (Nat.le_of_ble_eq_true rfl) (x22.kd (x5.kd k1 (by decide)) (by decide)) (by decide) rfl (C.monoE H (fun o h27 _ x29 K => cont_I K (fun v28 H => ?_) (fun r HX => XR_nc rfl HX)))
      refine r_goto (tgt := 99) dX4_snowmanOf_91 rfl ?_
      exact r_iret dX4_snowmanOf_99 rfl H
  · replace H := H.2 b6
    refine r_aload_n dX4_snowmanOf_13 rfl rfl ?_
    refine r_iconst dX4_snowmanOf_14 rfl ?_
    refine r_invV (y := m_X4_raises) dX4_snowmanOf_15 rfl (lw_V q3346 q3348 qp76 q122 q3349) py_X4_raises (Nat.le_of_ble_eq_true rfl) (args := [_]) rfl rfl (Nat.le_of_ble_eq_true rfl) (x5.kd k1 (by decide)) (by decide) rfl (C.monoE H (fun o h30 _ x32 K => cont_I K (fun v31 H => ?_) (fun r HX => XR_nc rfl HX)))
    exact r_iret dX4_snowmanOf_18 rfl H
theorem c_X4_snowmanOf_0 {g : PG} {d : Nat} {l0 : Nat} {l1 : Int32} {l2 : Int32} {h : PH} {Q : Out → PH → Prop} (H : w_X4_snowmanOf_0 g d l0 l1 l2 h Q) : C g (d + 1) m_X4_snowmanOf [.ref l0, .int l1, .int l2] h Q := C_of_R rfl rfl (Nat.le_of_ble_eq_true rfl) rfl (v_X4_snowmanOf_0 H)
abbrev w_X4_teamOf_169 (g : PG) (d : Nat) (l0 : Nat) (l1 : Int32) (l3 : Int32) (l4 : Int32) (h : PH) (Q : Out → PH → Prop) : Prop := R g d m_X4_teamOf 137 [.ref l0, .int l1, .null, .int l3, .int (l4 + 1)] [] h Q
theorem v_X4_teamOf_169 {g : PG} {d : Nat} {l0 : Nat} {l1 : Int32} {l3 : Int32} {l4 : Int32} {h : PH} {Q : Out → PH → Prop} (H : w_X4_teamOf_169 g d l0 l1 l3 l4 h Q) : R g d m_X4_teamOf 169 [.ref l0, .int l1, .null, .int l3, .int l4] [] h Q := by
  refine r_iinc dX4_teamOf_169 rfl rfl (Nat.le_of_ble_eq_true rfl) rfl (slS (slS (slS (slS sl0)))) ?_
  refine r_goto (tgt := 137) dX4_teamOf_172 rfl ?_
  exact H
abbrev w_X4_teamOf_137 (g : PG) (d : Nat) (l0 : Nat) (l1 : Int32) (l3 : Int32) (l4 : Int32) (h : PH) (Q : Out → PH → Prop) : Prop := hkd h l0 = 12 ∧ hkd h (hG h 521 l0) / 100 = 1 ∧ vp_in (0 : Int32) (hln h (hG h 521 l0)) ∧ (((hA h (hG h 521 l0) (0 : Int32).toNatClampNeg) ≤ l4) → Q (.inl (some (.int l3))) h) ∧ ((¬ (hA h (hG h 521 l0) (0 : Int32).toNatClampNeg) ≤ l4) → C g d m_X4_of [.ref l0, .int l4, .int 0] h (oI (fun v6 h5 => ((¬ v6 = l1) → w_X4_teamOf_169 g d l0 l1 l3 l4 h5 Q) ∧ ((v6 = l1) → C g d m_X4_of [.ref l0, .int l4, .int 2] h5 (oI (fun v10 h9 => w_X4_teamOf_169 g d l0 l1 (l3 + v10) l4 h9 Q) (fun r hx => Q (.inr r) hx)))) (fun r hx => Q (.inr r) hx)))
theorem v_X4_teamOf_137 {g : PG} {d : Nat} {l0 : Nat} {l1 : Int32} {l3 : Int32} {l4 : Int32} {h : PH} {Q : Out → PH → Prop} (H : w_X4_teamOf_137 g d l0 l1 l3 l4 h Q) : R g d m_X4_teamOf 137 [.ref l0, .int l1, .null, .int l3, .int l4] [] h Q := by
  refine r_iload dX4_teamOf_137 rfl ?_
  refine r_aload_n dX4_teamOf_139 rfl rfl ?_
  obtain ⟨k1, H⟩ := H
  refine r_getG fr_X4_9_12 (by decide) dX4_teamOf_140 k1 (by decide) ?_
  refine r_iconst dX4_teamOf_143 rfl ?_
  obtain ⟨k2, H⟩ := H
  obtain ⟨k3, H⟩ := H
  refine r_iald dX4_teamOf_144 k2 k3 ?_
  refine r_icmp_ge (tgt := 175) dX4_teamOf_145 rfl (fun b4 => ?_) (fun b4 => ?_)
  · replace H := H.1 b4
    refine r_iload_n dX4_teamOf_175 rfl rfl ?_
    exact r_iret dX4_teamOf_176 rfl H
  · replace H := H.2 b4
    refine r_aload_n dX4_teamOf_148 rfl rfl ?_
    refine r_iload dX4_teamOf_149 rfl ?_
    refine r_iconst dX4_teamOf_151 rfl ?_
    refine r_invV (y := m_X4_of) dX4_teamOf_152 rfl (lw_V q3362 q3364 qp79 q122 q3365) py_X4_of (Nat.le_of_ble_eq_true rfl) (args := [_, _]) rfl rfl (Nat.le_of_ble_eq_true rfl) k1 (by decide) rfl (C.monoE H (fun o h5 _ x7 K => cont_I K (fun v6 H => ?_) (fun r HX => XR_nc rfl HX)))
    refine r_iload_n dX4_teamOf_155 rfl rfl ?_
    refine r_icmp_ne (tgt := 169) dX4_teamOf_156 rfl (fun b8 => ?_) (fun b8 => ?_)
    · replace H := H.1 b8
      exact v_X4_teamOf_169 H
    · replace H := H.2 b8
      refine r_iload_n dX4_teamOf_159 rfl rfl ?_
      refine r_aload_n dX4_teamOf_160 rfl rfl ?_
      refine r_iload dX4_teamOf_161 rfl ?_
      refine r_iconst dX4_teamOf_163 rfl ?_
      refine r_invV (y := m_X4_of) dX4_teamOf_164 rfl (lw_V q3362 q3364 qp79 q122 q3365) py_X4_of (Nat.le_of_ble_eq_true rfl) (args := [_, _]) rfl rfl (Nat.le_of_ble_eq_true rfl) (x7.kd k1 (by decide)) (by decide) rfl (C.monoE H (fun o h9 _ x11 K => cont_I K (fun v10 H => ?_) (fun r HX => XR_nc rfl HX)))
      refine r_iadd dX4_teamOf_167 ?_
      refine r_istore_n dX4_teamOf_168 rfl (Nat.le_of_ble_eq_true rfl) rfl (slS (slS (slS sl0))) ?_
      exact v_X4_teamOf_169 H
abbrev w_X4_teamOf_98 (g : PG) (d : Nat) (l0 : Nat) (l1 : Int32) (l3 : Int32) (l4 : Int32) (h : PH) (Q : Out → PH → Prop) : Prop := R g d m_X4_teamOf 63 [.ref l0, .int l1, .null, .int l3, .int (l4 + 1)] [] h Q
theorem v_X4_teamOf_98 {g : PG} {d : Nat} {l0 : Nat} {l1 : Int32} {l3 : Int32} {l4 : Int32} {h : PH} {Q : Out → PH → Prop} (H : w_X4_teamOf_98 g d l0 l1 l3 l4 h Q) : R g d m_X4_teamOf 98 [.ref l0, .int l1, .null, .int l3, .int l4] [] h Q := by
  refine r_iinc dX4_teamOf_98 rfl rfl (Nat.le_of_ble_eq_true rfl) rfl (slS (slS (slS (slS sl0)))) ?_
  refine r_goto (tgt := 63) dX4_teamOf_101 rfl ?_
  exact H
abbrev w_X4_teamOf_63 (g : PG) (d : Nat) (l0 : Nat) (l1 : Int32) (l3 : Int32) (l4 : Int32) (h : PH) (Q : Out → PH → Prop) : Prop := hkd h l0 = 12 ∧ hkd h (hG h 521 l0) / 100 = 1 ∧ vp_in (0 : Int32) (hln h (hG h 521 l0)) ∧ (((hA h (hG h 521 l0) (0 : Int32).toNatClampNeg) ≤ l4) → Q (.inl (some (.int l3))) h) ∧ ((¬ (hA h (hG h 521 l0) (0 : Int32).toNatClampNeg) ≤ l4) → C g d m_X4_of [.ref l0, .int l4, .int 0] h (oI (fun v6 h5 => ((¬ v6 = l1) → w_X4_teamOf_98 g d l0 l1 l3 l4 h5 Q) ∧ ((v6 = l1) → C g d m_X4_of [.ref l0, .int l4, .int 2] h5 (oI (fun v10 h9 => ((v10 ≤ 0) → w_X4_teamOf_98 g d l0 l1 l3 l4 h9 Q) ∧ ((¬ v10 ≤ 0) → w_X4_teamOf_98 g d l0 l1 (l3 + 1) l4 h9 Q)) (fun r hx => Q (.inr r) hx)))) (fun r hx => Q (.inr r) hx)))
theorem v_X4_teamOf_63 {g : PG} {d : Nat} {l0 : Nat} {l1 : Int32} {l3 : Int32} {l4 : Int32} {h : PH} {Q : Out → PH → Prop} (H : w_X4_teamOf_63 g d l0 l1 l3 l4 h Q) : R g d m_X4_teamOf 63 [.ref l0, .int l1, .null, .int l3, .int l4] [] h Q := by
  refine r_iload dX4_teamOf_63 rfl ?_
  refine r_aload_n dX4_teamOf_65 rfl rfl ?_
  obtain ⟨k1, H⟩ := H
  refine r_getG fr_X4_9_12 (by decide) dX4_teamOf_66 k1 (by decide) ?_
  refine r_iconst dX4_teamOf_69 rfl ?_
  obtain ⟨k2, H⟩ := H
  obtain ⟨k3, H⟩ := H
  refine r_iald dX4_teamOf_70 k2 k3 ?_
  refine r_icmp_ge (tgt := 104) dX4_teamOf_71 rfl (fun b4 => ?_) (fun b4 => ?_)
  · replace H := H.1 b4
    refine r_iload_n dX4_teamOf_104 rfl rfl ?_
    exact r_iret dX4_teamOf_105 rfl H
  · replace H := H.2 b4
    refine r_aload_n dX4_teamOf_74 rfl rfl ?_
    refine r_iload dX4_teamOf_75 rfl ?_
    refine r_iconst dX4_teamOf_77 rfl ?_
    refine r_invV (y := m_X4_of) dX4_teamOf_78 rfl (lw_V q3362 q3364 qp79 q122 q3365) py_X4_of (Nat.le_of_ble_eq_true rfl) (args := [_, _]) rfl rfl (Nat.le_of_ble_eq_true rfl) k1 (by decide) rfl (C.monoE H (fun o h5 _ x7 K => cont_I K (fun v6 H => ?_) (fun r HX => XR_nc rfl HX)))
    refine r_iload_n dX4_teamOf_81 rfl rfl ?_
    refine r_icmp_ne (tgt := 98) dX4_teamOf_82 rfl (fun b8 => ?_) (fun b8 => ?_)
    · replace H := H.1 b8
      exact v_X4_teamOf_98 H
    · replace H := H.2 b8
      refine r_aload_n dX4_teamOf_85 rfl rfl ?_
      refine r_iload dX4_teamOf_86 rfl ?_
      refine r_iconst dX4_teamOf_88 rfl ?_
      refine r_invV (y := m_X4_of) dX4_teamOf_89 rfl (lw_V q3362 q3364 qp79 q122 q3365) py_X4_of (Nat.le_of_ble_eq_true rfl) (args := [_, _]) rfl rfl (Nat.le_of_ble_eq_true rfl) (x7.kd k1 (by decide)) (by decide) rfl (C.monoE H (fun o h9 _ x11 K => cont_I K (fun v10 H => ?_) (fun r HX => XR_nc rfl HX)))
      refine r_if_le (tgt := 98) dX4_teamOf_92 rfl (fun b12 => ?_) (fun b12 => ?_)
      · replace H := H.1 b12
        exact v_X4_teamOf_98 H
      · replace H := H.2 b12
        refine r_iinc dX4_teamOf_95 rfl rfl (Nat.le_of_ble_eq_true rfl) rfl (slS (slS (slS sl0))) ?_
        exact v_X4_teamOf_98 H
abbrev w_X4_teamOf_0 (g : PG) (d : Nat) (l0 : Nat) (l1 : Int32) (l2 : Int32) (h : PH) (Q : Out → PH → Prop) : Prop := hkd h l0 = 12 ∧ ∀ h2, h2 = setF 33 l0 (0 : Int32) h → C g d m_X4_in [.int l1, .int 0, .int 2] h2 (oI (fun v4 h3 => ((¬ v4 = 0) → (l2 = 0 → R g d m_X4_teamOf 63 [.ref l0, .int l1, .null, .int 0, .int 0] [] h3 Q) ∧ (l2 = 1 → C g d m_X4_wearer [.ref l0, .int l1] h3 (oI (fun v10 h9 => Q (.inl (some (.int v10))) h9) (fun r hx => Q (.inr r) hx))) ∧ (l2 = 2 → C g d m_X4_place [.ref l0, .int l1] h3 (oI (fun v14 h13 => Q (.inl (some (.int v14))) h13) (fun r hx => Q (.inr r) hx))) ∧ (l2 = 3 → hkd h3 (hG h3 521 l0) / 100 = 1 ∧ vp_in (((39 : Int32) + ((3 : Int32) * l1)) + (1 : Int32)) (hln h3 (hG h3 521 l0)) ∧ Q (.inl (some (.int ((hA h3 (hG h3 521 l0) (((39 : Int32) + ((3 : Int32) * l1)) + (1 : Int32)).toNatClampNeg) - (1 : Int32))))) h3) ∧ (l2 = 4 → R g d m_X4_teamOf 137 [.ref l0, .int l1, .null, .int 0, .int 0] [] h3 Q) ∧ (l2 = 5 → hkd h3 (hG h3 521 l0) / 100 = 1 ∧ vp_in (((39 : Int32) + ((3 : Int32) * l1)) + (2 : Int32)) (hln h3 (hG h3 521 l0)) ∧ Q (.inl (some (.int (hA h3 (hG h3 521 l0) (((39 : Int32) + ((3 : Int32) * l1)) + (2 : Int32)).toNatClampNeg)))) h3) ∧ (¬ l2 = 0 → ¬ l2 = 1 → ¬ l2 = 2 → ¬ l2 = 3 → ¬ l2 = 4 → ¬ l2 = 5 → C g d m_X4_raises [.ref l0, .int 1] h3 (oI (fun v24 h23 => Q (.inl (some (.int v24))) h23) (fun r hx => Q (.inr r) hx)))) ∧ ((v4 = 0) → C g d m_X4_raises [.ref l0, .int 1] h3 (oI (fun v27 h26 => Q (.inl (some (.int v27))) h26) (fun r hx => Q (.inr r) hx)))) (fun r hx => Q (.inr r) hx))
theorem v_X4_teamOf_0 {g : PG} {d : Nat} {l0 : Nat} {l1 : Int32} {l2 : Int32} {h : PH} {Q : Out → PH → Prop} (H : w_X4_teamOf_0 g d l0 l1 l2 h Q) : R g d m_X4_teamOf 0 [.ref l0, .int l1, .int l2, .null, .null] [] h Q := by
  refine r_aload_n dX4_teamOf_0 rfl rfl ?_
  refine r_iconst dX4_teamOf_1 rfl ?_
  obtain ⟨k1, H⟩ := H
  replace H := H _ rfl
  refine r_putF fw_X4_44_12 (by decide) dX4_teamOf_2 k1 (by decide) rfl rfl ?_
  refine r_iload_n dX4_teamOf_5 rfl rfl ?_
  refine r_iconst dX4_teamOf_6 rfl ?_
  refine r_iconst dX4_teamOf_7 rfl ?_
  refine r_invS (y := m_X4_in) dX4_teamOf_8 rfl (lw_S q3315 q3316 q122 q3317) py_X4_in (Nat.le_of_ble_eq_true rfl) (args := [_, _, _]) rfl rfl (Nat.le_of_ble_eq_true rfl) (C.monoE H (fun o h3 _ x5 K => cont_I K (fun v4 H => ?_) (fun r HX => XR_nc rfl HX)))
  refine r_if_ne (tgt := 20) dX4_teamOf_11 rfl (fun b6 => ?_) (fun b6 => ?_)
  · replace H := H.1 b6
    refine r_iconst dX4_teamOf_20 rfl ?_
    refine r_istore_n dX4_teamOf_21 rfl (Nat.le_of_ble_eq_true rfl) rfl (slS (slS (slS sl0))) ?_
    refine r_iload_n dX4_teamOf_22 rfl rfl ?_
    refine R.tri (k9 := 0) (fun b7 => ?_) (fun b7 => ?_)
    · replace H := H.1 b7
      refine r_tableIn (tgt := 60) dX4_teamOf_23 (by rw [b7]; decide) (by rw [b7]; decide) (by rw [b7]; first | done | rfl) rfl ?_
      refine r_iconst dX4_teamOf_60 rfl ?_
      refine r_istore dX4_teamOf_61 (Nat.le_of_ble_eq_true rfl) rfl (slS (slS (slS (slS sl0)))) ?_
      exact R.forget H ⟨Or.inl rfl, ⟨Or.inl rfl, ⟨Or.inr rfl, ⟨Or.inl rfl, ⟨Or.inl rfl, trivial⟩⟩⟩⟩⟩
    replace H := H.2
    refine R.tri (k9 := 1) (fun b8 => ?_) (fun b8 => ?_)
    · replace H := H.1 b8
      refine r_tableIn (tgt := 106) dX4_teamOf_23 (by rw [b8]; decide) (by rw [b8]; decide) (by rw [b8]; first | done | rfl) rfl ?_
      refine r_aload_n dX4_teamOf_106 rfl rfl ?_
      refine r_iload_n dX4_teamOf_107 rfl rfl ?_
      refine r_invV (y := m_X4_wearer) dX4_teamOf_108 rfl (lw_V q3370 q3372 qp81 q122 q3373) py_X4_wearer (Nat.le_of_ble_eq_true rfl) (args := [_]) rfl rfl (Nat.le_of_ble_eq_true rfl) (x5.kd k1 (by decide)) (by decide) rfl (C.monoE H (fun o h9 _ x11 K => cont_I K (fun v10 H => ?_) (fun r HX => XR_nc rfl HX)))
      exact r_iret dX4_teamOf_111 rfl H
    replace H := H.2
    refine R.tri (k9 := 2) (fun b12 => ?_) (fun b12 => ?_)
    · replace H := H.1 b12
      refine r_tableIn (tgt := 112) dX4_teamOf_23 (by rw [b12]; decide) (by rw [b12]; decide) (by rw [b12]; first | done | rfl) rfl ?_
      refine r_aload_n dX4_teamOf_112 rfl rfl ?_
      refine r_iload_n dX4_teamOf_113 rfl rfl ?_
      refine r_invV (y := m_X4_place) dX4_teamOf_114 rfl (lw_V q3441 q3443 qp91 q122 q3444) py_X4_place (Nat.le_of_ble_eq_true rfl) (args := [_]) rfl rfl (Nat.le_of_ble_eq_true rfl) (x5.kd k1 (by decide)) (by decide) rfl (C.monoE H (fun o h13 _ x15 K => cont_I K (fun v14 H => ?_) (fun r HX => XR_nc rfl HX)))
      exact r_iret dX4_teamOf_117 rfl H
    replace H := H.2
    refine R.tri (k9 := 3) (fun b16 => ?_) (fun b16 => ?_)
    · replace H := H.1 b16
      refine r_tableIn (tgt := 118) dX4_teamOf_23 (by rw [b16]; decide) (by rw [b16]; decide) (by rw [b16]; first | done | rfl) rfl ?_
      refine r_aload_n dX4_teamOf_118 rfl rfl ?_
      refine r_getG fr_X4_9_12 (by decide) dX4_teamOf_119 (x5.kd k1 (by decide)) (by decide) ?_
      refine r_bipush dX4_teamOf_122 rfl ?_
      refine r_iconst dX4_teamOf_124 rfl ?_
      refine r_iload_n dX4_teamOf_125 rfl rfl ?_
      refine r_imul dX4_teamOf_126 ?_
      refine r_iadd dX4_teamOf_127 ?_
      refine r_iconst dX4_teamOf_128 rfl ?_
      refine r_iadd dX4_teamOf_129 ?_
      obtain ⟨k17, H⟩ := H
      obtain ⟨k18, H⟩ := H
      refine r_iald dX4_teamOf_130 k17 k18 ?_
      refine r_iconst dX4_teamOf_131 rfl ?_
      refine r_isub dX4_teamOf_132 ?_
      exact r_iret dX4_teamOf_133 rfl H
    replace H := H.2
    refine R.tri (k9 := 4) (fun b19 => ?_) (fun b19 => ?_)
    · replace H := H.1 b19
      refine r_tableIn (tgt := 134) dX4_teamOf_23 (by rw [b19]; decide) (by rw [b19]; decide) (by rw [b19]; first | done | rfl) rfl ?_
      refine r_iconst dX4_teamOf_134 rfl ?_
      refine r_istore dX4_teamOf_135 (Nat.le_of_ble_eq_true rfl) rfl (slS (slS (slS (slS sl0)))) ?_
      exact R.forget H ⟨Or.inl rfl, ⟨Or.inl rfl, ⟨Or.inr rfl, ⟨Or.inl rfl, ⟨Or.inl rfl, trivial⟩⟩⟩⟩⟩
    replace H := H.2
    refine R.tri (k9 := 5) (fun b20 => ?_) (fun b20 => ?_)
    · replace H := H.1 b20
      refine r_tableIn (tgt := 177) dX4_teamOf_23 (by rw [b20]; decide) (by rw [b20]; decide) (by rw [b20]; first | done | rfl) rfl ?_
      refine r_aload_n dX4_teamOf_177 rfl rfl ?_
      refine r_getG fr_X4_9_12 (by decide) dX4_teamOf_178 (x5.kd k1 (by decide)) (by decide) ?_
      refine r_bipush dX4_teamOf_181 rfl ?_
      refine r_iconst dX4_teamOf_183 rfl ?_
      refine r_iload_n dX4_teamOf_184 rfl rfl ?_
      refine r_imul dX4_teamOf_185 ?_
      refine r_iadd dX4_teamOf_186 ?_
      refine r_iconst dX4_teamOf_187 rfl ?_
      refine r_iadd dX4_teamOf_188 ?_
      obtain ⟨k21, H⟩ := H
      obtain ⟨k22, H⟩ := H
      refine r_iald dX4_teamOf_189 k21 k22 ?_
      exact r_iret dX4_teamOf_190 rfl H
    replace H := H.2
    replace H := H b7 b8 b12 b16 b19 b20
    refine r_tableOut (tgt := 191) dX4_teamOf_23 (tabOut (lo := 0) (n := 6) rfl (fun i hi => match i, hi with | 0, _ => b7 | 1, _ => b8 | 2, _ => b12 | 3, _ => b16 | 4, _ => b19 | 5, _ => b20 | k + 6, hi => absurd hi (by omega))) rfl ?_
    refine r_aload_n dX4_teamOf_191 rfl rfl ?_
    refine r_iconst dX4_teamOf_192 rfl ?_
    refine r_invV (y := m_X4_raises) dX4_teamOf_193 rfl (lw_V q3346 q3348 qp76 q122 q3349) py_X4_raises (Nat.le_of_ble_eq_true rfl) (args := [_]) rfl rfl (Nat.le_of_ble_eq_true rfl) (x5.kd k1 (by decide)) (by decide) rfl (C.monoE H (fun o h23 _ x25 K => cont_I K (fun v24 H => ?_) (fun r HX => XR_nc rfl HX)))
    exact r_iret dX4_teamOf_196 rfl H
  · replace H := H.2 b6
    refine r_aload_n dX4_teamOf_14 rfl rfl ?_
    refine r_iconst dX4_teamOf_15 rfl ?_
    refine r_invV (y := m_X4_raises) dX4_teamOf_16 rfl (lw_V q3346 q3348 qp76 q122 q3349) py_X4_raises (Nat.le_of_ble_eq_true rfl) (args := [_]) rfl rfl (Nat.le_of_ble_eq_true rfl) (x5.kd k1 (by decide)) (by decide) rfl (C.monoE H (fun o h26 _ x28 K => cont_I K (fun v27 H => ?_) (fun r HX => XR_nc rfl HX)))
    exact r_iret dX4_teamOf_19 rfl H
theorem c_X4_teamOf_0 {g : PG} {d : Nat} {l0 : Nat} {l1 : Int32} {l2 : Int32} {h : PH} {Q : Out → PH → Prop} (H : w_X4_teamOf_0 g d l0 l1 l2 h Q) : C g (d + 1) m_X4_teamOf [.ref l0, .int l1, .int l2] h Q := C_of_R rfl rfl (Nat.le_of_ble_eq_true rfl) rfl (v_X4_teamOf_0 H)
abbrev w_X4_place_0 (g : PG) (d : Nat) (l0 : Nat) (l1 : Int32) (h : PH) (Q : Out → PH → Prop) : Prop := hkd h l0 = 12 ∧ C g d m_X4_hat [.ref l0, .int l1] h (oI (fun v3 h2 => ((v3 ≤ 0) → C g d m_X4_hat [.ref l0, .int l1] h2 (oI (fun v7 h6 => Q (.inl (some (.int ((-1 : Int32) - v7)))) h6) (fun r hx => Q (.inr r) hx))) ∧ ((¬ v3 ≤ 0) → C g d m_X4_hat [.ref l0, .int l1] h2 (oI (fun v10 h9 => C g d m_X4_of [.ref l0, .int (v10 - (1 : Int32)), .int 1] h9 (oI (fun v13 h12 => Q (.inl (some (.int v13))) h12) (fun r hx => Q (.inr r) hx))) (fun r hx => Q (.inr r) hx)))) (fun r hx => Q (.inr r) hx))
theorem v_X4_place_0 {g : PG} {d : Nat} {l0 : Nat} {l1 : Int32} {h : PH} {Q : Out → PH → Prop} (H : w_X4_place_0 g d l0 l1 h Q) : R g d m_X4_place 0 [.ref l0, .int l1] [] h Q := by
  refine r_aload_n dX4_place_0 rfl rfl ?_
  refine r_iload_n dX4_place_1 rfl rfl ?_
  obtain ⟨k1, H⟩ := H
  refine r_invV (y := m_X4_hat) dX4_place_2 rfl (lw_V q3330 q3332 qp72 q122 q3333) py_X4_hat (Nat.le_of_ble_eq_true rfl) (args := [_]) rfl rfl (Nat.le_of_ble_eq_true rfl) k1 (by decide) rfl (C.monoE H (fun o h2 _ x4 K => cont_I K (fun v3 H => ?_) (fun r HX => XR_nc rfl HX)))
  refine r_if_le (tgt := 23) dX4_place_5 rfl (fun b5 => ?_) (fun b5 => ?_)
  · replace H := H.1 b5
    refine r_iconst dX4_place_23 rfl ?_
    refine r_aload_n dX4_place_24 rfl rfl ?_
    refine r_iload_n dX4_place_25 rfl rfl ?_
    refine r_invV (y := m_X4_hat) dX4_place_26 rfl (lw_V q3330 q3332 qp72 q122 q3333) py_X4_hat (Nat.le_of_ble_eq_true rfl) (args := [_]) rfl rfl (Nat.le_of_ble_eq_true rfl) (x4.kd k1 (by decide)) (by decide) rfl (C.monoE H (fun o h6 _ x8 K => cont_I K (fun v7 H => ?_) (fun r HX => XR_nc rfl HX)))
    refine r_isub dX4_place_29 ?_
    exact r_iret dX4_place_30 rfl H
  · replace H := H.2 b5
    refine r_aload_n dX4_place_8 rfl rfl ?_
    refine r_aload_n dX4_place_9 rfl rfl ?_
    refine r_iload_n dX4_place_10 rfl rfl ?_
    refine r_invV (y := m_X4_hat) dX4_place_11 rfl (lw_V q3330 q3332 qp72 q122 q3333) py_X4_hat (Nat.le_of_ble_eq_true rfl) (args := [_]) rfl rfl (Nat.le_of_ble_eq_true rfl) (x4.kd k1 (by decide)) (by decide) rfl (C.monoE H (fun o h9 _ x11 K => cont_I K (fun v10 H => ?_) (fun r HX => XR_nc rfl HX)))
    refine r_iconst dX4_place_14 rfl ?_
    refine r_isub dX4_place_15 ?_
    refine r_iconst dX4_place_16 rfl ?_
    refine r_invV (y := m_X4_of) dX4_place_17 rfl (lw_V q3362 q3364 qp79 q122 q3365) py_X4_of (Nat.le_of_ble_eq_true rfl) (args := [_, _]) rfl rfl (Nat.le_of_ble_eq_true rfl) (x11.kd (x4.kd k1 (by decide)) (by decide)) (by decide) rfl (C.monoE H (fun o h12 _ x14 K => cont_I K (fun v13 H => ?_) (fun r HX => XR_nc rfl HX)))
    refine r_goto (tgt := 30) dX4_place_20 rfl ?_
    exact r_iret dX4_place_30 rfl H
theorem c_X4_place_0 {g : PG} {d : Nat} {l0 : Nat} {l1 : Int32} {h : PH} {Q : Out → PH → Prop} (H : w_X4_place_0 g d l0 l1 h Q) : C g (d + 1) m_X4_place [.ref l0, .int l1] h Q := C_of_R rfl rfl (Nat.le_of_ble_eq_true rfl) rfl (v_X4_place_0 H)
abbrev w_X4_massAt_0 (g : PG) (d : Nat) (l0 : Nat) (l1 : Int32) (l2 : Int32) (h : PH) (Q : Out → PH → Prop) : Prop := hkd h l0 = 12 ∧ ∀ h2, h2 = setF 33 l0 (0 : Int32) h → C g d m_X4_isMan [.ref l0, .int l1] h2 (oI (fun v4 h3 => ((¬ v4 = 0) → C g d m_X4_in [.int l2, .int 0, .int 9] h3 (oI (fun v8 h7 => ((¬ v8 = 0) → C g d m_X4_of [.ref l0, .int l1, .int 1] h7 (oI (fun v12 h11 => (((v12 + l2) ≤ (11 : Int32)) → C g d m_X4_massBehind [.ref l0, .int l1, .int l2] h11 (oI (fun v16 h15 => Q (.inl (some (.int v16))) h15) (fun r hx => Q (.inr r) hx))) ∧ ((¬ (v12 + l2) ≤ (11 : Int32)) → C g d m_X4_raises [.ref l0, .int 3] h11 (oI (fun v19 h18 => Q (.inl (some (.int v19))) h18) (fun r hx => Q (.inr r) hx)))) (fun r hx => Q (.inr r) hx))) ∧ ((v8 = 0) → C g d m_X4_raises [.ref l0, .int 2] h7 (oI (fun v22 h21 => Q (.inl (some (.int v22))) h21) (fun r hx => Q (.inr r) hx)))) (fun r hx => Q (.inr r) hx))) ∧ ((v4 = 0) → C g d m_X4_raises [.ref l0, .int 1] h3 (oI (fun v25 h24 => Q (.inl (some (.int v25))) h24) (fun r hx => Q (.inr r) hx)))) (fun r hx => Q (.inr r) hx))
theorem v_X4_massAt_0 {g : PG} {d : Nat} {l0 : Nat} {l1 : Int32} {l2 : Int32} {h : PH} {Q : Out → PH → Prop} (H : w_X4_massAt_0 g d l0 l1 l2 h Q) : R g d m_X4_massAt 0 [.ref l0, .int l1, .int l2] [] h Q := by
  refine r_aload_n dX4_massAt_0 rfl rfl ?_
  refine r_iconst dX4_massAt_1 rfl ?_
  obtain ⟨k1, H⟩ := H
  replace H := H _ rfl
  refine r_putF fw_X4_44_12 (by decide) dX4_massAt_2 k1 (by decide) rfl rfl ?_
  refine r_aload_n dX4_massAt_5 rfl rfl ?_
  refine r_iload_n dX4_massAt_6 rfl rfl ?_
  refine r_invV (y := m_X4_isMan) dX4_massAt_7 rfl (lw_V q3358 q3360 qp78 q122 q3361) py_X4_isMan (Nat.le_of_ble_eq_true rfl) (args := [_]) rfl rfl (Nat.le_of_ble_eq_true rfl) k1 (by decide) rfl (C.monoE H (fun o h3 _ x5 K => cont_I K (fun v4 H => ?_) (fun r HX => XR_nc rfl HX)))
  refine r_if_ne (tgt := 19) dX4_massAt_10 rfl (fun b6 => ?_) (fun b6 => ?_)
  · replace H := H.1 b6
    refine r_iload_n dX4_massAt_19 rfl rfl ?_
    refine r_iconst dX4_massAt_20 rfl ?_
    refine r_bipush dX4_massAt_21 rfl ?_
    refine r_invS (y := m_X4_in) dX4_massAt_23 rfl (lw_S q3315 q3316 q122 q3317) py_X4_in (Nat.le_of_ble_eq_true rfl) (args := [_, _, _]) rfl rfl (Nat.le_of_ble_eq_true rfl) (C.monoE H (fun o h7 _ x9 K => cont_I K (fun v8 H => ?_) (fun r HX => XR_nc rfl HX)))
    refine r_if_ne (tgt := 35) dX4_massAt_26 rfl (fun b10 => ?_) (fun b10 => ?_)
    · replace H := H.1 b10
      refine r_aload_n dX4_massAt_35 rfl rfl ?_
      refine r_iload_n dX4_massAt_36 rfl rfl ?_
      refine r_iconst dX4_massAt_37 rfl ?_
      refine r_invV (y := m_X4_of) dX4_massAt_38 rfl (lw_V q3362 q3364 qp79 q122 q3365) py_X4_of (Nat.le_of_ble_eq_true rfl) (args := [_, _]) rfl rfl (Nat.le_of_ble_eq_true rfl) (x9.kd (x5.kd k1 (by decide)) (by decide)) (by decide) rfl (C.monoE H (fun o h11 _ x13 K => cont_I K (fun v12 H => ?_) (fun r HX => XR_nc rfl HX)))
      refine r_iload_n dX4_massAt_41 rfl rfl ?_
      refine r_iadd dX4_massAt_42 ?_
      refine r_bipush dX4_massAt_43 rfl ?_
      refine r_icmp_le (tgt := 56) dX4_massAt_45 rfl (fun b14 => ?_) (fun b14 => ?_)
      · replace H := H.1 b14
        refine r_aload_n dX4_massAt_56 rfl rfl ?_
        refine r_iload_n dX4_massAt_57 rfl rfl ?_
        refine r_iload_n dX4_massAt_58 rfl rfl ?_
        refine r_invV (y := m_X4_massBehind) dX4_massAt_59 rfl (lw_V q3449 q3451 qp92 q122 q3452) py_X4_massBehind (Nat.le_of_ble_eq_true rfl) (args := [_, _]) rfl rfl (Nat.le_of_ble_eq_true rfl) (x13.kd (x9.kd (x5.kd k1 (by decide)) (by decide)) (by decide)) (by decide) rfl (C.monoE H (fun o h15 _ x17 K => cont_I K (fun v16 H => ?_) (fun r HX => XR_nc rfl HX)))
        exact r_iret dX4_massAt_62 rfl H
      · replace H := H.2 b14
        refine r_aload_n dX4_massAt_48 rfl rfl ?_
        refine r_iconst dX4_massAt_49 rfl ?_
        refine r_invV (y := m_X4_raises) dX4_massAt_50 rfl (lw_V q3346 q3348 qp76 q122 q3349) py_X4_raises (Nat.le_of_ble_eq_true rfl) (args := [_]) rfl rfl (Nat.le_of_ble_eq_true rfl) (x13.kd (x9.kd (x5.kd k1 (by decide)) (by decide)) (by decide)) (by decide) rfl (C.monoE H (fun o h18 _ x20 K => cont_I K (fun v19 H => ?_) (fun r HX => XR_nc rfl HX)))
        refine r_goto (tgt := 62) dX4_massAt_53 rfl ?_
        exact r_iret dX4_massAt_62 rfl H
    · replace H := H.2 b10
      refine r_aload_n dX4_massAt_29 rfl rfl ?_
      refine r_iconst dX4_massAt_30 rfl ?_
      refine r_invV (y := m_X4_raises) dX4_massAt_31 rfl (lw_V q3346 q3348 qp76 q122 q3349) py_X4_raises (Nat.le_of_ble_eq_true rfl) (args := [_]) rfl rfl (Nat.le_of_ble_eq_true rfl) (x9.kd (x5.kd k1 (by decide)) (by decide)) (by decide) rfl (C.monoE H (fun o h21 _ x23 K => cont_I K (fun v22 H => ?_) (fun r HX => XR_nc rfl HX)))
      exact r_iret dX4_massAt_34 rfl H
  · replace H := H.2 b6
    refine r_aload_n dX4_massAt_13 rfl rfl ?_
    refine r_iconst dX4_massAt_14 rfl ?_
    refine r_invV (y := m_X4_raises) dX4_massAt_15 rfl (lw_V q3346 q3348 qp76 q122 q3349) py_X4_raises (Nat.le_of_ble_eq_true rfl) (args := [_]) rfl rfl (Nat.le_of_ble_eq_true rfl) (x5.kd k1 (by decide)) (by decide) rfl (C.monoE H (fun o h24 _ x26 K => cont_I K (fun v25 H => ?_) (fun r HX => XR_nc rfl HX)))
    exact r_iret dX4_massAt_18 rfl H
theorem c_X4_massAt_0 {g : PG} {d : Nat} {l0 : Nat} {l1 : Int32} {l2 : Int32} {h : PH} {Q : Out → PH → Prop} (H : w_X4_massAt_0 g d l0 l1 l2 h Q) : C g (d + 1) m_X4_massAt [.ref l0, .int l1, .int l2] h Q := C_of_R rfl rfl (Nat.le_of_ble_eq_true rfl) rfl (v_X4_massAt_0 H)
abbrev w_X4_massBehind_52 (g : PG) (d : Nat) (l0 : Nat) (l4 : Int32) (l5 : Int32) (h : PH) (Q : Out → PH → Prop) : Prop := (((127 : Int32) ≤ l5) → Q (.inl (some (.int l4))) h) ∧ ((¬ (127 : Int32) ≤ l5) → hkd h l0 = 12 ∧ hkd h (hG h 523 l0) / 100 = 1 ∧ vp_in l5 (hln h (hG h 523 l0)) ∧ hkd h (hG h 521 l0) / 100 = 1 ∧ hkd h (hG h 521 l0) % 100 < 50 ∧ vp_in l5 (hln h (hG h 521 l0)) ∧ ∀ h8, h8 = setA (hG h 521 l0) l5.toNatClampNeg (hA h (hG h 523 l0) l5.toNatClampNeg) h → R g d m_X4_massBehind 52 [.ref l0, .null, .null, .null, .int l4, .int (l5 + 1)] [] h8 Q)
theorem v_X4_massBehind_52 {g : PG} {d : Nat} {l0 : Nat} {l4 : Int32} {l5 : Int32} {h : PH} {Q : Out → PH → Prop} (H : w_X4_massBehind_52 g d l0 l4 l5 h Q) : R g d m_X4_massBehind 52 [.ref l0, .null, .null, .null, .int l4, .int l5] [] h Q := by
  refine r_iload dX4_massBehind_52 rfl ?_
  refine r_bipush dX4_massBehind_54 rfl ?_
  refine r_icmp_ge (tgt := 79) dX4_massBehind_56 rfl (fun b1 => ?_) (fun b1 => ?_)
  · replace H := H.1 b1
    refine r_iload dX4_massBehind_79 rfl ?_
    exact r_iret dX4_massBehind_81 rfl H
  · replace H := H.2 b1
    refine r_aload_n dX4_massBehind_59 rfl rfl ?_
    obtain ⟨k2, H⟩ := H
    refine r_getG fr_X4_9_12 (by decide) dX4_massBehind_60 k2 (by decide) ?_
    refine r_iload dX4_massBehind_63 rfl ?_
    refine r_aload_n dX4_massBehind_65 rfl rfl ?_
    refine r_getG fr_X4_16_12 (by decide) dX4_massBehind_66 k2 (by decide) ?_
    refine r_iload dX4_massBehind_69 rfl ?_
    obtain ⟨k3, H⟩ := H
    obtain ⟨k4, H⟩ := H
    refine r_iald dX4_massBehind_71 k3 k4 ?_
    obtain ⟨k5, H⟩ := H
    obtain ⟨k6, H⟩ := H
    obtain ⟨k7, H⟩ := H
    replace H := H _ rfl
    refine r_iast dX4_massBehind_72 k5 k6 k7 ?_
    refine r_iinc dX4_massBehind_73 rfl rfl (Nat.le_of_ble_eq_true rfl) rfl (slS (slS (slS (slS (slS sl0))))) ?_
    refine r_goto (tgt := 52) dX4_massBehind_76 rfl ?_
    exact H
abbrev w_X4_massBehind_47 (g : PG) (d : Nat) (l0 : Nat) (s0 : Int32) (h : PH) (Q : Out → PH → Prop) : Prop := R g d m_X4_massBehind 52 [.ref l0, .null, .null, .null, .int s0, .int 0] [] h Q
theorem v_X4_massBehind_47 {g : PG} {d : Nat} {l0 : Nat} {s0 : Int32} {h : PH} {Q : Out → PH → Prop} (H : w_X4_massBehind_47 g d l0 s0 h Q) : R g d m_X4_massBehind 47 [.ref l0, .null, .null, .null, .null, .null] [.int s0] h Q := by
  refine r_istore dX4_massBehind_47 (Nat.le_of_ble_eq_true rfl) rfl (slS (slS (slS (slS sl0)))) ?_
  refine r_iconst dX4_massBehind_49 rfl ?_
  refine r_istore dX4_massBehind_50 (Nat.le_of_ble_eq_true rfl) rfl (slS (slS (slS (slS (slS sl0))))) ?_
  exact H
abbrev w_X4_massBehind_2 (g : PG) (d : Nat) (l0 : Nat) (l1 : Int32) (l2 : Int32) (l3 : Int32) (h : PH) (Q : Out → PH → Prop) : Prop := (((127 : Int32) ≤ l3) → hkd h l0 = 12 ∧ C g d m_X4_goes [.ref l0, .int l1, .int l2] h (oI (fun v4 h3 => ((0 ≤ v4) → C g d m_X4_of [.ref l0, .int l1, .int 2] h3 (oI (fun v8 h7 => w_X4_massBehind_47 g d l0 v8 h7 Q) (fun r hx => Q (.inr r) hx))) ∧ ((¬ 0 ≤ v4) → w_X4_massBehind_47 g d l0 (0 : Int32) h3 Q)) (fun r hx => Q (.inr r) hx))) ∧ ((¬ (127 : Int32) ≤ l3) → hkd h l0 = 12 ∧ hkd h (hG h 521 l0) / 100 = 1 ∧ vp_in l3 (hln h (hG h 521 l0)) ∧ hkd h (hG h 523 l0) / 100 = 1 ∧ hkd h (hG h 523 l0) % 100 < 50 ∧ vp_in l3 (hln h (hG h 523 l0)) ∧ ∀ h16, h16 = setA (hG h 523 l0) l3.toNatClampNeg (hA h (hG h 521 l0) l3.toNatClampNeg) h → R g d m_X4_massBehind 2 [.ref l0, .int l1, .int l2, .int (l3 + 1), .null, .null] [] h16 Q)
theorem v_X4_massBehind_2 {g : PG} {d : Nat} {l0 : Nat} {l1 : Int32} {l2 : Int32} {l3 : Int32} {h : PH} {Q : Out → PH → Prop} (H : w_X4_massBehind_2 g d l0 l1 l2 l3 h Q) : R g d m_X4_massBehind 2 [.ref l0, .int l1, .int l2, .int l3, .null, .null] [] h Q := by
  refine r_iload_n dX4_massBehind_2 rfl rfl ?_
  refine r_bipush dX4_massBehind_3 rfl ?_
  refine r_icmp_ge (tgt := 26) dX4_massBehind_5 rfl (fun b1 => ?_) (fun b1 => ?_)
  · replace H := H.1 b1
    refine r_aload_n dX4_massBehind_26 rfl rfl ?_
    refine r_iload_n dX4_massBehind_27 rfl rfl ?_
    refine r_iload_n dX4_massBehind_28 rfl rfl ?_
    obtain ⟨k2, H⟩ := H
    refine r_invV (y := m_X4_goes) dX4_massBehind_29 rfl (lw_V q3374 q3376 qp82 q122 q3377) py_X4_goes (Nat.le_of_ble_eq_true rfl) (args := [_, _]) rfl rfl (Nat.le_of_ble_eq_true rfl) k2 (by decide) rfl (C.monoE H (fun o h3 _ x5 K => cont_I K (fun v4 H => ?_) (fun r HX => XR_nc rfl HX)))
    refine r_istore_n dX4_massBehind_32 rfl (Nat.le_of_ble_eq_true rfl) rfl (slS (slS (slS sl0))) ?_
    refine r_iload_n dX4_massBehind_33 rfl rfl ?_
    refine r_if_ge (tgt := 41) dX4_massBehind_34 rfl (fun b6 => ?_) (fun b6 => ?_)
    · replace H := H.1 b6
      refine r_aload_n dX4_massBehind_41 rfl rfl ?_
      refine r_iload_n dX4_massBehind_42 rfl rfl ?_
      refine r_iconst dX4_massBehind_43 rfl ?_
      refine r_invV (y := m_X4_of) dX4_massBehind_44 rfl (lw_V q3362 q3364 qp79 q122 q3365) py_X4_of (Nat.le_of_ble_eq_true rfl) (args := [_, _]) rfl rfl (Nat.le_of_ble_eq_true rfl) (x5.kd k2 (by decide)) (by decide) rfl (C.monoE H (fun o h7 _ x9 K => cont_I K (fun v8 H => ?_) (fun r HX => XR_nc rfl HX)))
      exact R.forget (v_X4_massBehind_47 H) ⟨Or.inl rfl, ⟨Or.inr rfl, ⟨Or.inr rfl, ⟨Or.inr rfl, ⟨Or.inl rfl, ⟨Or.inl rfl, trivial⟩⟩⟩⟩⟩⟩
    · replace H := H.2 b6
      refine r_iconst dX4_massBehind_37 rfl ?_
      refine r_goto (tgt := 47) dX4_massBehind_38 rfl ?_
      exact R.forget (v_X4_massBehind_47 H) ⟨Or.inl rfl, ⟨Or.inr rfl, ⟨Or.inr rfl, ⟨Or.inr rfl, ⟨Or.inl rfl, ⟨Or.inl rfl, trivial⟩⟩⟩⟩⟩⟩
  · replace H := H.2 b1
    refine r_aload_n dX4_massBehind_8 rfl rfl ?_
    obtain ⟨k10, H⟩ := H
    refine r_getG fr_X4_16_12 (by decide) dX4_massBehind_9 k10 (by decide) ?_
    refine r_iload_n dX4_massBehind_12 rfl rfl ?_
    refine r_aload_n dX4_massBehind_13 rfl rfl ?_
    refine r_getG fr_X4_9_12 (by decide) dX4_massBehind_14 k10 (by decide) ?_
    refine r_iload_n dX4_massBehind_17 rfl rfl ?_
    obtain ⟨k11, H⟩ := H
    obtain ⟨k12, H⟩ := H
    refine r_iald dX4_massBehind_18 k11 k12 ?_
    obtain ⟨k13, H⟩ := H
    obtain ⟨k14, H⟩ := H
    obtain ⟨k15, H⟩ := H
    replace H := H _ rfl
    refine r_iast dX4_massBehind_19 k13 k14 k15 ?_
    refine r_iinc dX4_massBehind_20 rfl rfl (Nat.le_of_ble_eq_true rfl) rfl (slS (slS (slS sl0))) ?_
    refine r_goto (tgt := 2) dX4_massBehind_23 rfl ?_
    exact H
abbrev w_X4_massBehind_0 (g : PG) (d : Nat) (l0 : Nat) (l1 : Int32) (l2 : Int32) (h : PH) (Q : Out → PH → Prop) : Prop := R g d m_X4_massBehind 2 [.ref l0, .int l1, .int l2, .int 0, .null, .null] [] h Q
theorem v_X4_massBehind_0 {g : PG} {d : Nat} {l0 : Nat} {l1 : Int32} {l2 : Int32} {h : PH} {Q : Out → PH → Prop} (H : w_X4_massBehind_0 g d l0 l1 l2 h Q) : R g d m_X4_massBehind 0 [.ref l0, .int l1, .int l2, .null, .null, .null] [] h Q := by
  refine r_iconst dX4_massBehind_0 rfl ?_
  refine r_istore_n dX4_massBehind_1 rfl (Nat.le_of_ble_eq_true rfl) rfl (slS (slS (slS sl0))) ?_
  exact H
theorem c_X4_massBehind_0 {g : PG} {d : Nat} {l0 : Nat} {l1 : Int32} {l2 : Int32} {h : PH} {Q : Out → PH → Prop} (H : w_X4_massBehind_0 g d l0 l1 l2 h Q) : C g (d + 1) m_X4_massBehind [.ref l0, .int l1, .int l2] h Q := C_of_R rfl rfl (Nat.le_of_ble_eq_true rfl) rfl (v_X4_massBehind_0 H)
abbrev w_X4_massAgain_0 (g : PG) (d : Nat) (l0 : Nat) (l1 : Int32) (l2 : Int32) (h : PH) (Q : Out → PH → Prop) : Prop := hkd h l0 = 12 ∧ C g d m_X4_massAt [.ref l0, .int l1, .int l2] h (oI (fun v3 h2 => Q (.inl (some (.int v3))) h2) (fun r hx => Q (.inr r) hx))
theorem v_X4_massAgain_0 {g : PG} {d : Nat} {l0 : Nat} {l1 : Int32} {l2 : Int32} {h : PH} {Q : Out → PH → Prop} (H : w_X4_massAgain_0 g d l0 l1 l2 h Q) : R g d m_X4_massAgain 0 [.ref l0, .int l1, .int l2] [] h Q := by
  refine r_aload_n dX4_massAgain_0 rfl rfl ?_
  refine r_iload_n dX4_massAgain_1 rfl rfl ?_
  refine r_iload_n dX4_massAgain_2 rfl rfl ?_
  obtain ⟨k1, H⟩ := H
  refine r_invV (y := m_X4_massAt) dX4_massAgain_3 rfl (lw_V q3457 q3446 q3447 q122 q3448) py_X4_massAt (Nat.le_of_ble_eq_true rfl) (args := [_, _]) rfl rfl (Nat.le_of_ble_eq_true rfl) k1 (by decide) rfl (C.monoE H (fun o h2 _ x4 K => cont_I K (fun v3 H => ?_) (fun r HX => XR_nc rfl HX)))
  exact r_iret dX4_massAgain_6 rfl H
theorem c_X4_massAgain_0 {g : PG} {d : Nat} {l0 : Nat} {l1 : Int32} {l2 : Int32} {h : PH} {Q : Out → PH → Prop} (H : w_X4_massAgain_0 g d l0 l1 l2 h Q) : C g (d + 1) m_X4_massAgain [.ref l0, .int l1, .int l2] h Q := C_of_R rfl rfl (Nat.le_of_ble_eq_true rfl) rfl (v_X4_massAgain_0 H)
abbrev w_X4_far_14 (g : PG) (d : Nat) (l0 : Nat) (l1 : Int32) (s0 : Nat) (s1 : Int32) (h : PH) (Q : Out → PH → Prop) : Prop := hkd h s0 = 12 ∧ ∀ h2, h2 = setF 33 s0 s1 h → hkd h2 l0 = 12 ∧ ((¬ (hF h2 33 l0) = 0) → Q (.inl (some (.int 0))) h2) ∧ (((hF h2 33 l0) = 0) → C g d m_X4_farOf [.ref l0, .int l1] h2 (oI (fun v6 h5 => Q (.inl (some (.int v6))) h5) (fun r hx => Q (.inr r) hx)))
theorem v_X4_far_14 {g : PG} {d : Nat} {l0 : Nat} {l1 : Int32} {s0 : Nat} {s1 : Int32} {h : PH} {Q : Out → PH → Prop} (H : w_X4_far_14 g d l0 l1 s0 s1 h Q) : R g d m_X4_far 14 [.ref l0, .int l1] [.int s1, .ref s0] h Q := by
  obtain ⟨k1, H⟩ := H
  replace H := H _ rfl
  refine r_putF fw_X4_44_12 (by decide) dX4_far_14 k1 (by decide) rfl rfl ?_
  refine r_aload_n dX4_far_17 rfl rfl ?_
  obtain ⟨k3, H⟩ := H
  refine r_getF fr_X4_44_12 (by decide) dX4_far_18 k3 (by decide) ?_
  refine r_if_ne (tgt := 32) dX4_far_21 rfl (fun b4 => ?_) (fun b4 => ?_)
  · replace H := H.1 b4
    refine r_iconst dX4_far_32 rfl ?_
    exact r_iret dX4_far_33 rfl H
  · replace H := H.2 b4
    refine r_aload_n dX4_far_24 rfl rfl ?_
    refine r_iload_n dX4_far_25 rfl rfl ?_
    refine r_invV (y := m_X4_farOf) dX4_far_26 rfl (lw_V q3462 q3464 qp93 q122 q3465) py_X4_farOf (Nat.le_of_ble_eq_true rfl) (args := [_]) rfl rfl (Nat.le_of_ble_eq_true rfl) k3 (by decide) rfl (C.monoE H (fun o h5 _ x7 K => cont_I K (fun v6 H => ?_) (fun r HX => XR_nc rfl HX)))
    refine r_goto (tgt := 33) dX4_far_29 rfl ?_
    exact r_iret dX4_far_33 rfl H
abbrev w_X4_far_0 (g : PG) (d : Nat) (l0 : Nat) (l1 : Int32) (h : PH) (Q : Out → PH → Prop) : Prop := hkd h l0 = 12 ∧ C g d m_X4_isMan [.ref l0, .int l1] h (oI (fun v3 h2 => ((v3 = 0) → w_X4_far_14 g d l0 l1 l0 (1 : Int32) h2 Q) ∧ ((¬ v3 = 0) → w_X4_far_14 g d l0 l1 l0 (0 : Int32) h2 Q)) (fun r hx => Q (.inr r) hx))
theorem v_X4_far_0 {g : PG} {d : Nat} {l0 : Nat} {l1 : Int32} {h : PH} {Q : Out → PH → Prop} (H : w_X4_far_0 g d l0 l1 h Q) : R g d m_X4_far 0 [.ref l0, .int l1] [] h Q := by
  refine r_aload_n dX4_far_0 rfl rfl ?_
  refine r_aload_n dX4_far_1 rfl rfl ?_
  refine r_iload_n dX4_far_2 rfl rfl ?_
  obtain ⟨k1, H⟩ := H
  refine r_invV (y := m_X4_isMan) dX4_far_3 rfl (lw_V q3358 q3360 qp78 q122 q3361) py_X4_isMan (Nat.le_of_ble_eq_true rfl) (args := [_]) rfl rfl (Nat.le_of_ble_eq_true rfl) k1 (by decide) rfl (C.monoE H (fun o h2 _ x4 K => cont_I K (fun v3 H => ?_) (fun r HX => XR_nc rfl HX)))
  refine r_if_eq (tgt := 13) dX4_far_6 rfl (fun b5 => ?_) (fun b5 => ?_)
  · replace H := H.1 b5
    refine r_iconst dX4_far_13 rfl ?_
    exact v_X4_far_14 H
  · replace H := H.2 b5
    refine r_iconst dX4_far_9 rfl ?_
    refine r_goto (tgt := 14) dX4_far_10 rfl ?_
    exact v_X4_far_14 H
theorem c_X4_far_0 {g : PG} {d : Nat} {l0 : Nat} {l1 : Int32} {h : PH} {Q : Out → PH → Prop} (H : w_X4_far_0 g d l0 l1 h Q) : C g (d + 1) m_X4_far [.ref l0, .int l1] h Q := C_of_R rfl rfl (Nat.le_of_ble_eq_true rfl) rfl (v_X4_far_0 H)
abbrev w_X4_farOf_2 (g : PG) (d : Nat) (l0 : Nat) (l1 : Int32) (l2 : Int32) (h : PH) (Q : Out → PH → Prop) : Prop := (((9 : Int32) ≤ l2) → Q (.inl (some (.int l2))) h) ∧ ((¬ (9 : Int32) ≤ l2) → hkd h l0 = 12 ∧ C g d m_X4_of [.ref l0, .int l1, .int 1] h (oI (fun v4 h3 => (((11 : Int32) ≤ (v4 + l2)) → Q (.inl (some (.int l2))) h3) ∧ ((¬ (11 : Int32) ≤ (v4 + l2)) → C g d m_X4_massBehind [.ref l0, .int l1, .int (l2 + (1 : Int32))] h3 (oI (fun v8 h7 => ((v8 < (10 : Int32)) → Q (.inl (some (.int l2))) h7) ∧ ((¬ v8 < (10 : Int32)) → R g d m_X4_farOf 2 [.ref l0, .int l1, .int (l2 + 1)] [] h7 Q)) (fun r hx => Q (.inr r) hx)))) (fun r hx => Q (.inr r) hx)))
theorem v_X4_farOf_2 {g : PG} {d : Nat} {l0 : Nat} {l1 : Int32} {l2 : Int32} {h : PH} {Q : Out → PH → Prop} (H : w_X4_farOf_2 g d l0 l1 l2 h Q) : R g d m_X4_farOf 2 [.ref l0, .int l1, .int l2] [] h Q := by
  refine r_iload_n dX4_farOf_2 rfl rfl ?_
  refine r_bipush dX4_farOf_3 rfl ?_
  refine r_icmp_ge (tgt := 40) dX4_farOf_5 rfl (fun b1 => ?_) (fun b1 => ?_)
  · replace H := H.1 b1
    refine r_iload_n dX4_farOf_40 rfl rfl ?_
    exact r_iret dX4_farOf_41 rfl H
  · replace H := H.2 b1
    refine r_aload_n dX4_farOf_8 rfl rfl ?_
    refine r_iload_n dX4_farOf_9 rfl rfl ?_
    refine r_iconst dX4_farOf_10 rfl ?_
    obtain ⟨k2, H⟩ := H
    refine r_invV (y := m_X4_of) dX4_farOf_11 rfl (lw_V q3362 q3364 qp79 q122 q3365) py_X4_of (Nat.le_of_ble_eq_true rfl) (args := [_, _]) rfl rfl (Nat.le_of_ble_eq_true rfl) k2 (by decide) rfl (C.monoE H (fun o h3 _ x5 K => cont_I K (fun v4 H => ?_) (fun r HX => XR_nc rfl HX)))
    refine r_iload_n dX4_farOf_14 rfl rfl ?_
    refine r_iadd dX4_farOf_15 ?_
    refine r_bipush dX4_farOf_16 rfl ?_
    refine r_icmp_ge (tgt := 40) dX4_farOf_18 rfl (fun b6 => ?_) (fun b6 => ?_)
    · replace H := H.1 b6
      refine r_iload_n dX4_farOf_40 rfl rfl ?_
      exact r_iret dX4_farOf_41 rfl H
    · replace H := H.2 b6
      refine r_aload_n dX4_farOf_21 rfl rfl ?_
      refine r_iload_n dX4_farOf_22 rfl rfl ?_
      refine r_iload_n dX4_farOf_23 rfl rfl ?_
      refine r_iconst dX4_farOf_24 rfl ?_
      refine r_iadd dX4_farOf_25 ?_
      refine r_invV (y := m_X4_massBehind) dX4_farOf_26 rfl (lw_V q3449 q3451 qp92 q122 q3452) py_X4_massBehind (Nat.le_of_ble_eq_true rfl) (args := [_, _]) rfl rfl (Nat.le_of_ble_eq_true rfl) (x5.kd k2 (by decide)) (by decide) rfl (C.monoE H (fun o h7 _ x9 K => cont_I K (fun v8 H => ?_) (fun r HX => XR_nc rfl HX)))
      refine r_bipush dX4_farOf_29 rfl ?_
      refine r_icmp_lt (tgt := 40) dX4_farOf_31 rfl (fun b10 => ?_) (fun b10 => ?_)
      · replace H := H.1 b10
        refine r_iload_n dX4_farOf_40 rfl rfl ?_
        exact r_iret dX4_farOf_41 rfl H
      · replace H := H.2 b10
        refine r_iinc dX4_farOf_34 rfl rfl (Nat.le_of_ble_eq_true rfl) rfl (slS (slS sl0)) ?_
        refine r_goto (tgt := 2) dX4_farOf_37 rfl ?_
        exact H
abbrev w_X4_farOf_0 (g : PG) (d : Nat) (l0 : Nat) (l1 : Int32) (h : PH) (Q : Out → PH → Prop) : Prop := R g d m_X4_farOf 2 [.ref l0, .int l1, .int 0] [] h Q
theorem v_X4_farOf_0 {g : PG} {d : Nat} {l0 : Nat} {l1 : Int32} {h : PH} {Q : Out → PH → Prop} (H : w_X4_farOf_0 g d l0 l1 h Q) : R g d m_X4_farOf 0 [.ref l0, .int l1, .null] [] h Q := by
  refine r_iconst dX4_farOf_0 rfl ?_
  refine r_istore_n dX4_farOf_1 rfl (Nat.le_of_ble_eq_true rfl) rfl (slS (slS sl0)) ?_
  exact H
theorem c_X4_farOf_0 {g : PG} {d : Nat} {l0 : Nat} {l1 : Int32} {h : PH} {Q : Out → PH → Prop} (H : w_X4_farOf_0 g d l0 l1 h Q) : C g (d + 1) m_X4_farOf [.ref l0, .int l1] h Q := C_of_R rfl rfl (Nat.le_of_ble_eq_true rfl) rfl (v_X4_farOf_0 H)
abbrev w_X4_best_127 (g : PG) (d : Nat) (l0 : Nat) (l1 : Int32) (l2 : Int32) (l3 : Int32) (h : PH) (Q : Out → PH → Prop) : Prop := R g d m_X4_best 24 [.ref l0, .int l1, .int l2, .int (l3 + 1), .null] [] h Q
theorem v_X4_best_127 {g : PG} {d : Nat} {l0 : Nat} {l1 : Int32} {l2 : Int32} {l3 : Int32} {h : PH} {Q : Out → PH → Prop} (H : w_X4_best_127 g d l0 l1 l2 l3 h Q) : R g d m_X4_best 127 [.ref l0, .int l1, .int l2, .int l3, .null] [] h Q := by
  refine r_iinc dX4_best_127 rfl rfl (Nat.le_of_ble_eq_true rfl) rfl (slS (slS (slS sl0))) ?_
  refine r_goto (tgt := 24) dX4_best_130 rfl ?_
  exact H
abbrev w_X4_best_120 (g : PG) (d : Nat) (l0 : Nat) (l1 : Int32) (l2 : Int32) (l3 : Int32) (l4 : Int32) (h : PH) (Q : Out → PH → Prop) : Prop := ((l4 ≤ 0) → w_X4_best_127 g d l0 l1 l2 l3 h Q) ∧ ((¬ l4 ≤ 0) → w_X4_best_127 g d l0 l1 l3 l3 h Q)
theorem v_X4_best_120 {g : PG} {d : Nat} {l0 : Nat} {l1 : Int32} {l2 : Int32} {l3 : Int32} {l4 : Int32} {h : PH} {Q : Out → PH → Prop} (H : w_X4_best_120 g d l0 l1 l2 l3 l4 h Q) : R g d m_X4_best 120 [.ref l0, .int l1, .int l2, .int l3, .int l4] [] h Q := by
  refine r_iload dX4_best_120 rfl ?_
  refine r_if_le (tgt := 127) dX4_best_122 rfl (fun b1 => ?_) (fun b1 => ?_)
  · replace H := H.1 b1
    exact R.forget (v_X4_best_127 H) ⟨Or.inl rfl, ⟨Or.inl rfl, ⟨Or.inl rfl, ⟨Or.inl rfl, ⟨Or.inr rfl, trivial⟩⟩⟩⟩⟩
  · replace H := H.2 b1
    refine r_iload_n dX4_best_125 rfl rfl ?_
    refine r_istore_n dX4_best_126 rfl (Nat.le_of_ble_eq_true rfl) rfl (slS (slS sl0)) ?_
    exact R.forget (v_X4_best_127 H) ⟨Or.inl rfl, ⟨Or.inl rfl, ⟨Or.inl rfl, ⟨Or.inl rfl, ⟨Or.inr rfl, trivial⟩⟩⟩⟩⟩
abbrev w_X4_best_24 (g : PG) (d : Nat) (l0 : Nat) (l1 : Int32) (l2 : Int32) (l3 : Int32) (h : PH) (Q : Out → PH → Prop) : Prop := hkd h l0 = 12 ∧ hkd h (hG h 521 l0) / 100 = 1 ∧ vp_in (0 : Int32) (hln h (hG h 521 l0)) ∧ (((hA h (hG h 521 l0) (0 : Int32).toNatClampNeg) ≤ l3) → ((0 ≤ l2) → Q (.inl (some (.int l2))) h) ∧ ((¬ 0 ≤ l2) → C g d m_X4_raises [.ref l0, .int 2] h (oI (fun v7 h6 => Q (.inl (some (.int v7))) h6) (fun r hx => Q (.inr r) hx)))) ∧ ((¬ (hA h (hG h 521 l0) (0 : Int32).toNatClampNeg) ≤ l3) → C g d m_X4_of [.ref l0, .int l3, .int 0] h (oI (fun v10 h9 => ((¬ v10 = l1) → w_X4_best_127 g d l0 l1 l2 l3 h9 Q) ∧ ((v10 = l1) → C g d m_X4_of [.ref l0, .int l3, .int 2] h9 (oI (fun v14 h13 => ((¬ v14 = 0) → ((0 ≤ l2) → C g d m_X4_of [.ref l0, .int l3, .int 1] h13 (oI (fun v19 h18 => C g d m_X4_farOf [.ref l0, .int l3] h18 (oI (fun v22 h21 => C g d m_X4_of [.ref l0, .int l2, .int 1] h21 (oI (fun v25 h24 => C g d m_X4_farOf [.ref l0, .int l2] h24 (oI (fun v28 h27 => ((¬ (((v19 + v22) - v25) - v28) = 0) → w_X4_best_120 g d l0 l1 l2 l3 (((v19 + v22) - v25) - v28) h27 Q) ∧ (((((v19 + v22) - v25) - v28) = 0) → C g d m_X4_farOf [.ref l0, .int l3] h27 (oI (fun v32 h31 => C g d m_X4_massBehind [.ref l0, .int l3, .int v32] h31 (oI (fun v35 h34 => C g d m_X4_farOf [.ref l0, .int l2] h34 (oI (fun v38 h37 => C g d m_X4_massBehind [.ref l0, .int l2, .int v38] h37 (oI (fun v41 h40 => w_X4_best_120 g d l0 l1 l2 l3 (v35 - v41) h40 Q) (fun r hx => Q (.inr r) hx))) (fun r hx => Q (.inr r) hx))) (fun r hx => Q (.inr r) hx))) (fun r hx => Q (.inr r) hx)))) (fun r hx => Q (.inr r) hx))) (fun r hx => Q (.inr r) hx))) (fun r hx => Q (.inr r) hx))) (fun r hx => Q (.inr r) hx))) ∧ ((¬ 0 ≤ l2) → w_X4_best_127 g d l0 l1 l3 l3 h13 Q)) ∧ ((v14 = 0) → w_X4_best_127 g d l0 l1 l2 l3 h13 Q)) (fun r hx => Q (.inr r) hx)))) (fun r hx => Q (.inr r) hx)))
theorem v_X4_best_24 {g : PG} {d : Nat} {l0 : Nat} {l1 : Int32} {l2 : Int32} {l3 : Int32} {h : PH} {Q : Out → PH → Prop} (H : w_X4_best_24 g d l0 l1 l2 l3 h Q) : R g d m_X4_best 24 [.ref l0, .int l1, .int l2, .int l3, .null] [] h Q := by
  refine r_iload_n dX4_best_24 rfl rfl ?_
  refine r_aload_n dX4_best_25 rfl rfl ?_
  obtain ⟨k1, H⟩ := H
  refine r_getG fr_X4_9_12 (by decide) dX4_best_26 k1 (by decide) ?_
  refine r_iconst dX4_best_29 rfl ?_
  obtain ⟨k2, H⟩ := H
  obtain ⟨k3, H⟩ := H
  refine r_iald dX4_best_30 k2 k3 ?_
  refine r_icmp_ge (tgt := 133) dX4_best_31 rfl (fun b4 => ?_) (fun b4 => ?_)
  · replace H := H.1 b4
    refine r_iload_n dX4_best_133 rfl rfl ?_
    refine r_if_ge (tgt := 145) dX4_best_134 rfl (fun b5 => ?_) (fun b5 => ?_)
    · replace H := H.1 b5
      refine r_iload_n dX4_best_145 rfl rfl ?_
      exact r_iret dX4_best_146 rfl H
    · replace H := H.2 b5
      refine r_aload_n dX4_best_137 rfl rfl ?_
      refine r_iconst dX4_best_138 rfl ?_
      refine r_invV (y := m_X4_raises) dX4_best_139 rfl (lw_V q3346 q3348 qp76 q122 q3349) py_X4_raises (Nat.le_of_ble_eq_true rfl) (args := [_]) rfl rfl (Nat.le_of_ble_eq_true rfl) k1 (by decide) rfl (C.monoE H (fun o h6 _ x8 K => cont_I K (fun v7 H => ?_) (fun r HX => XR_nc rfl HX)))
      refine r_goto (tgt := 146) dX4_best_142 rfl ?_
      exact r_iret dX4_best_146 rfl H
  · replace H := H.2 b4
    refine r_aload_n dX4_best_34 rfl rfl ?_
    refine r_iload_n dX4_best_35 rfl rfl ?_
    refine r_iconst dX4_best_36 rfl ?_
    refine r_invV (y := m_X4_of) dX4_best_37 rfl (lw_V q3362 q3364 qp79 q122 q3365) py_X4_of (Nat.le_of_ble_eq_true rfl) (args := [_, _]) rfl rfl (Nat.le_of_ble_eq_true rfl) k1 (by decide) rfl (C.monoE H (fun o h9 _ x11 K => cont_I K (fun v10 H => ?_) (fun r HX => XR_nc rfl HX)))
    refine r_iload_n dX4_best_40 rfl rfl ?_
    refine r_icmp_ne (tgt := 127) dX4_best_41 rfl (fun b12 => ?_) (fun b12 => ?_)
    · replace H := H.1 b12
      exact v_X4_best_127 H
    · replace H := H.2 b12
      refine r_aload_n dX4_best_44 rfl rfl ?_
      refine r_iload_n dX4_best_45 rfl rfl ?_
      refine r_iconst dX4_best_46 rfl ?_
      refine r_invV (y := m_X4_of) dX4_best_47 rfl (lw_V q3362 q3364 qp79 q122 q3365) py_X4_of (Nat.le_of_ble_eq_true rfl) (args := [_, _]) rfl rfl (Nat.le_of_ble_eq_true rfl) (x11.kd k1 (by decide)) (by decide) rfl (C.monoE H (fun o h13 _ x15 K => cont_I K (fun v14 H => ?_) (fun r HX => XR_nc rfl HX)))
      refine r_if_ne (tgt := 56) dX4_best_50 rfl (fun b16 => ?_) (fun b16 => ?_)
      · replace H := H.1 b16
        refine r_iload_n dX4_best_56 rfl rfl ?_
        refine r_if_ge (tgt := 65) dX4_best_57 rfl (fun b17 => ?_) (fun b17 => ?_)
        · replace H := H.1 b17
          refine r_aload_n dX4_best_65 rfl rfl ?_
          refine r_iload_n dX4_best_66 rfl rfl ?_
          refine r_iconst dX4_best_67 rfl ?_
          refine r_invV (y := m_X4_of) dX4_best_68 rfl (lw_V q3362 q3364 qp79 q122 q3365) py_X4_of (Nat.le_of_ble_eq_true rfl) (args := [_, _]) rfl rfl (Nat.le_of_ble_eq_true rfl) (x15.kd (x11.kd k1 (by decide)) (by decide)) (by decide) rfl (C.monoE H (fun o h18 _ x20 K => cont_I K (fun v19 H => ?_) (fun r HX => XR_nc rfl HX)))
          refine r_aload_n dX4_best_71 rfl rfl ?_
          refine r_iload_n dX4_best_72 rfl rfl ?_
          refine r_invV (y := m_X4_farOf) dX4_best_73 rfl (lw_V q3462 q3464 qp93 q122 q3465) py_X4_farOf (Nat.le_of_ble_eq_true rfl) (args := [_]) rfl rfl (Nat.le_of_ble_eq_true rfl) (x20.kd (x15.kd (x11.kd k1 (by decide)) (by decide)) (by decide)) (by decide) rfl (C.monoE H (fun o h21 _ x23 K => cont_I K (fun v22 H => ?_) (fun r HX => XR_nc rfl HX)))
          refine r_iadd dX4_best_76 ?_
          refine r_aload_n dX4_best_77 rfl rfl ?_
          refine r_iload_n dX4_best_78 rfl rfl ?_
          refine r_iconst dX4_best_79 rfl ?_
          refine r_invV (y := m_X4_of) dX4_best_80 rfl (lw_V q3362 q3364 qp79 q122 q3365) py_X4_of (Nat.le_of_ble_eq_true rfl) (args := [_, _]) rfl rfl (Nat.le_of_ble_eq_true rfl) (x23.kd (x20.kd (x15.kd (x11.kd k1 (by decide)) (by decide)) (by decide)) (by decide)) (by decide) rfl (C.monoE H (fun o h24 _ x26 K => cont_I K (fun v25 H => ?_) (fun r HX => XR_nc rfl HX)))
          refine r_isub dX4_best_83 ?_
          refine r_aload_n dX4_best_84 rfl rfl ?_
          refine r_iload_n dX4_best_85 rfl rfl ?_
          refine r_invV (y := m_X4_farOf) dX4_best_86 rfl (lw_V q3462 q3464 qp93 q122 q3465) py_X4_farOf (Nat.le_of_ble_eq_true rfl) (args := [_]) rfl rfl (Nat.le_of_ble_eq_true rfl) (x26.kd (x23.kd (x20.kd (x15.kd (x11.kd k1 (by decide)) (by decide)) (by decide)) (by decide)) (by decide)) (by decide) rfl (C.monoE H (fun o h27 _ x29 K => cont_I K (fun v28 H => ?_) (fun r HX => XR_nc rfl HX)))
          refine r_isub dX4_best_89 ?_
          refine r_istore dX4_best_90 (Nat.le_of_ble_eq_true rfl) rfl (slS (slS (slS (slS sl0)))) ?_
          refine r_iload dX4_best_92 rfl ?_
          refine r_if_ne (tgt := 120) dX4_best_94 rfl (fun b30 => ?_) (fun b30 => ?_)
          · replace H := H.1 b30
            exact v_X4_best_120 H
          · replace H := H.2 b30
            refine r_aload_n dX4_best_97 rfl rfl ?_
            refine r_iload_n dX4_best_98 rfl rfl ?_
            refine r_aload_n dX4_best_99 rfl rfl ?_
            refine r_iload_n dX4_best_100 rfl rfl ?_
            refine r_invV (y := m_X4_farOf) dX4_best_101 rfl (lw_V q3462 q3464 qp93 q122 q3465) py_X4_farOf (Nat.le_of_ble_eq_true rfl) (args := [_]) rfl rfl (Nat.le_of_ble_eq_true rfl) (x29.kd (x26.kd (x23.kd (x20.kd (x15.kd (x11.kd k1 (by decide)) (by decide)) (by decide)) (by decide)) (by decide)) (by decide)) (by decide) rfl (C.monoE H (fun o h31 _ x33 K => cont_I K (fun v32 H => ?_) (fun r HX => XR_nc rfl HX)))
            refine r_invV (y := m_X4_massBehind) dX4_best_104 rfl (lw_V q3449 q3451 qp92 q122 q3452) py_X4_massBehind (Nat.le_of_ble_eq_true rfl) (args := [_, _]) rfl rfl (Nat.le_of_ble_eq_true rfl) (x33.kd (x29.kd (x26.kd (x23.kd (x20.kd (x15.kd (x11.kd k1 (by decide)) (by decide)) (by decide)) (by decide)) (by decide)) (by decide)) (by decide)) (by decide) rfl (C.monoE H (fun o h34 _ x36 K => cont_I K (fun v35 H => ?_) (fun r HX => XR_nc rfl HX)))
            refine r_aload_n dX4_best_107 rfl rfl ?_
            refine r_iload_n dX4_best_108 rfl rfl ?_
            refine r_aload_n dX4_best_109 rfl rfl ?_
            refine r_iload_n dX4_best_110 rfl rfl ?_
            refine r_invV (y := m_X4_farOf) dX4_best_111 rfl (lw_V q3462 q3464 qp93 q122 q3465) py_X4_farOf (Nat.le_of_ble_eq_true rfl) (args := [_]) rfl rfl (Nat.le_of_ble_eq_true rfl) (x36.kd (x33.kd (x29.kd (x26.kd (x23.kd (x20.kd (x15.kd (x11.kd k1 (by decide)) (by decide)) (by decide)) (by decide)) (by decide)) (by decide)) (by decide)) (by decide)) (by decide) rfl (C.monoE H (fun o h37 _ x39 K => cont_I K (fun v38 H => ?_) (fun r HX => XR_nc rfl HX)))
            refine r_invV (y := m_X4_massBehind) dX4_best_114 rfl (lw_V q3449 q3451 qp92 q122 q3452) py_X4_massBehind (Nat.le_of_ble_eq_true rfl) (args := [_, _]) rfl rfl (Nat.le_of_ble_eq_true rfl) (x39.kd (x36.kd (x33.kd (x29.kd (x26.kd (x23.kd (x20.kd (x15.kd (x11.kd k1 (by decide)) (by decide)) (by decide)) (by decide)) (by decide)) (by decide)) (by decide)) (by decide)) (by decide)) (by decide) rfl (C.monoE H (fun o h40 _ x42 K => cont_I K (fun v41 H => ?_) (fun r HX => XR_nc rfl HX)))
            refine r_isub dX4_best_117 ?_
            refine r_istore dX4_best_118 (Nat.le_of_ble_eq_true rfl) rfl (slS (slS (slS (slS sl0)))) ?_
            exact v_X4_best_120 H
        · replace H := H.2 b17
          refine r_iload_n dX4_best_60 rfl rfl ?_
          refine r_istore_n dX4_best_61 rfl (Nat.le_of_ble_eq_true rfl) rfl (slS (slS sl0)) ?_
          refine r_goto (tgt := 127) dX4_best_62 rfl ?_
          exact v_X4_best_127 H
      · replace H := H.2 b16
        refine r_goto (tgt := 127) dX4_best_53 rfl ?_
        exact v_X4_best_127 H
abbrev w_X4_best_0 (g : PG) (d : Nat) (l0 : Nat) (l1 : Int32) (h : PH) (Q : Out → PH → Prop) : Prop := hkd h l0 = 12 ∧ ∀ h2, h2 = setF 33 l0 (0 : Int32) h → C g d m_X4_in [.int l1, .int 0, .int 2] h2 (oI (fun v4 h3 => ((¬ v4 = 0) → R g d m_X4_best 24 [.ref l0, .int l1, .int (-1 : Int32), .int 0, .null] [] h3 Q) ∧ ((v4 = 0) → C g d m_X4_raises [.ref l0, .int 1] h3 (oI (fun v8 h7 => Q (.inl (some (.int v8))) h7) (fun r hx => Q (.inr r) hx)))) (fun r hx => Q (.inr r) hx))
theorem v_X4_best_0 {g : PG} {d : Nat} {l0 : Nat} {l1 : Int32} {h : PH} {Q : Out → PH → Prop} (H : w_X4_best_0 g d l0 l1 h Q) : R g d m_X4_best 0 [.ref l0, .int l1, .null, .null, .null] [] h Q := by
  refine r_aload_n dX4_best_0 rfl rfl ?_
  refine r_iconst dX4_best_1 rfl ?_
  obtain ⟨k1, H⟩ := H
  replace H := H _ rfl
  refine r_putF fw_X4_44_12 (by decide) dX4_best_2 k1 (by decide) rfl rfl ?_
  refine r_iload_n dX4_best_5 rfl rfl ?_
  refine r_iconst dX4_best_6 rfl ?_
  refine r_iconst dX4_best_7 rfl ?_
  refine r_invS (y := m_X4_in) dX4_best_8 rfl (lw_S q3315 q3316 q122 q3317) py_X4_in (Nat.le_of_ble_eq_true rfl) (args := [_, _, _]) rfl rfl (Nat.le_of_ble_eq_true rfl) (C.monoE H (fun o h3 _ x5 K => cont_I K (fun v4 H => ?_) (fun r HX => XR_nc rfl HX)))
  refine r_if_ne (tgt := 20) dX4_best_11 rfl (fun b6 => ?_) (fun b6 => ?_)
  · replace H := H.1 b6
    refine r_iconst dX4_best_20 rfl ?_
    refine r_istore_n dX4_best_21 rfl (Nat.le_of_ble_eq_true rfl) rfl (slS (slS sl0)) ?_
    refine r_iconst dX4_best_22 rfl ?_
    refine r_istore_n dX4_best_23 rfl (Nat.le_of_ble_eq_true rfl) rfl (slS (slS (slS sl0))) ?_
    exact H
  · replace H := H.2 b6
    refine r_aload_n dX4_best_14 rfl rfl ?_
    refine r_iconst dX4_best_15 rfl ?_
    refine r_invV (y := m_X4_raises) dX4_best_16 rfl (lw_V q3346 q3348 qp76 q122 q3349) py_X4_raises (Nat.le_of_ble_eq_true rfl) (args := [_]) rfl rfl (Nat.le_of_ble_eq_true rfl) (x5.kd k1 (by decide)) (by decide) rfl (C.monoE H (fun o h7 _ x9 K => cont_I K (fun v8 H => ?_) (fun r HX => XR_nc rfl HX)))
    exact r_iret dX4_best_19 rfl H
theorem c_X4_best_0 {g : PG} {d : Nat} {l0 : Nat} {l1 : Int32} {h : PH} {Q : Out → PH → Prop} (H : w_X4_best_0 g d l0 l1 h Q) : C g (d + 1) m_X4_best [.ref l0, .int l1] h Q := C_of_R rfl rfl (Nat.le_of_ble_eq_true rfl) rfl (v_X4_best_0 H)
abbrev w_X4_meltsIn_117 (g : PG) (d : Nat) (l0 : Nat) (h : PH) (Q : Out → PH → Prop) : Prop := hkd h l0 = 12 ∧ C g d m_X4_raises [.ref l0, .int 2] h (oI (fun v3 h2 => Q (.inl (some (.int v3))) h2) (fun r hx => Q (.inr r) hx))
theorem v_X4_meltsIn_117 {g : PG} {d : Nat} {l0 : Nat} {h : PH} {Q : Out → PH → Prop} (H : w_X4_meltsIn_117 g d l0 h Q) : R g d m_X4_meltsIn 117 [.ref l0, .null, .null, .null, .null] [] h Q := by
  refine r_aload_n dX4_meltsIn_117 rfl rfl ?_
  refine r_iconst dX4_meltsIn_118 rfl ?_
  obtain ⟨k1, H⟩ := H
  refine r_invV (y := m_X4_raises) dX4_meltsIn_119 rfl (lw_V q3346 q3348 qp76 q122 q3349) py_X4_raises (Nat.le_of_ble_eq_true rfl) (args := [_]) rfl rfl (Nat.le_of_ble_eq_true rfl) k1 (by decide) rfl (C.monoE H (fun o h2 _ x4 K => cont_I K (fun v3 H => ?_) (fun r HX => XR_nc rfl HX)))
  refine r_goto (tgt := 126) dX4_meltsIn_122 rfl ?_
  exact r_iret dX4_meltsIn_126 rfl H
abbrev w_X4_meltsIn_80 (g : PG) (d : Nat) (l0 : Nat) (l2 : Int32) (l3 : Int32) (l4 : Int32) (h : PH) (Q : Out → PH → Prop) : Prop := (((127 : Int32) ≤ l4) → (((48 : Int32) < l2) → w_X4_meltsIn_117 g d l0 h Q) ∧ ((¬ (48 : Int32) < l2) → ((0 ≤ l3) → Q (.inl (some (.int l2))) h) ∧ ((¬ 0 ≤ l3) → w_X4_meltsIn_117 g d l0 h Q))) ∧ ((¬ (127 : Int32) ≤ l4) → hkd h l0 = 12 ∧ hkd h (hG h 523 l0) / 100 = 1 ∧ vp_in l4 (hln h (hG h 523 l0)) ∧ hkd h (hG h 521 l0) / 100 = 1 ∧ hkd h (hG h 521 l0) % 100 < 50 ∧ vp_in l4 (hln h (hG h 521 l0)) ∧ ∀ h10, h10 = setA (hG h 521 l0) l4.toNatClampNeg (hA h (hG h 523 l0) l4.toNatClampNeg) h → R g d m_X4_meltsIn 80 [.ref l0, .null, .int l2, .int l3, .int (l4 + 1)] [] h10 Q)
theorem v_X4_meltsIn_80 {g : PG} {d : Nat} {l0 : Nat} {l2 : Int32} {l3 : Int32} {l4 : Int32} {h : PH} {Q : Out → PH → Prop} (H : w_X4_meltsIn_80 g d l0 l2 l3 l4 h Q) : R g d m_X4_meltsIn 80 [.ref l0, .null, .int l2, .int l3, .int l4] [] h Q := by
  refine r_iload dX4_meltsIn_80 rfl ?_
  refine r_bipush dX4_meltsIn_82 rfl ?_
  refine r_icmp_ge (tgt := 107) dX4_meltsIn_84 rfl (fun b1 => ?_) (fun b1 => ?_)
  · replace H := H.1 b1
    refine r_iload_n dX4_meltsIn_107 rfl rfl ?_
    refine r_bipush dX4_meltsIn_108 rfl ?_
    refine r_icmp_gt (tgt := 117) dX4_meltsIn_110 rfl (fun b2 => ?_) (fun b2 => ?_)
    · replace H := H.1 b2
      exact R.forget (v_X4_meltsIn_117 H) ⟨Or.inl rfl, ⟨Or.inl rfl, ⟨Or.inr rfl, ⟨Or.inr rfl, ⟨Or.inr rfl, trivial⟩⟩⟩⟩⟩
    · replace H := H.2 b2
      refine r_iload_n dX4_meltsIn_113 rfl rfl ?_
      refine r_if_ge (tgt := 125) dX4_meltsIn_114 rfl (fun b3 => ?_) (fun b3 => ?_)
      · replace H := H.1 b3
        refine r_iload_n dX4_meltsIn_125 rfl rfl ?_
        exact r_iret dX4_meltsIn_126 rfl H
      · replace H := H.2 b3
        exact R.forget (v_X4_meltsIn_117 H) ⟨Or.inl rfl, ⟨Or.inl rfl, ⟨Or.inr rfl, ⟨Or.inr rfl, ⟨Or.inr rfl, trivial⟩⟩⟩⟩⟩
  · replace H := H.2 b1
    refine r_aload_n dX4_meltsIn_87 rfl rfl ?_
    obtain ⟨k4, H⟩ := H
    refine r_getG fr_X4_9_12 (by decide) dX4_meltsIn_88 k4 (by decide) ?_
    refine r_iload dX4_meltsIn_91 rfl ?_
    refine r_aload_n dX4_meltsIn_93 rfl rfl ?_
    refine r_getG fr_X4_16_12 (by decide) dX4_meltsIn_94 k4 (by decide) ?_
    refine r_iload dX4_meltsIn_97 rfl ?_
    obtain ⟨k5, H⟩ := H
    obtain ⟨k6, H⟩ := H
    refine r_iald dX4_meltsIn_99 k5 k6 ?_
    obtain ⟨k7, H⟩ := H
    obtain ⟨k8, H⟩ := H
    obtain ⟨k9, H⟩ := H
    replace H := H _ rfl
    refine r_iast dX4_meltsIn_100 k7 k8 k9 ?_
    refine r_iinc dX4_meltsIn_101 rfl rfl (Nat.le_of_ble_eq_true rfl) rfl (slS (slS (slS (slS sl0)))) ?_
    refine r_goto (tgt := 80) dX4_meltsIn_104 rfl ?_
    exact H
abbrev w_X4_meltsIn_77 (g : PG) (d : Nat) (l0 : Nat) (l2 : Int32) (l3 : Int32) (h : PH) (Q : Out → PH → Prop) : Prop := R g d m_X4_meltsIn 80 [.ref l0, .null, .int l2, .int l3, .int 0] [] h Q
theorem v_X4_meltsIn_77 {g : PG} {d : Nat} {l0 : Nat} {l2 : Int32} {l3 : Int32} {h : PH} {Q : Out → PH → Prop} (H : w_X4_meltsIn_77 g d l0 l2 l3 h Q) : R g d m_X4_meltsIn 77 [.ref l0, .null, .int l2, .int l3, .null] [] h Q := by
  refine r_iconst dX4_meltsIn_77 rfl ?_
  refine r_istore dX4_meltsIn_78 (Nat.le_of_ble_eq_true rfl) rfl (slS (slS (slS (slS sl0)))) ?_
  exact H
abbrev w_X4_meltsIn_49 (g : PG) (d : Nat) (l0 : Nat) (l1 : Int32) (l2 : Int32) (l3 : Int32) (h : PH) (Q : Out → PH → Prop) : Prop := (((49 : Int32) ≤ l2) → w_X4_meltsIn_77 g d l0 l2 l3 h Q) ∧ ((¬ (49 : Int32) ≤ l2) → hkd h l0 = 12 ∧ C g d m_X4_of [.ref l0, .int l1, .int 2] h (oI (fun v4 h3 => ((v4 ≤ 0) → w_X4_meltsIn_77 g d l0 l2 l3 h3 Q) ∧ ((¬ v4 ≤ 0) → C g d m_X4_goesBy [.ref l0] h3 (oI (fun v8 h7 => R g d m_X4_meltsIn 49 [.ref l0, .int l1, .int (l2 + 1), .int (l3 + v8), .null] [] h7 Q) (fun r hx => Q (.inr r) hx)))) (fun r hx => Q (.inr r) hx)))
theorem v_X4_meltsIn_49 {g : PG} {d : Nat} {l0 : Nat} {l1 : Int32} {l2 : Int32} {l3 : Int32} {h : PH} {Q : Out → PH → Prop} (H : w_X4_meltsIn_49 g d l0 l1 l2 l3 h Q) : R g d m_X4_meltsIn 49 [.ref l0, .int l1, .int l2, .int l3, .null] [] h Q := by
  refine r_iload_n dX4_meltsIn_49 rfl rfl ?_
  refine r_bipush dX4_meltsIn_50 rfl ?_
  refine r_icmp_ge (tgt := 77) dX4_meltsIn_52 rfl (fun b1 => ?_) (fun b1 => ?_)
  · replace H := H.1 b1
    exact R.forget (v_X4_meltsIn_77 H) ⟨Or.inl rfl, ⟨Or.inr rfl, ⟨Or.inl rfl, ⟨Or.inl rfl, ⟨Or.inl rfl, trivial⟩⟩⟩⟩⟩
  · replace H := H.2 b1
    refine r_aload_n dX4_meltsIn_55 rfl rfl ?_
    refine r_iload_n dX4_meltsIn_56 rfl rfl ?_
    refine r_iconst dX4_meltsIn_57 rfl ?_
    obtain ⟨k2, H⟩ := H
    refine r_invV (y := m_X4_of) dX4_meltsIn_58 rfl (lw_V q3362 q3364 qp79 q122 q3365) py_X4_of (Nat.le_of_ble_eq_true rfl) (args := [_, _]) rfl rfl (Nat.le_of_ble_eq_true rfl) k2 (by decide) rfl (C.monoE H (fun o h3 _ x5 K => cont_I K (fun v4 H => ?_) (fun r HX => XR_nc rfl HX)))
    refine r_if_le (tgt := 77) dX4_meltsIn_61 rfl (fun b6 => ?_) (fun b6 => ?_)
    · replace H := H.1 b6
      exact R.forget (v_X4_meltsIn_77 H) ⟨Or.inl rfl, ⟨Or.inr rfl, ⟨Or.inl rfl, ⟨Or.inl rfl, ⟨Or.inl rfl, trivial⟩⟩⟩⟩⟩
    · replace H := H.2 b6
      refine r_iload_n dX4_meltsIn_64 rfl rfl ?_
      refine r_aload_n dX4_meltsIn_65 rfl rfl ?_
      refine r_invV (y := m_X4_goesBy) dX4_meltsIn_66 rfl (lw_V q3424 q3426 qp90 q122 q3427) py_X4_goesBy (Nat.le_of_ble_eq_true rfl) (args := []) rfl rfl (Nat.le_of_ble_eq_true rfl) (x5.kd k2 (by decide)) (by decide) rfl (C.monoE H (fun o h7 _ x9 K => cont_I K (fun v8 H => ?_) (fun r HX => XR_nc rfl HX)))
      refine r_iadd dX4_meltsIn_69 ?_
      refine r_istore_n dX4_meltsIn_70 rfl (Nat.le_of_ble_eq_true rfl) rfl (slS (slS (slS sl0))) ?_
      refine r_iinc dX4_meltsIn_71 rfl rfl (Nat.le_of_ble_eq_true rfl) rfl (slS (slS sl0)) ?_
      refine r_goto (tgt := 49) dX4_meltsIn_74 rfl ?_
      exact H
abbrev w_X4_meltsIn_21 (g : PG) (d : Nat) (l0 : Nat) (l1 : Int32) (l2 : Int32) (h : PH) (Q : Out → PH → Prop) : Prop := (((127 : Int32) ≤ l2) → R g d m_X4_meltsIn 49 [.ref l0, .int l1, .int 0, .int 0, .null] [] h Q) ∧ ((¬ (127 : Int32) ≤ l2) → hkd h l0 = 12 ∧ hkd h (hG h 521 l0) / 100 = 1 ∧ vp_in l2 (hln h (hG h 521 l0)) ∧ hkd h (hG h 523 l0) / 100 = 1 ∧ hkd h (hG h 523 l0) % 100 < 50 ∧ vp_in l2 (hln h (hG h 523 l0)) ∧ ∀ h8, h8 = setA (hG h 523 l0) l2.toNatClampNeg (hA h (hG h 521 l0) l2.toNatClampNeg) h → R g d m_X4_meltsIn 21 [.ref l0, .int l1, .int (l2 + 1), .null, .null] [] h8 Q)
theorem v_X4_meltsIn_21 {g : PG} {d : Nat} {l0 : Nat} {l1 : Int32} {l2 : Int32} {h : PH} {Q : Out → PH → Prop} (H : w_X4_meltsIn_21 g d l0 l1 l2 h Q) : R g d m_X4_meltsIn 21 [.ref l0, .int l1, .int l2, .null, .null] [] h Q := by
  refine r_iload_n dX4_meltsIn_21 rfl rfl ?_
  refine r_bipush dX4_meltsIn_22 rfl ?_
  refine r_icmp_ge (tgt := 45) dX4_meltsIn_24 rfl (fun b1 => ?_) (fun b1 => ?_)
  · replace H := H.1 b1
    refine r_iconst dX4_meltsIn_45 rfl ?_
    refine r_istore_n dX4_meltsIn_46 rfl (Nat.le_of_ble_eq_true rfl) rfl (slS (slS sl0)) ?_
    refine r_iconst dX4_meltsIn_47 rfl ?_
    refine r_istore_n dX4_meltsIn_48 rfl (Nat.le_of_ble_eq_true rfl) rfl (slS (slS (slS sl0))) ?_
    exact H
  · replace H := H.2 b1
    refine r_aload_n dX4_meltsIn_27 rfl rfl ?_
    obtain ⟨k2, H⟩ := H
    refine r_getG fr_X4_16_12 (by decide) dX4_meltsIn_28 k2 (by decide) ?_
    refine r_iload_n dX4_meltsIn_31 rfl rfl ?_
    refine r_aload_n dX4_meltsIn_32 rfl rfl ?_
    refine r_getG fr_X4_9_12 (by decide) dX4_meltsIn_33 k2 (by decide) ?_
    refine r_iload_n dX4_meltsIn_36 rfl rfl ?_
    obtain ⟨k3, H⟩ := H
    obtain ⟨k4, H⟩ := H
    refine r_iald dX4_meltsIn_37 k3 k4 ?_
    obtain ⟨k5, H⟩ := H
    obtain ⟨k6, H⟩ := H
    obtain ⟨k7, H⟩ := H
    replace H := H _ rfl
    refine r_iast dX4_meltsIn_38 k5 k6 k7 ?_
    refine r_iinc dX4_meltsIn_39 rfl rfl (Nat.le_of_ble_eq_true rfl) rfl (slS (slS sl0)) ?_
    refine r_goto (tgt := 21) dX4_meltsIn_42 rfl ?_
    exact H
abbrev w_X4_meltsIn_0 (g : PG) (d : Nat) (l0 : Nat) (l1 : Int32) (h : PH) (Q : Out → PH → Prop) : Prop := hkd h l0 = 12 ∧ ∀ h2, h2 = setF 33 l0 (0 : Int32) h → C g d m_X4_isMan [.ref l0, .int l1] h2 (oI (fun v4 h3 => ((¬ v4 = 0) → R g d m_X4_meltsIn 21 [.ref l0, .int l1, .int 0, .null, .null] [] h3 Q) ∧ ((v4 = 0) → C g d m_X4_raises [.ref l0, .int 1] h3 (oI (fun v8 h7 => Q (.inl (some (.int v8))) h7) (fun r hx => Q (.inr r) hx)))) (fun r hx => Q (.inr r) hx))
theorem v_X4_meltsIn_0 {g : PG} {d : Nat} {l0 : Nat} {l1 : Int32} {h : PH} {Q : Out → PH → Prop} (H : w_X4_meltsIn_0 g d l0 l1 h Q) : R g d m_X4_meltsIn 0 [.ref l0, .int l1, .null, .null, .null] [] h Q := by
  refine r_aload_n dX4_meltsIn_0 rfl rfl ?_
  refine r_iconst dX4_meltsIn_1 rfl ?_
  obtain ⟨k1, H⟩ := H
  replace H := H _ rfl
  refine r_putF fw_X4_44_12 (by decide) dX4_meltsIn_2 k1 (by decide) rfl rfl ?_
  refine r_aload_n dX4_meltsIn_5 rfl rfl ?_
  refine r_iload_n dX4_meltsIn_6 rfl rfl ?_
  refine r_invV (y := m_X4_isMan) dX4_meltsIn_7 rfl (lw_V q3358 q3360 qp78 q122 q3361) py_X4_isMan (Nat.le_of_ble_eq_true rfl) (args := [_]) rfl rfl (Nat.le_of_ble_eq_true rfl) k1 (by decide) rfl (C.monoE H (fun o h3 _ x5 K => cont_I K (fun v4 H => ?_) (fun r HX => XR_nc rfl HX)))
  refine r_if_ne (tgt := 19) dX4_meltsIn_10 rfl (fun b6 => ?_) (fun b6 => ?_)
  · replace H := H.1 b6
    refine r_iconst dX4_meltsIn_19 rfl ?_
    refine r_istore_n dX4_meltsIn_20 rfl (Nat.le_of_ble_eq_true rfl) rfl (slS (slS sl0)) ?_
    exact H
  · replace H := H.2 b6
    refine r_aload_n dX4_meltsIn_13 rfl rfl ?_
    refine r_iconst dX4_meltsIn_14 rfl ?_
    refine r_invV (y := m_X4_raises) dX4_meltsIn_15 rfl (lw_V q3346 q3348 qp76 q122 q3349) py_X4_raises (Nat.le_of_ble_eq_true rfl) (args := [_]) rfl rfl (Nat.le_of_ble_eq_true rfl) (x5.kd k1 (by decide)) (by decide) rfl (C.monoE H (fun o h7 _ x9 K => cont_I K (fun v8 H => ?_) (fun r HX => XR_nc rfl HX)))
    exact r_iret dX4_meltsIn_18 rfl H
theorem c_X4_meltsIn_0 {g : PG} {d : Nat} {l0 : Nat} {l1 : Int32} {h : PH} {Q : Out → PH → Prop} (H : w_X4_meltsIn_0 g d l0 l1 h Q) : C g (d + 1) m_X4_meltsIn [.ref l0, .int l1] h Q := C_of_R rfl rfl (Nat.le_of_ble_eq_true rfl) rfl (v_X4_meltsIn_0 H)
abbrev w_X4_standing_42 (g : PG) (d : Nat) (l0 : Nat) (l1 : Int32) (l2 : Int32) (l3 : Int32) (l4 : Int32) (h : PH) (Q : Out → PH → Prop) : Prop := R g d m_X4_standing 17 [.ref l0, .int l1, .int l2, .int l3, .int (l4 + 1)] [] h Q
theorem v_X4_standing_42 {g : PG} {d : Nat} {l0 : Nat} {l1 : Int32} {l2 : Int32} {l3 : Int32} {l4 : Int32} {h : PH} {Q : Out → PH → Prop} (H : w_X4_standing_42 g d l0 l1 l2 l3 l4 h Q) : R g d m_X4_standing 42 [.ref l0, .int l1, .int l2, .int l3, .int l4] [] h Q := by
  refine r_iinc dX4_standing_42 rfl rfl (Nat.le_of_ble_eq_true rfl) rfl (slS (slS (slS (slS sl0)))) ?_
  refine r_goto (tgt := 17) dX4_standing_45 rfl ?_
  exact H
abbrev w_X4_standing_17 (g : PG) (d : Nat) (l0 : Nat) (l1 : Int32) (l2 : Int32) (l3 : Int32) (l4 : Int32) (h : PH) (Q : Out → PH → Prop) : Prop := (((3 : Int32) ≤ l4) → ((¬ l3 = l1) → R g d m_X4_standing 7 [.ref l0, .int l1, .int (l2 + 1), .null, .null] [] h Q) ∧ ((l3 = l1) → Q (.inl (some (.int l2))) h)) ∧ ((¬ (3 : Int32) ≤ l4) → ((l4 = l2) → w_X4_standing_42 g d l0 l1 l2 l3 l4 h Q) ∧ ((¬ l4 = l2) → hkd h l0 = 12 ∧ C g d m_X4_isAhead [.ref l0, .int l4, .int l2] h (oI (fun v6 h5 => ((v6 = 0) → w_X4_standing_42 g d l0 l1 l2 l3 l4 h5 Q) ∧ ((¬ v6 = 0) → w_X4_standing_42 g d l0 l1 l2 (l3 + 1) l4 h5 Q)) (fun r hx => Q (.inr r) hx))))
theorem v_X4_standing_17 {g : PG} {d : Nat} {l0 : Nat} {l1 : Int32} {l2 : Int32} {l3 : Int32} {l4 : Int32} {h : PH} {Q : Out → PH → Prop} (H : w_X4_standing_17 g d l0 l1 l2 l3 l4 h Q) : R g d m_X4_standing 17 [.ref l0, .int l1, .int l2, .int l3, .int l4] [] h Q := by
  refine r_iload dX4_standing_17 rfl ?_
  refine r_iconst dX4_standing_19 rfl ?_
  refine r_icmp_ge (tgt := 48) dX4_standing_20 rfl (fun b1 => ?_) (fun b1 => ?_)
  · replace H := H.1 b1
    refine r_iload_n dX4_standing_48 rfl rfl ?_
    refine r_iload_n dX4_standing_49 rfl rfl ?_
    refine r_icmp_ne (tgt := 55) dX4_standing_50 rfl (fun b2 => ?_) (fun b2 => ?_)
    · replace H := H.1 b2
      refine r_iinc dX4_standing_55 rfl rfl (Nat.le_of_ble_eq_true rfl) rfl (slS (slS sl0)) ?_
      refine r_goto (tgt := 7) dX4_standing_58 rfl ?_
      exact R.forget H ⟨Or.inl rfl, ⟨Or.inl rfl, ⟨Or.inl rfl, ⟨Or.inr rfl, ⟨Or.inr rfl, trivial⟩⟩⟩⟩⟩
    · replace H := H.2 b2
      refine r_iload_n dX4_standing_53 rfl rfl ?_
      exact r_iret dX4_standing_54 rfl H
  · replace H := H.2 b1
    refine r_iload dX4_standing_23 rfl ?_
    refine r_iload_n dX4_standing_25 rfl rfl ?_
    refine r_icmp_eq (tgt := 42) dX4_standing_26 rfl (fun b3 => ?_) (fun b3 => ?_)
    · replace H := H.1 b3
      exact v_X4_standing_42 H
    · replace H := H.2 b3
      refine r_aload_n dX4_standing_29 rfl rfl ?_
      refine r_iload dX4_standing_30 rfl ?_
      refine r_iload_n dX4_standing_32 rfl rfl ?_
      obtain ⟨k4, H⟩ := H
      refine r_invV (y := m_X4_isAhead) dX4_standing_33 rfl (lw_V q3478 q3480 qp94 q122 q3481) py_X4_isAhead (Nat.le_of_ble_eq_true rfl) (args := [_, _]) rfl rfl (Nat.le_of_ble_eq_true rfl) k4 (by decide) rfl (C.monoE H (fun o h5 _ x7 K => cont_I K (fun v6 H => ?_) (fun r HX => XR_nc rfl HX)))
      refine r_if_eq (tgt := 42) dX4_standing_36 rfl (fun b8 => ?_) (fun b8 => ?_)
      · replace H := H.1 b8
        exact v_X4_standing_42 H
      · replace H := H.2 b8
        refine r_iinc dX4_standing_39 rfl rfl (Nat.le_of_ble_eq_true rfl) rfl (slS (slS (slS sl0))) ?_
        exact v_X4_standing_42 H
abbrev w_X4_standing_7 (g : PG) (d : Nat) (l0 : Nat) (l1 : Int32) (l2 : Int32) (h : PH) (Q : Out → PH → Prop) : Prop := (((3 : Int32) ≤ l2) → hkd h l0 = 12 ∧ C g d m_X4_raises [.ref l0, .int 1] h (oI (fun v4 h3 => Q (.inl (some (.int v4))) h3) (fun r hx => Q (.inr r) hx))) ∧ ((¬ (3 : Int32) ≤ l2) → R g d m_X4_standing 17 [.ref l0, .int l1, .int l2, .int 0, .int 0] [] h Q)
theorem v_X4_standing_7 {g : PG} {d : Nat} {l0 : Nat} {l1 : Int32} {l2 : Int32} {h : PH} {Q : Out → PH → Prop} (H : w_X4_standing_7 g d l0 l1 l2 h Q) : R g d m_X4_standing 7 [.ref l0, .int l1, .int l2, .null, .null] [] h Q := by
  refine r_iload_n dX4_standing_7 rfl rfl ?_
  refine r_iconst dX4_standing_8 rfl ?_
  refine r_icmp_ge (tgt := 61) dX4_standing_9 rfl (fun b1 => ?_) (fun b1 => ?_)
  · replace H := H.1 b1
    refine r_aload_n dX4_standing_61 rfl rfl ?_
    refine r_iconst dX4_standing_62 rfl ?_
    obtain ⟨k2, H⟩ := H
    refine r_invV (y := m_X4_raises) dX4_standing_63 rfl (lw_V q3346 q3348 qp76 q122 q3349) py_X4_raises (Nat.le_of_ble_eq_true rfl) (args := [_]) rfl rfl (Nat.le_of_ble_eq_true rfl) k2 (by decide) rfl (C.monoE H (fun o h3 _ x5 K => cont_I K (fun v4 H => ?_) (fun r HX => XR_nc rfl HX)))
    exact r_iret dX4_standing_66 rfl H
  · replace H := H.2 b1
    refine r_iconst dX4_standing_12 rfl ?_
    refine r_istore_n dX4_standing_13 rfl (Nat.le_of_ble_eq_true rfl) rfl (slS (slS (slS sl0))) ?_
    refine r_iconst dX4_standing_14 rfl ?_
    refine r_istore dX4_standing_15 (Nat.le_of_ble_eq_true rfl) rfl (slS (slS (slS (slS sl0)))) ?_
    exact H
abbrev w_X4_standing_0 (g : PG) (d : Nat) (l0 : Nat) (l1 : Int32) (h : PH) (Q : Out → PH → Prop) : Prop := hkd h l0 = 12 ∧ ∀ h2, h2 = setF 33 l0 (0 : Int32) h → R g d m_X4_standing 7 [.ref l0, .int l1, .int 0, .null, .null] [] h2 Q
theorem v_X4_standing_0 {g : PG} {d : Nat} {l0 : Nat} {l1 : Int32} {h : PH} {Q : Out → PH → Prop} (H : w_X4_standing_0 g d l0 l1 h Q) : R g d m_X4_standing 0 [.ref l0, .int l1, .null, .null, .null] [] h Q := by
  refine r_aload_n dX4_standing_0 rfl rfl ?_
  refine r_iconst dX4_standing_1 rfl ?_
  obtain ⟨k1, H⟩ := H
  replace H := H _ rfl
  refine r_putF fw_X4_44_12 (by decide) dX4_standing_2 k1 (by decide) rfl rfl ?_
  refine r_iconst dX4_standing_5 rfl ?_
  refine r_istore_n dX4_standing_6 rfl (Nat.le_of_ble_eq_true rfl) rfl (slS (slS sl0)) ?_
  exact H
theorem c_X4_standing_0 {g : PG} {d : Nat} {l0 : Nat} {l1 : Int32} {h : PH} {Q : Out → PH → Prop} (H : w_X4_standing_0 g d l0 l1 h Q) : C g (d + 1) m_X4_standing [.ref l0, .int l1] h Q := C_of_R rfl rfl (Nat.le_of_ble_eq_true rfl) rfl (v_X4_standing_0 H)
abbrev w_X4_isAhead_80 (g : PG) (d : Nat) (l1 : Int32) (l2 : Int32) (l5 : Int32) (h : PH) (Q : Out → PH → Prop) : Prop := ((0 < l5) → Q (.inl (some (.int 1))) h) ∧ ((¬ 0 < l5) → ((¬ l5 = 0) → Q (.inl (some (.int 0))) h) ∧ ((l5 = 0) → ((l2 ≤ l1) → Q (.inl (some (.int 0))) h) ∧ ((¬ l2 ≤ l1) → Q (.inl (some (.int 1))) h)))
theorem v_X4_isAhead_80 {g : PG} {d : Nat} {l1 : Int32} {l2 : Int32} {l5 : Int32} {h : PH} {Q : Out → PH → Prop} (H : w_X4_isAhead_80 g d l1 l2 l5 h Q) : R g d m_X4_isAhead 80 [.null, .int l1, .int l2, .null, .null, .int l5] [] h Q := by
  refine r_iload dX4_isAhead_80 rfl ?_
  refine r_if_gt (tgt := 95) dX4_isAhead_82 rfl (fun b1 => ?_) (fun b1 => ?_)
  · replace H := H.1 b1
    refine r_iconst dX4_isAhead_95 rfl ?_
    refine r_goto (tgt := 100) dX4_isAhead_96 rfl ?_
    exact r_zret dX4_isAhead_100 rfl rfl H
  · replace H := H.2 b1
    refine r_iload dX4_isAhead_85 rfl ?_
    refine r_if_ne (tgt := 99) dX4_isAhead_87 rfl (fun b2 => ?_) (fun b2 => ?_)
    · replace H := H.1 b2
      refine r_iconst dX4_isAhead_99 rfl ?_
      exact r_zret dX4_isAhead_100 rfl rfl H
    · replace H := H.2 b2
      refine r_iload_n dX4_isAhead_90 rfl rfl ?_
      refine r_iload_n dX4_isAhead_91 rfl rfl ?_
      refine r_icmp_ge (tgt := 99) dX4_isAhead_92 rfl (fun b3 => ?_) (fun b3 => ?_)
      · replace H := H.1 b3
        refine r_iconst dX4_isAhead_99 rfl ?_
        exact r_zret dX4_isAhead_100 rfl rfl H
      · replace H := H.2 b3
        refine r_iconst dX4_isAhead_95 rfl ?_
        refine r_goto (tgt := 100) dX4_isAhead_96 rfl ?_
        exact r_zret dX4_isAhead_100 rfl rfl H
abbrev w_X4_isAhead_78 (g : PG) (d : Nat) (l1 : Int32) (l2 : Int32) (s0 : Int32) (h : PH) (Q : Out → PH → Prop) : Prop := w_X4_isAhead_80 g d l1 l2 s0 h Q
theorem v_X4_isAhead_78 {g : PG} {d : Nat} {l1 : Int32} {l2 : Int32} {s0 : Int32} {h : PH} {Q : Out → PH → Prop} (H : w_X4_isAhead_78 g d l1 l2 s0 h Q) : R g d m_X4_isAhead 78 [.null, .int l1, .int l2, .null, .null, .null] [.int s0] h Q := by
  refine r_istore dX4_isAhead_78 (Nat.le_of_ble_eq_true rfl) rfl (slS (slS (slS (slS (slS sl0))))) ?_
  exact v_X4_isAhead_80 H
abbrev w_X4_isAhead_48 (g : PG) (d : Nat) (l0 : Nat) (l1 : Int32) (l2 : Int32) (l3 : Int32) (l4 : Int32) (s0 : Int32) (s1 : Int32) (h : PH) (Q : Out → PH → Prop) : Prop := ((¬ (s0 - s1) = 0) → w_X4_isAhead_80 g d l1 l2 (s0 - s1) h Q) ∧ (((s0 - s1) = 0) → ((l3 ≤ 0) → hkd h l0 = 12 ∧ C g d m_X4_place [.ref l0, .int l1] h (oI (fun v5 h4 => C g d m_X4_place [.ref l0, .int l2] h4 (oI (fun v8 h7 => w_X4_isAhead_78 g d l1 l2 (v5 - v8) h7 Q) (fun r hx => Q (.inr r) hx))) (fun r hx => Q (.inr r) hx))) ∧ ((¬ l3 ≤ 0) → w_X4_isAhead_78 g d l1 l2 (l4 - l3) h Q))
theorem v_X4_isAhead_48 {g : PG} {d : Nat} {l0 : Nat} {l1 : Int32} {l2 : Int32} {l3 : Int32} {l4 : Int32} {s0 : Int32} {s1 : Int32} {h : PH} {Q : Out → PH → Prop} (H : w_X4_isAhead_48 g d l0 l1 l2 l3 l4 s0 s1 h Q) : R g d m_X4_isAhead 48 [.ref l0, .int l1, .int l2, .int l3, .int l4, .null] [.int s1, .int s0] h Q := by
  refine r_isub dX4_isAhead_48 ?_
  refine r_istore dX4_isAhead_49 (Nat.le_of_ble_eq_true rfl) rfl (slS (slS (slS (slS (slS sl0))))) ?_
  refine r_iload dX4_isAhead_51 rfl ?_
  refine r_if_ne (tgt := 80) dX4_isAhead_53 rfl (fun b1 => ?_) (fun b1 => ?_)
  · replace H := H.1 b1
    exact R.forget (v_X4_isAhead_80 H) ⟨Or.inr rfl, ⟨Or.inl rfl, ⟨Or.inl rfl, ⟨Or.inr rfl, ⟨Or.inr rfl, ⟨Or.inl rfl, trivial⟩⟩⟩⟩⟩⟩
  · replace H := H.2 b1
    refine r_iload_n dX4_isAhead_56 rfl rfl ?_
    refine r_if_le (tgt := 67) dX4_isAhead_57 rfl (fun b2 => ?_) (fun b2 => ?_)
    · replace H := H.1 b2
      refine r_aload_n dX4_isAhead_67 rfl rfl ?_
      refine r_iload_n dX4_isAhead_68 rfl rfl ?_
      obtain ⟨k3, H⟩ := H
      refine r_invV (y := m_X4_place) dX4_isAhead_69 rfl (lw_V q3441 q3443 qp91 q122 q3444) py_X4_place (Nat.le_of_ble_eq_true rfl) (args := [_]) rfl rfl (Nat.le_of_ble_eq_true rfl) k3 (by decide) rfl (C.monoE H (fun o h4 _ x6 K => cont_I K (fun v5 H => ?_) (fun r HX => XR_nc rfl HX)))
      refine r_aload_n dX4_isAhead_72 rfl rfl ?_
      refine r_iload_n dX4_isAhead_73 rfl rfl ?_
      refine r_invV (y := m_X4_place) dX4_isAhead_74 rfl (lw_V q3441 q3443 qp91 q122 q3444) py_X4_place (Nat.le_of_ble_eq_true rfl) (args := [_]) rfl rfl (Nat.le_of_ble_eq_true rfl) (x6.kd k3 (by decide)) (by decide) rfl (C.monoE H (fun o h7 _ x9 K => cont_I K (fun v8 H => ?_) (fun r HX => XR_nc rfl HX)))
      refine r_isub dX4_isAhead_77 ?_
      exact R.forget (v_X4_isAhead_78 H) ⟨Or.inr rfl, ⟨Or.inl rfl, ⟨Or.inl rfl, ⟨Or.inr rfl, ⟨Or.inr rfl, ⟨Or.inr rfl, trivial⟩⟩⟩⟩⟩⟩
    · replace H := H.2 b2
      refine r_iload dX4_isAhead_60 rfl ?_
      refine r_iload_n dX4_isAhead_62 rfl rfl ?_
      refine r_isub dX4_isAhead_63 ?_
      refine r_goto (tgt := 78) dX4_isAhead_64 rfl ?_
      exact R.forget (v_X4_isAhead_78 H) ⟨Or.inr rfl, ⟨Or.inl rfl, ⟨Or.inl rfl, ⟨Or.inr rfl, ⟨Or.inr rfl, ⟨Or.inr rfl, trivial⟩⟩⟩⟩⟩⟩
abbrev w_X4_isAhead_38 (g : PG) (d : Nat) (l0 : Nat) (l1 : Int32) (l2 : Int32) (l3 : Int32) (l4 : Int32) (s0 : Int32) (h : PH) (Q : Out → PH → Prop) : Prop := ((l4 ≤ 0) → w_X4_isAhead_48 g d l0 l1 l2 l3 l4 s0 (0 : Int32) h Q) ∧ ((¬ l4 ≤ 0) → w_X4_isAhead_48 g d l0 l1 l2 l3 l4 s0 (1 : Int32) h Q)
theorem v_X4_isAhead_38 {g : PG} {d : Nat} {l0 : Nat} {l1 : Int32} {l2 : Int32} {l3 : Int32} {l4 : Int32} {s0 : Int32} {h : PH} {Q : Out → PH → Prop} (H : w_X4_isAhead_38 g d l0 l1 l2 l3 l4 s0 h Q) : R g d m_X4_isAhead 38 [.ref l0, .int l1, .int l2, .int l3, .int l4, .null] [.int s0] h Q := by
  refine r_iload dX4_isAhead_38 rfl ?_
  refine r_if_le (tgt := 47) dX4_isAhead_40 rfl (fun b1 => ?_) (fun b1 => ?_)
  · replace H := H.1 b1
    refine r_iconst dX4_isAhead_47 rfl ?_
    exact v_X4_isAhead_48 H
  · replace H := H.2 b1
    refine r_iconst dX4_isAhead_43 rfl ?_
    refine r_goto (tgt := 48) dX4_isAhead_44 rfl ?_
    exact v_X4_isAhead_48 H
abbrev w_X4_isAhead_0 (g : PG) (d : Nat) (l0 : Nat) (l1 : Int32) (l2 : Int32) (h : PH) (Q : Out → PH → Prop) : Prop := hkd h l0 = 12 ∧ hkd h (hG h 521 l0) / 100 = 1 ∧ vp_in (((39 : Int32) + ((3 : Int32) * l1)) + (1 : Int32)) (hln h (hG h 521 l0)) ∧ vp_in (((39 : Int32) + ((3 : Int32) * l2)) + (1 : Int32)) (hln h (hG h 521 l0)) ∧ (((hA h (hG h 521 l0) (((39 : Int32) + ((3 : Int32) * l1)) + (1 : Int32)).toNatClampNeg) ≤ 0) → w_X4_isAhead_38 g d l0 l1 l2 (hA h (hG h 521 l0) (((39 : Int32) + ((3 : Int32) * l1)) + (1 : Int32)).toNatClampNeg) (hA h (hG h 521 l0) (((39 : Int32) + ((3 : Int32) * l2)) + (1 : Int32)).toNatClampNeg) (0 : Int32) h Q) ∧ ((¬ (hA h (hG h 521 l0) (((39 : Int32) + ((3 : Int32) * l1)) + (1 : Int32)).toNatClampNeg) ≤ 0) → w_X4_isAhead_38 g d l0 l1 l2 (hA h (hG h 521 l0) (((39 : Int32) + ((3 : Int32) * l1)) + (1 : Int32)).toNatClampNeg) (hA h (hG h 521 l0) (((39 : Int32) + ((3 : Int32) * l2)) + (1 : Int32)).toNatClampNeg) (1 : Int32) h Q)
theorem v_X4_isAhead_0 {g : PG} {d : Nat} {l0 : Nat} {l1 : Int32} {l2 : Int32} {h : PH} {Q : Out → PH → Prop} (H : w_X4_isAhead_0 g d l0 l1 l2 h Q) : R g d m_X4_isAhead 0 [.ref l0, .int l1, .int l2, .null, .null, .null] [] h Q := by
  refine r_aload_n dX4_isAhead_0 rfl rfl ?_
  obtain ⟨k1, H⟩ := H
  refine r_getG fr_X4_9_12 (by decide) dX4_isAhead_1 k1 (by decide) ?_
  refine r_bipush dX4_isAhead_4 rfl ?_
  refine r_iconst dX4_isAhead_6 rfl ?_
  refine r_iload_n dX4_isAhead_7 rfl rfl ?_
  refine r_imul dX4_isAhead_8 ?_
  refine r_iadd dX4_isAhead_9 ?_
  refine r_iconst dX4_isAhead_10 rfl ?_
  refine r_iadd dX4_isAhead_11 ?_
  obtain ⟨k2, H⟩ := H
  obtain ⟨k3, H⟩ := H
  refine r_iald dX4_isAhead_12 k2 k3 ?_
  refine r_istore_n dX4_isAhead_13 rfl (Nat.le_of_ble_eq_true rfl) rfl (slS (slS (slS sl0))) ?_
  refine r_aload_n dX4_isAhead_14 rfl rfl ?_
  refine r_getG fr_X4_9_12 (by decide) dX4_isAhead_15 k1 (by decide) ?_
  refine r_bipush dX4_isAhead_18 rfl ?_
  refine r_iconst dX4_isAhead_20 rfl ?_
  refine r_iload_n dX4_isAhead_21 rfl rfl ?_
  refine r_imul dX4_isAhead_22 ?_
  refine r_iadd dX4_isAhead_23 ?_
  refine r_iconst dX4_isAhead_24 rfl ?_
  refine r_iadd dX4_isAhead_25 ?_
  obtain ⟨k5, H⟩ := H
  refine r_iald dX4_isAhead_26 k2 k5 ?_
  refine r_istore dX4_isAhead_27 (Nat.le_of_ble_eq_true rfl) rfl (slS (slS (slS (slS sl0)))) ?_
  refine r_iload_n dX4_isAhead_29 rfl rfl ?_
  refine r_if_le (tgt := 37) dX4_isAhead_30 rfl (fun b6 => ?_) (fun b6 => ?_)
  · replace H := H.1 b6
    refine r_iconst dX4_isAhead_37 rfl ?_
    exact v_X4_isAhead_38 H
  · replace H := H.2 b6
    refine r_iconst dX4_isAhead_33 rfl ?_
    refine r_goto (tgt := 38) dX4_isAhead_34 rfl ?_
    exact v_X4_isAhead_38 H
theorem c_X4_isAhead_0 {g : PG} {d : Nat} {l0 : Nat} {l1 : Int32} {l2 : Int32} {h : PH} {Q : Out → PH → Prop} (H : w_X4_isAhead_0 g d l0 l1 l2 h Q) : C g (d + 1) m_X4_isAhead [.ref l0, .int l1, .int l2] h Q := C_of_R rfl rfl (Nat.le_of_ble_eq_true rfl) rfl (v_X4_isAhead_0 H)
abbrev w_X4_standingAgain_0 (g : PG) (d : Nat) (l0 : Nat) (l1 : Int32) (h : PH) (Q : Out → PH → Prop) : Prop := hkd h l0 = 12 ∧ C g d m_X4_standing [.ref l0, .int l1] h (oI (fun v3 h2 => Q (.inl (some (.int v3))) h2) (fun r hx => Q (.inr r) hx))
theorem v_X4_standingAgain_0 {g : PG} {d : Nat} {l0 : Nat} {l1 : Int32} {h : PH} {Q : Out → PH → Prop} (H : w_X4_standingAgain_0 g d l0 l1 h Q) : R g d m_X4_standingAgain 0 [.ref l0, .int l1] [] h Q := by
  refine r_aload_n dX4_standingAgain_0 rfl rfl ?_
  refine r_iload_n dX4_standingAgain_1 rfl rfl ?_
  obtain ⟨k1, H⟩ := H
  refine r_invV (y := m_X4_standing) dX4_standingAgain_2 rfl (lw_V q3486 q3475 q3476 q122 q3477) py_X4_standing (Nat.le_of_ble_eq_true rfl) (args := [_]) rfl rfl (Nat.le_of_ble_eq_true rfl) k1 (by decide) rfl (C.monoE H (fun o h2 _ x4 K => cont_I K (fun v3 H => ?_) (fun r HX => XR_nc rfl HX)))
  exact r_iret dX4_standingAgain_5 rfl H
theorem c_X4_standingAgain_0 {g : PG} {d : Nat} {l0 : Nat} {l1 : Int32} {h : PH} {Q : Out → PH → Prop} (H : w_X4_standingAgain_0 g d l0 l1 h Q) : C g (d + 1) m_X4_standingAgain [.ref l0, .int l1] h Q := C_of_R rfl rfl (Nat.le_of_ble_eq_true rfl) rfl (v_X4_standingAgain_0 H)
abbrev w_X4_ranked_52 (g : PG) (d : Nat) (l0 : Nat) (l1 : Int32) (l2 : Int32) (l3 : Int32) (l4 : Int32) (h : PH) (Q : Out → PH → Prop) : Prop := R g d m_X4_ranked 22 [.ref l0, .int l1, .int l2, .int l3, .int (l4 + 1)] [] h Q
theorem v_X4_ranked_52 {g : PG} {d : Nat} {l0 : Nat} {l1 : Int32} {l2 : Int32} {l3 : Int32} {l4 : Int32} {h : PH} {Q : Out → PH → Prop} (H : w_X4_ranked_52 g d l0 l1 l2 l3 l4 h Q) : R g d m_X4_ranked 52 [.ref l0, .int l1, .int l2, .int l3, .int l4] [] h Q := by
  refine r_iinc dX4_ranked_52 rfl rfl (Nat.le_of_ble_eq_true rfl) rfl (slS (slS (slS (slS sl0)))) ?_
  refine r_goto (tgt := 22) dX4_ranked_55 rfl ?_
  exact H
abbrev w_X4_ranked_22 (g : PG) (d : Nat) (l0 : Nat) (l1 : Int32) (l2 : Int32) (l3 : Int32) (l4 : Int32) (h : PH) (Q : Out → PH → Prop) : Prop := hkd h l0 = 12 ∧ hkd h (hG h 521 l0) / 100 = 1 ∧ vp_in (0 : Int32) (hln h (hG h 521 l0)) ∧ (((hA h (hG h 521 l0) (0 : Int32).toNatClampNeg) ≤ l4) → ((¬ l3 = l1) → R g d m_X4_ranked 7 [.ref l0, .int l1, .int (l2 + 1), .null, .null] [] h Q) ∧ ((l3 = l1) → Q (.inl (some (.int l2))) h)) ∧ ((¬ (hA h (hG h 521 l0) (0 : Int32).toNatClampNeg) ≤ l4) → ((l4 = l2) → w_X4_ranked_52 g d l0 l1 l2 l3 l4 h Q) ∧ ((¬ l4 = l2) → C g d m_X4_isHeavier [.ref l0, .int l4, .int l2] h (oI (fun v8 h7 => ((v8 = 0) → w_X4_ranked_52 g d l0 l1 l2 l3 l4 h7 Q) ∧ ((¬ v8 = 0) → w_X4_ranked_52 g d l0 l1 l2 (l3 + 1) l4 h7 Q)) (fun r hx => Q (.inr r) hx))))
theorem v_X4_ranked_22 {g : PG} {d : Nat} {l0 : Nat} {l1 : Int32} {l2 : Int32} {l3 : Int32} {l4 : Int32} {h : PH} {Q : Out → PH → Prop} (H : w_X4_ranked_22 g d l0 l1 l2 l3 l4 h Q) : R g d m_X4_ranked 22 [.ref l0, .int l1, .int l2, .int l3, .int l4] [] h Q := by
  refine r_iload dX4_ranked_22 rfl ?_
  refine r_aload_n dX4_ranked_24 rfl rfl ?_
  obtain ⟨k1, H⟩ := H
  refine r_getG fr_X4_9_12 (by decide) dX4_ranked_25 k1 (by decide) ?_
  refine r_iconst dX4_ranked_28 rfl ?_
  obtain ⟨k2, H⟩ := H
  obtain ⟨k3, H⟩ := H
  refine r_iald dX4_ranked_29 k2 k3 ?_
  refine r_icmp_ge (tgt := 58) dX4_ranked_30 rfl (fun b4 => ?_) (fun b4 => ?_)
  · replace H := H.1 b4
    refine r_iload_n dX4_ranked_58 rfl rfl ?_
    refine r_iload_n dX4_ranked_59 rfl rfl ?_
    refine r_icmp_ne (tgt := 65) dX4_ranked_60 rfl (fun b5 => ?_) (fun b5 => ?_)
    · replace H := H.1 b5
      refine r_iinc dX4_ranked_65 rfl rfl (Nat.le_of_ble_eq_true rfl) rfl (slS (slS sl0)) ?_
      refine r_goto (tgt := 7) dX4_ranked_68 rfl ?_
      exact R.forget H ⟨Or.inl rfl, ⟨Or.inl rfl, ⟨Or.inl rfl, ⟨Or.inr rfl, ⟨Or.inr rfl, trivial⟩⟩⟩⟩⟩
    · replace H := H.2 b5
      refine r_iload_n dX4_ranked_63 rfl rfl ?_
      exact r_iret dX4_ranked_64 rfl H
  · replace H := H.2 b4
    refine r_iload dX4_ranked_33 rfl ?_
    refine r_iload_n dX4_ranked_35 rfl rfl ?_
    refine r_icmp_eq (tgt := 52) dX4_ranked_36 rfl (fun b6 => ?_) (fun b6 => ?_)
    · replace H := H.1 b6
      exact v_X4_ranked_52 H
    · replace H := H.2 b6
      refine r_aload_n dX4_ranked_39 rfl rfl ?_
      refine r_iload dX4_ranked_40 rfl ?_
      refine r_iload_n dX4_ranked_42 rfl rfl ?_
      refine r_invV (y := m_X4_isHeavier) dX4_ranked_43 rfl (lw_V q3491 q3493 qp95 q122 q3494) py_X4_isHeavier (Nat.le_of_ble_eq_true rfl) (args := [_, _]) rfl rfl (Nat.le_of_ble_eq_true rfl) k1 (by decide) rfl (C.monoE H (fun o h7 _ x9 K => cont_I K (fun v8 H => ?_) (fun r HX => XR_nc rfl HX)))
      refine r_if_eq (tgt := 52) dX4_ranked_46 rfl (fun b10 => ?_) (fun b10 => ?_)
      · replace H := H.1 b10
        exact v_X4_ranked_52 H
      · replace H := H.2 b10
        refine r_iinc dX4_ranked_49 rfl rfl (Nat.le_of_ble_eq_true rfl) rfl (slS (slS (slS sl0))) ?_
        exact v_X4_ranked_52 H
abbrev w_X4_ranked_7 (g : PG) (d : Nat) (l0 : Nat) (l1 : Int32) (l2 : Int32) (h : PH) (Q : Out → PH → Prop) : Prop := hkd h l0 = 12 ∧ hkd h (hG h 521 l0) / 100 = 1 ∧ vp_in (0 : Int32) (hln h (hG h 521 l0)) ∧ (((hA h (hG h 521 l0) (0 : Int32).toNatClampNeg) ≤ l2) → C g d m_X4_raises [.ref l0, .int 1] h (oI (fun v6 h5 => Q (.inl (some (.int v6))) h5) (fun r hx => Q (.inr r) hx))) ∧ ((¬ (hA h (hG h 521 l0) (0 : Int32).toNatClampNeg) ≤ l2) → R g d m_X4_ranked 22 [.ref l0, .int l1, .int l2, .int 0, .int 0] [] h Q)
theorem v_X4_ranked_7 {g : PG} {d : Nat} {l0 : Nat} {l1 : Int32} {l2 : Int32} {h : PH} {Q : Out → PH → Prop} (H : w_X4_ranked_7 g d l0 l1 l2 h Q) : R g d m_X4_ranked 7 [.ref l0, .int l1, .int l2, .null, .null] [] h Q := by
  refine r_iload_n dX4_ranked_7 rfl rfl ?_
  refine r_aload_n dX4_ranked_8 rfl rfl ?_
  obtain ⟨k1, H⟩ := H
  refine r_getG fr_X4_9_12 (by decide) dX4_ranked_9 k1 (by decide) ?_
  refine r_iconst dX4_ranked_12 rfl ?_
  obtain ⟨k2, H⟩ := H
  obtain ⟨k3, H⟩ := H
  refine r_iald dX4_ranked_13 k2 k3 ?_
  refine r_icmp_ge (tgt := 71) dX4_ranked_14 rfl (fun b4 => ?_) (fun b4 => ?_)
  · replace H := H.1 b4
    refine r_aload_n dX4_ranked_71 rfl rfl ?_
    refine r_iconst dX4_ranked_72 rfl ?_
    refine r_invV (y := m_X4_raises) dX4_ranked_73 rfl (lw_V q3346 q3348 qp76 q122 q3349) py_X4_raises (Nat.le_of_ble_eq_true rfl) (args := [_]) rfl rfl (Nat.le_of_ble_eq_true rfl) k1 (by decide) rfl (C.monoE H (fun o h5 _ x7 K => cont_I K (fun v6 H => ?_) (fun r HX => XR_nc rfl HX)))
    exact r_iret dX4_ranked_76 rfl H
  · replace H := H.2 b4
    refine r_iconst dX4_ranked_17 rfl ?_
    refine r_istore_n dX4_ranked_18 rfl (Nat.le_of_ble_eq_true rfl) rfl (slS (slS (slS sl0))) ?_
    refine r_iconst dX4_ranked_19 rfl ?_
    refine r_istore dX4_ranked_20 (Nat.le_of_ble_eq_true rfl) rfl (slS (slS (slS (slS sl0)))) ?_
    exact H
abbrev w_X4_ranked_0 (g : PG) (d : Nat) (l0 : Nat) (l1 : Int32) (h : PH) (Q : Out → PH → Prop) : Prop := hkd h l0 = 12 ∧ ∀ h2, h2 = setF 33 l0 (0 : Int32) h → R g d m_X4_ranked 7 [.ref l0, .int l1, .int 0, .null, .null] [] h2 Q
theorem v_X4_ranked_0 {g : PG} {d : Nat} {l0 : Nat} {l1 : Int32} {h : PH} {Q : Out → PH → Prop} (H : w_X4_ranked_0 g d l0 l1 h Q) : R g d m_X4_ranked 0 [.ref l0, .int l1, .null, .null, .null] [] h Q := by
  refine r_aload_n dX4_ranked_0 rfl rfl ?_
  refine r_iconst dX4_ranked_1 rfl ?_
  obtain ⟨k1, H⟩ := H
  replace H := H _ rfl
  refine r_putF fw_X4_44_12 (by decide) dX4_ranked_2 k1 (by decide) rfl rfl ?_
  refine r_iconst dX4_ranked_5 rfl ?_
  refine r_istore_n dX4_ranked_6 rfl (Nat.le_of_ble_eq_true rfl) rfl (slS (slS sl0)) ?_
  exact H
theorem c_X4_ranked_0 {g : PG} {d : Nat} {l0 : Nat} {l1 : Int32} {h : PH} {Q : Out → PH → Prop} (H : w_X4_ranked_0 g d l0 l1 h Q) : C g (d + 1) m_X4_ranked [.ref l0, .int l1] h Q := C_of_R rfl rfl (Nat.le_of_ble_eq_true rfl) rfl (v_X4_ranked_0 H)
abbrev w_X4_isHeavier_32 (g : PG) (d : Nat) (l1 : Int32) (l2 : Int32) (l3 : Int32) (h : PH) (Q : Out → PH → Prop) : Prop := ((0 < l3) → Q (.inl (some (.int 1))) h) ∧ ((¬ 0 < l3) → ((¬ l3 = 0) → Q (.inl (some (.int 0))) h) ∧ ((l3 = 0) → ((l2 ≤ l1) → Q (.inl (some (.int 0))) h) ∧ ((¬ l2 ≤ l1) → Q (.inl (some (.int 1))) h)))
theorem v_X4_isHeavier_32 {g : PG} {d : Nat} {l1 : Int32} {l2 : Int32} {l3 : Int32} {h : PH} {Q : Out → PH → Prop} (H : w_X4_isHeavier_32 g d l1 l2 l3 h Q) : R g d m_X4_isHeavier 32 [.null, .int l1, .int l2, .int l3] [] h Q := by
  refine r_iload_n dX4_isHeavier_32 rfl rfl ?_
  refine r_if_gt (tgt := 45) dX4_isHeavier_33 rfl (fun b1 => ?_) (fun b1 => ?_)
  · replace H := H.1 b1
    refine r_iconst dX4_isHeavier_45 rfl ?_
    refine r_goto (tgt := 50) dX4_isHeavier_46 rfl ?_
    exact r_zret dX4_isHeavier_50 rfl rfl H
  · replace H := H.2 b1
    refine r_iload_n dX4_isHeavier_36 rfl rfl ?_
    refine r_if_ne (tgt := 49) dX4_isHeavier_37 rfl (fun b2 => ?_) (fun b2 => ?_)
    · replace H := H.1 b2
      refine r_iconst dX4_isHeavier_49 rfl ?_
      exact r_zret dX4_isHeavier_50 rfl rfl H
    · replace H := H.2 b2
      refine r_iload_n dX4_isHeavier_40 rfl rfl ?_
      refine r_iload_n dX4_isHeavier_41 rfl rfl ?_
      refine r_icmp_ge (tgt := 49) dX4_isHeavier_42 rfl (fun b3 => ?_) (fun b3 => ?_)
      · replace H := H.1 b3
        refine r_iconst dX4_isHeavier_49 rfl ?_
        exact r_zret dX4_isHeavier_50 rfl rfl H
      · replace H := H.2 b3
        refine r_iconst dX4_isHeavier_45 rfl ?_
        refine r_goto (tgt := 50) dX4_isHeavier_46 rfl ?_
        exact r_zret dX4_isHeavier_50 rfl rfl H
abbrev w_X4_isHeavier_0 (g : PG) (d : Nat) (l0 : Nat) (l1 : Int32) (l2 : Int32) (h : PH) (Q : Out → PH → Prop) : Prop := hkd h l0 = 12 ∧ C g d m_X4_of [.ref l0, .int l1, .int 2] h (oI (fun v3 h2 => C g d m_X4_of [.ref l0, .int l2, .int 2] h2 (oI (fun v6 h5 => ((¬ (v3 - v6) = 0) → w_X4_isHeavier_32 g d l1 l2 (v3 - v6) h5 Q) ∧ (((v3 - v6) = 0) → C g d m_X4_of [.ref l0, .int l1, .int 1] h5 (oI (fun v10 h9 => C g d m_X4_of [.ref l0, .int l2, .int 1] h9 (oI (fun v13 h12 => w_X4_isHeavier_32 g d l1 l2 (v10 - v13) h12 Q) (fun r hx => Q (.inr r) hx))) (fun r hx => Q (.inr r) hx)))) (fun r hx => Q (.inr r) hx))) (fun r hx => Q (.inr r) hx))
theorem v_X4_isHeavier_0 {g : PG} {d : Nat} {l0 : Nat} {l1 : Int32} {l2 : Int32} {h : PH} {Q : Out → PH → Prop} (H : w_X4_isHeavier_0 g d l0 l1 l2 h Q) : R g d m_X4_isHeavier 0 [.ref l0, .int l1, .int l2, .null] [] h Q := by
  refine r_aload_n dX4_isHeavier_0 rfl rfl ?_
  refine r_iload_n dX4_isHeavier_1 rfl rfl ?_
  refine r_iconst dX4_isHeavier_2 rfl ?_
  obtain ⟨k1, H⟩ := H
  refine r_invV (y := m_X4_of) dX4_isHeavier_3 rfl (lw_V q3362 q3364 qp79 q122 q3365) py_X4_of (Nat.le_of_ble_eq_true rfl) (args := [_, _]) rfl rfl (Nat.le_of_ble_eq_true rfl) k1 (by decide) rfl (C.monoE H (fun o h2 _ x4 K => cont_I K (fun v3 H => ?_) (fun r HX => XR_nc rfl HX)))
  refine r_aload_n dX4_isHeavier_6 rfl rfl ?_
  refine r_iload_n dX4_isHeavier_7 rfl rfl ?_
  refine r_iconst dX4_isHeavier_8 rfl ?_
  refine r_invV (y := m_X4_of) dX4_isHeavier_9 rfl (lw_V q3362 q3364 qp79 q122 q3365) py_X4_of (Nat.le_of_ble_eq_true rfl) (args := [_, _]) rfl rfl (Nat.le_of_ble_eq_true rfl) (x4.kd k1 (by decide)) (by decide) rfl (C.monoE H (fun o h5 _ x7 K => cont_I K (fun v6 H => ?_) (fun r HX => XR_nc rfl HX)))
  refine r_isub dX4_isHeavier_12 ?_
  refine r_istore_n dX4_isHeavier_13 rfl (Nat.le_of_ble_eq_true rfl) rfl (slS (slS (slS sl0))) ?_
  refine r_iload_n dX4_isHeavier_14 rfl rfl ?_
  refine r_if_ne (tgt := 32) dX4_isHeavier_15 rfl (fun b8 => ?_) (fun b8 => ?_)
  · replace H := H.1 b8
    exact R.forget (v_X4_isHeavier_32 H) ⟨Or.inr rfl, ⟨Or.inl rfl, ⟨Or.inl rfl, ⟨Or.inl rfl, trivial⟩⟩⟩⟩
  · replace H := H.2 b8
    refine r_aload_n dX4_isHeavier_18 rfl rfl ?_
    refine r_iload_n dX4_isHeavier_19 rfl rfl ?_
    refine r_iconst dX4_isHeavier_20 rfl ?_
    refine r_invV (y := m_X4_of) dX4_isHeavier_21 rfl (lw_V q3362 q3364 qp79 q122 q3365) py_X4_of (Nat.le_of_ble_eq_true rfl) (args := [_, _]) rfl rfl (Nat.le_of_ble_eq_true rfl) (x7.kd (x4.kd k1 (by decide)) (by decide)) (by decide) rfl (C.monoE H (fun o h9 _ x11 K => cont_I K (fun v10 H => ?_) (fun r HX => XR_nc rfl HX)))
    refine r_aload_n dX4_isHeavier_24 rfl rfl ?_
    refine r_iload_n dX4_isHeavier_25 rfl rfl ?_
    refine r_iconst dX4_isHeavier_26 rfl ?_
    refine r_invV (y := m_X4_of) dX4_isHeavier_27 rfl (lw_V q3362 q3364 qp79 q122 q3365) py_X4_of (Nat.le_of_ble_eq_true rfl) (args := [_, _]) rfl rfl (Nat.le_of_ble_eq_true rfl) (x11.kd (x7.kd (x4.kd k1 (by decide)) (by decide)) (by decide)) (by decide) rfl (C.monoE H (fun o h12 _ x14 K => cont_I K (fun v13 H => ?_) (fun r HX => XR_nc rfl HX)))
    refine r_isub dX4_isHeavier_30 ?_
    refine r_istore_n dX4_isHeavier_31 rfl (Nat.le_of_ble_eq_true rfl) rfl (slS (slS (slS sl0))) ?_
    exact R.forget (v_X4_isHeavier_32 H) ⟨Or.inr rfl, ⟨Or.inl rfl, ⟨Or.inl rfl, ⟨Or.inl rfl, trivial⟩⟩⟩⟩
theorem c_X4_isHeavier_0 {g : PG} {d : Nat} {l0 : Nat} {l1 : Int32} {l2 : Int32} {h : PH} {Q : Out → PH → Prop} (H : w_X4_isHeavier_0 g d l0 l1 l2 h Q) : C g (d + 1) m_X4_isHeavier [.ref l0, .int l1, .int l2] h Q := C_of_R rfl rfl (Nat.le_of_ble_eq_true rfl) rfl (v_X4_isHeavier_0 H)
abbrev w_X4_legOf_0 (g : PG) (d : Nat) (l0 : Nat) (l1 : Int32) (l2 : Int32) (h : PH) (Q : Out → PH → Prop) : Prop := hkd h l0 = 12 ∧ ∀ h2, h2 = setF 33 l0 (0 : Int32) h → hkd h2 (hG h2 521 l0) / 100 = 1 ∧ vp_in (2 : Int32) (hln h2 (hG h2 521 l0)) ∧ C g d m_X4_in [.int l1, .int 0, .int ((i32min (5 : Int32) (hA h2 (hG h2 521 l0) (2 : Int32).toNatClampNeg)) - (1 : Int32))] h2 (oI (fun v6 h5 => ((¬ v6 = 0) → C g d m_X4_in [.int l2, .int 0, .int 4] h5 (oI (fun v10 h9 => ((v10 = 0) → C g d m_X4_raises [.ref l0, .int 2] h9 (oI (fun v14 h13 => Q (.inl (some (.int v14))) h13) (fun r hx => Q (.inr r) hx))) ∧ ((¬ v10 = 0) → hkd h9 (hG h9 521 l0) / 100 = 1 ∧ vp_in (((102 : Int32) + ((5 : Int32) * l1)) + l2) (hln h9 (hG h9 521 l0)) ∧ Q (.inl (some (.int (hA h9 (hG h9 521 l0) (((102 : Int32) + ((5 : Int32) * l1)) + l2).toNatClampNeg)))) h9)) (fun r hx => Q (.inr r) hx))) ∧ ((v6 = 0) → C g d m_X4_raises [.ref l0, .int 1] h5 (oI (fun v19 h18 => Q (.inl (some (.int v19))) h18) (fun r hx => Q (.inr r) hx)))) (fun r hx => Q (.inr r) hx))
theorem v_X4_legOf_0 {g : PG} {d : Nat} {l0 : Nat} {l1 : Int32} {l2 : Int32} {h : PH} {Q : Out → PH → Prop} (H : w_X4_legOf_0 g d l0 l1 l2 h Q) : R g d m_X4_legOf 0 [.ref l0, .int l1, .int l2] [] h Q := by
  refine r_aload_n dX4_legOf_0 rfl rfl ?_
  refine r_iconst dX4_legOf_1 rfl ?_
  obtain ⟨k1, H⟩ := H
  replace H := H _ rfl
  refine r_putF fw_X4_44_12 (by decide) dX4_legOf_2 k1 (by decide) rfl rfl ?_
  refine r_iload_n dX4_legOf_5 rfl rfl ?_
  refine r_iconst dX4_legOf_6 rfl ?_
  refine r_iconst dX4_legOf_7 rfl ?_
  refine r_aload_n dX4_legOf_8 rfl rfl ?_
  refine r_getG fr_X4_9_12 (by decide) dX4_legOf_9 k1 (by decide) ?_
  refine r_iconst dX4_legOf_12 rfl ?_
  obtain ⟨k3, H⟩ := H
  obtain ⟨k4, H⟩ := H
  refine r_iald dX4_legOf_13 k3 k4 ?_
  refine r_mmin dX4_legOf_14 q3382 q485 q134 q486 (Nat.le_of_ble_eq_true rfl) ?_
  refine r_iconst dX4_legOf_17 rfl ?_
  refine r_isub dX4_legOf_18 ?_
  refine r_invS (y := m_X4_in) dX4_legOf_19 rfl (lw_S q3315 q3316 q122 q3317) py_X4_in (Nat.le_of_ble_eq_true rfl) (args := [_, _, _]) rfl rfl (Nat.le_of_ble_eq_true rfl) (C.monoE H (fun o h5 _ x7 K => cont_I K (fun v6 H => ?_) (fun r HX => XR_nc rfl HX)))
  refine r_if_ne (tgt := 31) dX4_legOf_22 rfl (fun b8 => ?_) (fun b8 => ?_)
  · replace H := H.1 b8
    refine r_iload_n dX4_legOf_31 rfl rfl ?_
    refine r_iconst dX4_legOf_32 rfl ?_
    refine r_iconst dX4_legOf_33 rfl ?_
    refine r_invS (y := m_X4_in) dX4_legOf_34 rfl (lw_S q3315 q3316 q122 q3317) py_X4_in (Nat.le_of_ble_eq_true rfl) (args := [_, _, _]) rfl rfl (Nat.le_of_ble_eq_true rfl) (C.monoE H (fun o h9 _ x11 K => cont_I K (fun v10 H => ?_) (fun r HX => XR_nc rfl HX)))
    refine r_if_eq (tgt := 56) dX4_legOf_37 rfl (fun b12 => ?_) (fun b12 => ?_)
    · replace H := H.1 b12
      refine r_aload_n dX4_legOf_56 rfl rfl ?_
      refine r_iconst dX4_legOf_57 rfl ?_
      refine r_invV (y := m_X4_raises) dX4_legOf_58 rfl (lw_V q3346 q3348 qp76 q122 q3349) py_X4_raises (Nat.le_of_ble_eq_true rfl) (args := [_]) rfl rfl (Nat.le_of_ble_eq_true rfl) (x11.kd (x7.kd k1 (by decide)) (by decide)) (by decide) rfl (C.monoE H (fun o h13 _ x15 K => cont_I K (fun v14 H => ?_) (fun r HX => XR_nc rfl HX)))
      exact r_iret dX4_legOf_61 rfl H
    · replace H := H.2 b12
      refine r_aload_n dX4_legOf_40 rfl rfl ?_
      refine r_getG fr_X4_9_12 (by decide) dX4_legOf_41 (x11.kd (x7.kd k1 (by decide)) (by decide)) (by decide) ?_
      refine r_bipush dX4_legOf_44 rfl ?_
      refine r_iconst dX4_legOf_46 rfl ?_
      refine r_iload_n dX4_legOf_47 rfl rfl ?_
      refine r_imul dX4_legOf_48 ?_
      refine r_iadd dX4_legOf_49 ?_
      refine r_iload_n dX4_legOf_50 rfl rfl ?_
      refine r_iadd dX4_legOf_51 ?_
      obtain ⟨k16, H⟩ := H
      obtain ⟨k17, H⟩ := H
      refine r_iald dX4_legOf_52 k16 k17 ?_
      refine r_goto (tgt := 61) dX4_legOf_53 rfl ?_
      exact r_iret dX4_legOf_61 rfl H
  · replace H := H.2 b8
    refine r_aload_n dX4_legOf_25 rfl rfl ?_
    refine r_iconst dX4_legOf_26 rfl ?_
    refine r_invV (y := m_X4_raises) dX4_legOf_27 rfl (lw_V q3346 q3348 qp76 q122 q3349) py_X4_raises (Nat.le_of_ble_eq_true rfl) (args := [_]) rfl rfl (Nat.le_of_ble_eq_true rfl) (x7.kd k1 (by decide)) (by decide) rfl (C.monoE H (fun o h18 _ x20 K => cont_I K (fun v19 H => ?_) (fun r HX => XR_nc rfl HX)))
    exact r_iret dX4_legOf_30 rfl H
theorem c_X4_legOf_0 {g : PG} {d : Nat} {l0 : Nat} {l1 : Int32} {l2 : Int32} {h : PH} {Q : Out → PH → Prop} (H : w_X4_legOf_0 g d l0 l1 l2 h Q) : C g (d + 1) m_X4_legOf [.ref l0, .int l1, .int l2] h Q := C_of_R rfl rfl (Nat.le_of_ble_eq_true rfl) rfl (v_X4_legOf_0 H)
abbrev w_X4_line_108 (g : PG) (d : Nat) (l0 : Nat) (l1 : Int32) (l2 : Int32) (h : PH) (Q : Out → PH → Prop) : Prop := R g d m_X4_line 88 [.ref l0, .int l1, .int (l2 + 1)] [] h Q
theorem v_X4_line_108 {g : PG} {d : Nat} {l0 : Nat} {l1 : Int32} {l2 : Int32} {h : PH} {Q : Out → PH → Prop} (H : w_X4_line_108 g d l0 l1 l2 h Q) : R g d m_X4_line 108 [.ref l0, .int l1, .int l2] [] h Q := by
  refine r_iinc dX4_line_108 rfl rfl (Nat.le_of_ble_eq_true rfl) rfl (slS (slS sl0)) ?_
  refine r_goto (tgt := 88) dX4_line_111 rfl ?_
  exact H
abbrev w_X4_line_88 (g : PG) (d : Nat) (l0 : Nat) (l1 : Int32) (l2 : Int32) (h : PH) (Q : Out → PH → Prop) : Prop := (((3 : Int32) ≤ l2) → R g d m_X4_line 12 [.ref l0, .int (l1 + 1), .null] [] h Q) ∧ ((¬ (3 : Int32) ≤ l2) → hkd h l0 = 12 ∧ C g d m_X4_lies [.ref l0, .int l2, .int l1] h (oI (fun v4 h3 => ((v4 = 0) → w_X4_line_108 g d l0 l1 l2 h3 Q) ∧ ((¬ v4 = 0) → C g d m_X4_signs [.ref l0, .int 94] h3 (oV (fun h7 => w_X4_line_108 g d l0 l1 l2 h7 Q) (fun r hx => Q (.inr r) hx)))) (fun r hx => Q (.inr r) hx)))
theorem v_X4_line_88 {g : PG} {d : Nat} {l0 : Nat} {l1 : Int32} {l2 : Int32} {h : PH} {Q : Out → PH → Prop} (H : w_X4_line_88 g d l0 l1 l2 h Q) : R g d m_X4_line 88 [.ref l0, .int l1, .int l2] [] h Q := by
  refine r_iload_n dX4_line_88 rfl rfl ?_
  refine r_iconst dX4_line_89 rfl ?_
  refine r_icmp_ge (tgt := 114) dX4_line_90 rfl (fun b1 => ?_) (fun b1 => ?_)
  · replace H := H.1 b1
    refine r_iinc dX4_line_114 rfl rfl (Nat.le_of_ble_eq_true rfl) rfl (slS sl0) ?_
    refine r_goto (tgt := 12) dX4_line_117 rfl ?_
    exact R.forget H ⟨Or.inl rfl, ⟨Or.inl rfl, ⟨Or.inr rfl, trivial⟩⟩⟩
  · replace H := H.2 b1
    refine r_aload_n dX4_line_93 rfl rfl ?_
    refine r_iload_n dX4_line_94 rfl rfl ?_
    refine r_iload_n dX4_line_95 rfl rfl ?_
    obtain ⟨k2, H⟩ := H
    refine r_invV (y := m_X4_lies) dX4_line_96 rfl (lw_V q3404 q3406 qp87 q122 q3407) py_X4_lies (Nat.le_of_ble_eq_true rfl) (args := [_, _]) rfl rfl (Nat.le_of_ble_eq_true rfl) k2 (by decide) rfl (C.monoE H (fun o h3 _ x5 K => cont_I K (fun v4 H => ?_) (fun r HX => XR_nc rfl HX)))
    refine r_if_eq (tgt := 108) dX4_line_99 rfl (fun b6 => ?_) (fun b6 => ?_)
    · replace H := H.1 b6
      exact v_X4_line_108 H
    · replace H := H.2 b6
      refine r_aload_n dX4_line_102 rfl rfl ?_
      refine r_bipush dX4_line_103 rfl ?_
      refine r_invV (y := m_X4_signs) dX4_line_105 rfl (lw_V q3503 q3505 qp96 q122 q3506) py_X4_signs (Nat.le_of_ble_eq_true rfl) (args := [_]) rfl rfl (Nat.le_of_ble_eq_true rfl) (x5.kd k2 (by decide)) (by decide) rfl (C.monoE H (fun o h7 _ x9 K => cont_V K (fun H => ?_) (fun r HX => XR_nc rfl HX)))
      exact v_X4_line_108 H
abbrev w_X4_line_65 (g : PG) (d : Nat) (l0 : Nat) (l1 : Int32) (l2 : Int32) (h : PH) (Q : Out → PH → Prop) : Prop := hkd h l0 = 12 ∧ C g d m_X4_noses [.ref l0, .int l1] h (oI (fun v3 h2 => ((v3 ≤ l2) → R g d m_X4_line 88 [.ref l0, .int l1, .int 0] [] h2 Q) ∧ ((¬ v3 ≤ l2) → C g d m_X4_signs [.ref l0, .int 39] h2 (oV (fun h6 => R g d m_X4_line 65 [.ref l0, .int l1, .int (l2 + 1)] [] h6 Q) (fun r hx => Q (.inr r) hx)))) (fun r hx => Q (.inr r) hx))
theorem v_X4_line_65 {g : PG} {d : Nat} {l0 : Nat} {l1 : Int32} {l2 : Int32} {h : PH} {Q : Out → PH → Prop} (H : w_X4_line_65 g d l0 l1 l2 h Q) : R g d m_X4_line 65 [.ref l0, .int l1, .int l2] [] h Q := by
  refine r_iload_n dX4_line_65 rfl rfl ?_
  refine r_aload_n dX4_line_66 rfl rfl ?_
  refine r_iload_n dX4_line_67 rfl rfl ?_
  obtain ⟨k1, H⟩ := H
  refine r_invV (y := m_X4_noses) dX4_line_68 rfl (lw_V q3400 q3402 qp86 q122 q3403) py_X4_noses (Nat.le_of_ble_eq_true rfl) (args := [_]) rfl rfl (Nat.le_of_ble_eq_true rfl) k1 (by decide) rfl (C.monoE H (fun o h2 _ x4 K => cont_I K (fun v3 H => ?_) (fun r HX => XR_nc rfl HX)))
  refine r_icmp_ge (tgt := 86) dX4_line_71 rfl (fun b5 => ?_) (fun b5 => ?_)
  · replace H := H.1 b5
    refine r_iconst dX4_line_86 rfl ?_
    refine r_istore_n dX4_line_87 rfl (Nat.le_of_ble_eq_true rfl) rfl (slS (slS sl0)) ?_
    exact H
  · replace H := H.2 b5
    refine r_aload_n dX4_line_74 rfl rfl ?_
    refine r_bipush dX4_line_75 rfl ?_
    refine r_invV (y := m_X4_signs) dX4_line_77 rfl (lw_V q3503 q3505 qp96 q122 q3506) py_X4_signs (Nat.le_of_ble_eq_true rfl) (args := [_]) rfl rfl (Nat.le_of_ble_eq_true rfl) (x4.kd k1 (by decide)) (by decide) rfl (C.monoE H (fun o h6 _ x8 K => cont_V K (fun H => ?_) (fun r HX => XR_nc rfl HX)))
    refine r_iinc dX4_line_80 rfl rfl (Nat.le_of_ble_eq_true rfl) rfl (slS (slS sl0)) ?_
    refine r_goto (tgt := 65) dX4_line_83 rfl ?_
    exact H
abbrev w_X4_line_63 (g : PG) (d : Nat) (l0 : Nat) (l1 : Int32) (h : PH) (Q : Out → PH → Prop) : Prop := R g d m_X4_line 65 [.ref l0, .int l1, .int 0] [] h Q
theorem v_X4_line_63 {g : PG} {d : Nat} {l0 : Nat} {l1 : Int32} {h : PH} {Q : Out → PH → Prop} (H : w_X4_line_63 g d l0 l1 h Q) : R g d m_X4_line 63 [.ref l0, .int l1, .null] [] h Q := by
  refine r_iconst dX4_line_63 rfl ?_
  refine r_istore_n dX4_line_64 rfl (Nat.le_of_ble_eq_true rfl) rfl (slS (slS sl0)) ?_
  exact H
abbrev w_X4_line_28 (g : PG) (d : Nat) (l0 : Nat) (l1 : Int32) (h : PH) (Q : Out → PH → Prop) : Prop := hkd h l0 = 12 ∧ hkd h (hG h 521 l0) / 100 = 1 ∧ vp_in ((3 : Int32) + ((3 : Int32) * l1)) (hln h (hG h 521 l0)) ∧ C g d m_X4_writes [.ref l0, .int (hA h (hG h 521 l0) ((3 : Int32) + ((3 : Int32) * l1)).toNatClampNeg)] h (oV (fun h4 => hkd h4 (hG h4 521 l0) / 100 = 1 ∧ vp_in (((3 : Int32) + ((3 : Int32) * l1)) + (1 : Int32)) (hln h4 (hG h4 521 l0)) ∧ (((hA h4 (hG h4 521 l0) (((3 : Int32) + ((3 : Int32) * l1)) + (1 : Int32)).toNatClampNeg) ≤ 0) → w_X4_line_63 g d l0 l1 h4 Q) ∧ ((¬ (hA h4 (hG h4 521 l0) (((3 : Int32) + ((3 : Int32) * l1)) + (1 : Int32)).toNatClampNeg) ≤ 0) → C g d m_X4_signs [.ref l0, .int 126] h4 (oV (fun h10 => w_X4_line_63 g d l0 l1 h10 Q) (fun r hx => Q (.inr r) hx)))) (fun r hx => Q (.inr r) hx))
theorem v_X4_line_28 {g : PG} {d : Nat} {l0 : Nat} {l1 : Int32} {h : PH} {Q : Out → PH → Prop} (H : w_X4_line_28 g d l0 l1 h Q) : R g d m_X4_line 28 [.ref l0, .int l1, .null] [] h Q := by
  refine r_aload_n dX4_line_28 rfl rfl ?_
  refine r_aload_n dX4_line_29 rfl rfl ?_
  obtain ⟨k1, H⟩ := H
  refine r_getG fr_X4_9_12 (by decide) dX4_line_30 k1 (by decide) ?_
  refine r_iconst dX4_line_33 rfl ?_
  refine r_iconst dX4_line_34 rfl ?_
  refine r_iload_n dX4_line_35 rfl rfl ?_
  refine r_imul dX4_line_36 ?_
  refine r_iadd dX4_line_37 ?_
  obtain ⟨k2, H⟩ := H
  obtain ⟨k3, H⟩ := H
  refine r_iald dX4_line_38 k2 k3 ?_
  refine r_invV (y := m_X4_writes) dX4_line_39 rfl (lw_V q3507 q3509 qp97 q122 q3510) py_X4_writes (Nat.le_of_ble_eq_true rfl) (args := [_]) rfl rfl (Nat.le_of_ble_eq_true rfl) k1 (by decide) rfl (C.monoE H (fun o h4 _ x6 K => cont_V K (fun H => ?_) (fun r HX => XR_nc rfl HX)))
  refine r_aload_n dX4_line_42 rfl rfl ?_
  refine r_getG fr_X4_9_12 (by decide) dX4_line_43 (x6.kd k1 (by decide)) (by decide) ?_
  refine r_iconst dX4_line_46 rfl ?_
  refine r_iconst dX4_line_47 rfl ?_
  refine r_iload_n dX4_line_48 rfl rfl ?_
  refine r_imul dX4_line_49 ?_
  refine r_iadd dX4_line_50 ?_
  refine r_iconst dX4_line_51 rfl ?_
  refine r_iadd dX4_line_52 ?_
  obtain ⟨k7, H⟩ := H
  obtain ⟨k8, H⟩ := H
  refine r_iald dX4_line_53 k7 k8 ?_
  refine r_if_le (tgt := 63) dX4_line_54 rfl (fun b9 => ?_) (fun b9 => ?_)
  · replace H := H.1 b9
    exact v_X4_line_63 H
  · replace H := H.2 b9
    refine r_aload_n dX4_line_57 rfl rfl ?_
    refine r_bipush dX4_line_58 rfl ?_
    refine r_invV (y := m_X4_signs) dX4_line_60 rfl (lw_V q3503 q3505 qp96 q122 q3506) py_X4_signs (Nat.le_of_ble_eq_true rfl) (args := [_]) rfl rfl (Nat.le_of_ble_eq_true rfl) (x6.kd k1 (by decide)) (by decide) rfl (C.monoE H (fun o h10 _ x12 K => cont_V K (fun H => ?_) (fun r HX => XR_nc rfl HX)))
    exact v_X4_line_63 H
abbrev w_X4_line_12 (g : PG) (d : Nat) (l0 : Nat) (l1 : Int32) (h : PH) (Q : Out → PH → Prop) : Prop := (((12 : Int32) ≤ l1) → hkd h l0 = 12 ∧ Q (.inl (some (.int (hF h 29 l0)))) h) ∧ ((¬ (12 : Int32) ≤ l1) → ((l1 ≤ 0) → w_X4_line_28 g d l0 l1 h Q) ∧ ((¬ l1 ≤ 0) → hkd h l0 = 12 ∧ C g d m_X4_signs [.ref l0, .int 32] h (oV (fun h5 => w_X4_line_28 g d l0 l1 h5 Q) (fun r hx => Q (.inr r) hx))))
theorem v_X4_line_12 {g : PG} {d : Nat} {l0 : Nat} {l1 : Int32} {h : PH} {Q : Out → PH → Prop} (H : w_X4_line_12 g d l0 l1 h Q) : R g d m_X4_line 12 [.ref l0, .int l1, .null] [] h Q := by
  refine r_iload_n dX4_line_12 rfl rfl ?_
  refine r_bipush dX4_line_13 rfl ?_
  refine r_icmp_ge (tgt := 120) dX4_line_15 rfl (fun b1 => ?_) (fun b1 => ?_)
  · replace H := H.1 b1
    refine r_aload_n dX4_line_120 rfl rfl ?_
    obtain ⟨k2, H⟩ := H
    refine r_getF fr_X4_170_12 (by decide) dX4_line_121 k2 (by decide) ?_
    exact r_iret dX4_line_124 rfl H
  · replace H := H.2 b1
    refine r_iload_n dX4_line_18 rfl rfl ?_
    refine r_if_le (tgt := 28) dX4_line_19 rfl (fun b3 => ?_) (fun b3 => ?_)
    · replace H := H.1 b3
      exact v_X4_line_28 H
    · replace H := H.2 b3
      refine r_aload_n dX4_line_22 rfl rfl ?_
      refine r_bipush dX4_line_23 rfl ?_
      obtain ⟨k4, H⟩ := H
      refine r_invV (y := m_X4_signs) dX4_line_25 rfl (lw_V q3503 q3505 qp96 q122 q3506) py_X4_signs (Nat.le_of_ble_eq_true rfl) (args := [_]) rfl rfl (Nat.le_of_ble_eq_true rfl) k4 (by decide) rfl (C.monoE H (fun o h5 _ x7 K => cont_V K (fun H => ?_) (fun r HX => XR_nc rfl HX)))
      exact v_X4_line_28 H
abbrev w_X4_line_0 (g : PG) (d : Nat) (l0 : Nat) (h : PH) (Q : Out → PH → Prop) : Prop := hkd h l0 = 12 ∧ ∀ h2, h2 = setF 33 l0 (0 : Int32) h → ∀ h3, h3 = setF 29 l0 (0 : Int32) h2 → R g d m_X4_line 12 [.ref l0, .int 0, .null] [] h3 Q
theorem v_X4_line_0 {g : PG} {d : Nat} {l0 : Nat} {h : PH} {Q : Out → PH → Prop} (H : w_X4_line_0 g d l0 h Q) : R g d m_X4_line 0 [.ref l0, .null, .null] [] h Q := by
  refine r_aload_n dX4_line_0 rfl rfl ?_
  refine r_iconst dX4_line_1 rfl ?_
  obtain ⟨k1, H⟩ := H
  replace H := H _ rfl
  refine r_putF fw_X4_44_12 (by decide) dX4_line_2 k1 (by decide) rfl rfl ?_
  refine r_aload_n dX4_line_5 rfl rfl ?_
  refine r_iconst dX4_line_6 rfl ?_
  replace H := H _ rfl
  refine r_putF fw_X4_170_12 (by decide) dX4_line_7 k1 (by decide) rfl rfl ?_
  refine r_iconst dX4_line_10 rfl ?_
  refine r_istore_n dX4_line_11 rfl (Nat.le_of_ble_eq_true rfl) rfl (slS sl0) ?_
  exact H
theorem c_X4_line_0 {g : PG} {d : Nat} {l0 : Nat} {h : PH} {Q : Out → PH → Prop} (H : w_X4_line_0 g d l0 h Q) : C g (d + 1) m_X4_line [.ref l0] h Q := C_of_R rfl rfl (Nat.le_of_ble_eq_true rfl) rfl (v_X4_line_0 H)
abbrev w_X4_signs_0 (g : PG) (d : Nat) (l0 : Nat) (l1 : Int32) (h : PH) (Q : Out → PH → Prop) : Prop := hkd h l0 = 12 ∧ ∀ h2, h2 = setF 29 l0 ((hF h 29 l0) + (1 : Int32)) h → hkd h2 (hG h 526 l0) / 100 = 2 ∧ hkd h2 (hG h 526 l0) % 100 < 50 ∧ vp_in (hF h 29 l0) (hln h2 (hG h 526 l0)) ∧ narrow .char (.int l1) = .int l1 ∧ ∀ h6, h6 = setA (hG h 526 l0) (hF h 29 l0).toNatClampNeg l1 h2 → Q (.inl none) h6
theorem v_X4_signs_0 {g : PG} {d : Nat} {l0 : Nat} {l1 : Int32} {h : PH} {Q : Out → PH → Prop} (H : w_X4_signs_0 g d l0 l1 h Q) : R g d m_X4_signs 0 [.ref l0, .int l1] [] h Q := by
  refine r_aload_n dX4_signs_0 rfl rfl ?_
  obtain ⟨k1, H⟩ := H
  refine r_getG fr_X4_25_12 (by decide) dX4_signs_1 k1 (by decide) ?_
  refine r_aload_n dX4_signs_4 rfl rfl ?_
  refine r_dup dX4_signs_5 rfl ?_
  refine r_getF fr_X4_170_12 (by decide) dX4_signs_6 k1 (by decide) ?_
  refine r_dup_x1 dX4_signs_9 rfl rfl ?_
  refine r_iconst dX4_signs_10 rfl ?_
  refine r_iadd dX4_signs_11 ?_
  replace H := H _ rfl
  refine r_putF fw_X4_170_12 (by decide) dX4_signs_12 k1 (by decide) rfl rfl ?_
  refine r_iload_n dX4_signs_15 rfl rfl ?_
  obtain ⟨k3, H⟩ := H
  obtain ⟨k4, H⟩ := H
  obtain ⟨k5, H⟩ := H
  obtain ⟨k7, H⟩ := H
  replace H := H _ rfl
  refine r_cast dX4_signs_16 k3 k4 k5 k7 ?_
  exact r_vret dX4_signs_17 rfl H
theorem c_X4_signs_0 {g : PG} {d : Nat} {l0 : Nat} {l1 : Int32} {h : PH} {Q : Out → PH → Prop} (H : w_X4_signs_0 g d l0 l1 h Q) : C g (d + 1) m_X4_signs [.ref l0, .int l1] h Q := C_of_R rfl rfl (Nat.le_of_ble_eq_true rfl) rfl (v_X4_signs_0 H)
abbrev w_X4_writes_29 (g : PG) (d : Nat) (l0 : Nat) (l2 : Int32) (h : PH) (Q : Out → PH → Prop) : Prop := hkd h l0 = 12 ∧ C g d m_X4_signs [.ref l0, .int ((((48 : Int32) + (l2 - l2 / (10 : Int32) * (10 : Int32))).toUInt32 % 65536).toInt32)] h (oV (fun h3 => Q (.inl none) h3) (fun r hx => Q (.inr r) hx))
theorem v_X4_writes_29 {g : PG} {d : Nat} {l0 : Nat} {l2 : Int32} {h : PH} {Q : Out → PH → Prop} (H : w_X4_writes_29 g d l0 l2 h Q) : R g d m_X4_writes 29 [.ref l0, .null, .int l2] [] h Q := by
  refine r_aload_n dX4_writes_29 rfl rfl ?_
  refine r_bipush dX4_writes_30 rfl ?_
  refine r_iload_n dX4_writes_32 rfl rfl ?_
  refine r_bipush dX4_writes_33 rfl ?_
  refine r_irem dX4_writes_35 (by decide) ?_
  refine r_iadd dX4_writes_36 ?_
  refine r_i2c dX4_writes_37 ?_
  obtain ⟨k2, H⟩ := H
  refine r_invV (y := m_X4_signs) dX4_writes_38 rfl (lw_V q3503 q3505 qp96 q122 q3506) py_X4_signs (Nat.le_of_ble_eq_true rfl) (args := [_]) rfl rfl (Nat.le_of_ble_eq_true rfl) k2 (by decide) rfl (C.monoE H (fun o h3 _ x5 K => cont_V K (fun H => ?_) (fun r HX => XR_nc rfl HX)))
  exact r_vret dX4_writes_41 rfl H
abbrev w_X4_writes_10 (g : PG) (d : Nat) (l0 : Nat) (l1 : Int32) (h : PH) (Q : Out → PH → Prop) : Prop := (((i32abs l1) ≤ (9 : Int32)) → w_X4_writes_29 g d l0 (i32abs l1) h Q) ∧ ((¬ (i32abs l1) ≤ (9 : Int32)) → hkd h l0 = 12 ∧ C g d m_X4_writes [.ref l0, .int ((i32abs l1) / (10 : Int32))] h (oV (fun h4 => w_X4_writes_29 g d l0 (i32abs l1) h4 Q) (fun r hx => Q (.inr r) hx)))
theorem v_X4_writes_10 {g : PG} {d : Nat} {l0 : Nat} {l1 : Int32} {h : PH} {Q : Out → PH → Prop} (H : w_X4_writes_10 g d l0 l1 h Q) : R g d m_X4_writes 10 [.ref l0, .int l1, .null] [] h Q := by
  refine r_iload_n dX4_writes_10 rfl rfl ?_
  refine r_mabs dX4_writes_11 q3391 q2534 q134 q2535 (Nat.le_of_ble_eq_true rfl) ?_
  refine r_istore_n dX4_writes_14 rfl (Nat.le_of_ble_eq_true rfl) rfl (slS (slS sl0)) ?_
  refine r_iload_n dX4_writes_15 rfl rfl ?_
  refine r_bipush dX4_writes_16 rfl ?_
  refine r_icmp_le (tgt := 29) dX4_writes_18 rfl (fun b1 => ?_) (fun b1 => ?_)
  · replace H := H.1 b1
    exact R.forget (v_X4_writes_29 H) ⟨Or.inl rfl, ⟨Or.inr rfl, ⟨Or.inl rfl, trivial⟩⟩⟩
  · replace H := H.2 b1
    refine r_aload_n dX4_writes_21 rfl rfl ?_
    refine r_iload_n dX4_writes_22 rfl rfl ?_
    refine r_bipush dX4_writes_23 rfl ?_
    refine r_idiv dX4_writes_25 (by decide) ?_
    obtain ⟨k3, H⟩ := H
    refine r_invV (y := m_X4_writes) dX4_writes_26 rfl (lw_V q3507 q3509 qp97 q122 q3510) py_X4_writes (Nat.le_of_ble_eq_true rfl) (args := [_]) rfl rfl (Nat.le_of_ble_eq_true rfl) k3 (by decide) rfl (C.monoE H (fun o h4 _ x6 K => cont_V K (fun H => ?_) (fun r HX => XR_nc rfl HX)))
    exact R.forget (v_X4_writes_29 H) ⟨Or.inl rfl, ⟨Or.inr rfl, ⟨Or.inl rfl, trivial⟩⟩⟩
abbrev w_X4_writes_0 (g : PG) (d : Nat) (l0 : Nat) (l1 : Int32) (h : PH) (Q : Out → PH → Prop) : Prop := ((0 ≤ l1) → w_X4_writes_10 g d l0 l1 h Q) ∧ ((¬ 0 ≤ l1) → hkd h l0 = 12 ∧ C g d m_X4_signs [.ref l0, .int 45] h (oV (fun h3 => w_X4_writes_10 g d l0 l1 h3 Q) (fun r hx => Q (.inr r) hx)))
theorem v_X4_writes_0 {g : PG} {d : Nat} {l0 : Nat} {l1 : Int32} {h : PH} {Q : Out → PH → Prop} (H : w_X4_writes_0 g d l0 l1 h Q) : R g d m_X4_writes 0 [.ref l0, .int l1, .null] [] h Q := by
  refine r_iload_n dX4_writes_0 rfl rfl ?_
  refine r_if_ge (tgt := 10) dX4_writes_1 rfl (fun b1 => ?_) (fun b1 => ?_)
  · replace H := H.1 b1
    exact v_X4_writes_10 H
  · replace H := H.2 b1
    refine r_aload_n dX4_writes_4 rfl rfl ?_
    refine r_bipush dX4_writes_5 rfl ?_
    obtain ⟨k2, H⟩ := H
    refine r_invV (y := m_X4_signs) dX4_writes_7 rfl (lw_V q3503 q3505 qp96 q122 q3506) py_X4_signs (Nat.le_of_ble_eq_true rfl) (args := [_]) rfl rfl (Nat.le_of_ble_eq_true rfl) k2 (by decide) rfl (C.monoE H (fun o h3 _ x5 K => cont_V K (fun H => ?_) (fun r HX => XR_nc rfl HX)))
    exact v_X4_writes_10 H
theorem c_X4_writes_0 {g : PG} {d : Nat} {l0 : Nat} {l1 : Int32} {h : PH} {Q : Out → PH → Prop} (H : w_X4_writes_0 g d l0 l1 h Q) : C g (d + 1) m_X4_writes [.ref l0, .int l1] h Q := C_of_R rfl rfl (Nat.le_of_ble_eq_true rfl) rfl (v_X4_writes_0 H)
abbrev w_X4_tell_87 (g : PG) (d : Nat) (l0 : Nat) (l1 : Int32) (h : PH) (Q : Out → PH → Prop) : Prop := hkd h l0 = 12 ∧ C g d m_X4_hasHat [.ref l0, .int l1] h (oI (fun v3 h2 => ((v3 = 0) → Q (.inl (some (.int (hF h2 29 l0)))) h2) ∧ ((¬ v3 = 0) → C g d m_X4_signs [.ref l0, .int 94] h2 (oV (fun h6 => Q (.inl (some (.int (hF h6 29 l0)))) h6) (fun r hx => Q (.inr r) hx)))) (fun r hx => Q (.inr r) hx))
theorem v_X4_tell_87 {g : PG} {d : Nat} {l0 : Nat} {l1 : Int32} {h : PH} {Q : Out → PH → Prop} (H : w_X4_tell_87 g d l0 l1 h Q) : R g d m_X4_tell 87 [.ref l0, .int l1] [] h Q := by
  refine r_aload_n dX4_tell_87 rfl rfl ?_
  refine r_iload_n dX4_tell_88 rfl rfl ?_
  obtain ⟨k1, H⟩ := H
  refine r_invV (y := m_X4_hasHat) dX4_tell_89 rfl (lw_V q3366 q3368 qp80 q122 q3369) py_X4_hasHat (Nat.le_of_ble_eq_true rfl) (args := [_]) rfl rfl (Nat.le_of_ble_eq_true rfl) k1 (by decide) rfl (C.monoE H (fun o h2 _ x4 K => cont_I K (fun v3 H => ?_) (fun r HX => XR_nc rfl HX)))
  refine r_if_eq (tgt := 101) dX4_tell_92 rfl (fun b5 => ?_) (fun b5 => ?_)
  · replace H := H.1 b5
    refine r_aload_n dX4_tell_101 rfl rfl ?_
    refine r_getF fr_X4_170_12 (by decide) dX4_tell_102 (x4.kd k1 (by decide)) (by decide) ?_
    exact r_iret dX4_tell_105 rfl H
  · replace H := H.2 b5
    refine r_aload_n dX4_tell_95 rfl rfl ?_
    refine r_bipush dX4_tell_96 rfl ?_
    refine r_invV (y := m_X4_signs) dX4_tell_98 rfl (lw_V q3503 q3505 qp96 q122 q3506) py_X4_signs (Nat.le_of_ble_eq_true rfl) (args := [_]) rfl rfl (Nat.le_of_ble_eq_true rfl) (x4.kd k1 (by decide)) (by decide) rfl (C.monoE H (fun o h6 _ x8 K => cont_V K (fun H => ?_) (fun r HX => XR_nc rfl HX)))
    refine r_aload_n dX4_tell_101 rfl rfl ?_
    refine r_getF fr_X4_170_12 (by decide) dX4_tell_102 (x8.kd (x4.kd k1 (by decide)) (by decide)) (by decide) ?_
    exact r_iret dX4_tell_105 rfl H
abbrev w_X4_tell_14 (g : PG) (d : Nat) (l0 : Nat) (l1 : Int32) (s0 : Nat) (s1 : Int32) (h : PH) (Q : Out → PH → Prop) : Prop := hkd h s0 = 12 ∧ ∀ h2, h2 = setF 33 s0 s1 h → hkd h2 l0 = 12 ∧ (((hF h2 33 l0) ≤ 0) → ∀ h5, h5 = setF 29 l0 (0 : Int32) h2 → C g d m_X4_of [.ref l0, .int l1, .int 0] h5 (oI (fun v7 h6 => C g d m_X4_signs [.ref l0, .int ((((97 : Int32) + v7).toUInt32 % 65536).toInt32)] h6 (oV (fun h9 => C g d m_X4_of [.ref l0, .int l1, .int 2] h9 (oI (fun v13 h12 => C g d m_X4_writes [.ref l0, .int v13] h12 (oV (fun h15 => C g d m_X4_signs [.ref l0, .int 64] h15 (oV (fun h18 => C g d m_X4_of [.ref l0, .int l1, .int 1] h18 (oI (fun v22 h21 => C g d m_X4_writes [.ref l0, .int v22] h21 (oV (fun h24 => C g d m_X4_of [.ref l0, .int l1, .int 3] h24 (oI (fun v28 h27 => ((¬ v28 = (1 : Int32)) → w_X4_tell_87 g d l0 l1 h27 Q) ∧ ((v28 = (1 : Int32)) → C g d m_X4_signs [.ref l0, .int 39] h27 (oV (fun h31 => w_X4_tell_87 g d l0 l1 h31 Q) (fun r hx => Q (.inr r) hx)))) (fun r hx => Q (.inr r) hx))) (fun r hx => Q (.inr r) hx))) (fun r hx => Q (.inr r) hx))) (fun r hx => Q (.inr r) hx))) (fun r hx => Q (.inr r) hx))) (fun r hx => Q (.inr r) hx))) (fun r hx => Q (.inr r) hx))) (fun r hx => Q (.inr r) hx))) ∧ ((¬ (hF h2 33 l0) ≤ 0) → Q (.inl (some (.int 0))) h2)
theorem v_X4_tell_14 {g : PG} {d : Nat} {l0 : Nat} {l1 : Int32} {s0 : Nat} {s1 : Int32} {h : PH} {Q : Out → PH → Prop} (H : w_X4_tell_14 g d l0 l1 s0 s1 h Q) : R g d m_X4_tell 14 [.ref l0, .int l1] [.int s1, .ref s0] h Q := by
  obtain ⟨k1, H⟩ := H
  replace H := H _ rfl
  refine r_putF fw_X4_44_12 (by decide) dX4_tell_14 k1 (by decide) rfl rfl ?_
  refine r_aload_n dX4_tell_17 rfl rfl ?_
  obtain ⟨k3, H⟩ := H
  refine r_getF fr_X4_44_12 (by decide) dX4_tell_18 k3 (by decide) ?_
  refine r_if_le (tgt := 26) dX4_tell_21 rfl (fun b4 => ?_) (fun b4 => ?_)
  · replace H := H.1 b4
    refine r_aload_n dX4_tell_26 rfl rfl ?_
    refine r_iconst dX4_tell_27 rfl ?_
    replace H := H _ rfl
    refine r_putF fw_X4_170_12 (by decide) dX4_tell_28 k3 (by decide) rfl rfl ?_
    refine r_aload_n dX4_tell_31 rfl rfl ?_
    refine r_bipush dX4_tell_32 rfl ?_
    refine r_aload_n dX4_tell_34 rfl rfl ?_
    refine r_iload_n dX4_tell_35 rfl rfl ?_
    refine r_iconst dX4_tell_36 rfl ?_
    refine r_invV (y := m_X4_of) dX4_tell_37 rfl (lw_V q3362 q3364 qp79 q122 q3365) py_X4_of (Nat.le_of_ble_eq_true rfl) (args := [_, _]) rfl rfl (Nat.le_of_ble_eq_true rfl) k3 (by decide) rfl (C.monoE H (fun o h6 _ x8 K => cont_I K (fun v7 H => ?_) (fun r HX => XR_nc rfl HX)))
    refine r_iadd dX4_tell_40 ?_
    refine r_i2c dX4_tell_41 ?_
    refine r_invV (y := m_X4_signs) dX4_tell_42 rfl (lw_V q3503 q3505 qp96 q122 q3506) py_X4_signs (Nat.le_of_ble_eq_true rfl) (args := [_]) rfl rfl (Nat.le_of_ble_eq_true rfl) (x8.kd k3 (by decide)) (by decide) rfl (C.monoE H (fun o h9 _ x11 K => cont_V K (fun H => ?_) (fun r HX => XR_nc rfl HX)))
    refine r_aload_n dX4_tell_45 rfl rfl ?_
    refine r_aload_n dX4_tell_46 rfl rfl ?_
    refine r_iload_n dX4_tell_47 rfl rfl ?_
    refine r_iconst dX4_tell_48 rfl ?_
    refine r_invV (y := m_X4_of) dX4_tell_49 rfl (lw_V q3362 q3364 qp79 q122 q3365) py_X4_of (Nat.le_of_ble_eq_true rfl) (args := [_, _]) rfl rfl (Nat.le_of_ble_eq_true rfl) (x11.kd (x8.kd k3 (by decide)) (by decide)) (by decide) rfl (C.monoE H (fun o h12 _ x14 K => cont_I K (fun v13 H => ?_) (fun r HX => XR_nc rfl HX)))
    refine r_invV (y := m_X4_writes) dX4_tell_52 rfl (lw_V q3507 q3509 qp97 q122 q3510) py_X4_writes (Nat.le_of_ble_eq_true rfl) (args := [_]) rfl rfl (Nat.le_of_ble_eq_true rfl) (x14.kd (x11.kd (x8.kd k3 (by decide)) (by decide)) (by decide)) (by decide) rfl (C.monoE H (fun o h15 _ x17 K => cont_V K (fun H => ?_) (fun r HX => XR_nc rfl HX)))
    refine r_aload_n dX4_tell_55 rfl rfl ?_
    refine r_bipush dX4_tell_56 rfl ?_
    refine r_invV (y := m_X4_signs) dX4_tell_58 rfl (lw_V q3503 q3505 qp96 q122 q3506) py_X4_signs (Nat.le_of_ble_eq_true rfl) (args := [_]) rfl rfl (Nat.le_of_ble_eq_true rfl) (x17.kd (x14.kd (x11.kd (x8.kd k3 (by decide)) (by decide)) (by decide)) (by decide)) (by decide) rfl (C.monoE H (fun o h18 _ x20 K => cont_V K (fun H => ?_) (fun r HX => XR_nc rfl HX)))
    refine r_aload_n dX4_tell_61 rfl rfl ?_
    refine r_aload_n dX4_tell_62 rfl rfl ?_
    refine r_iload_n dX4_tell_63 rfl rfl ?_
    refine r_iconst dX4_tell_64 rfl ?_
    refine r_invV (y := m_X4_of) dX4_tell_65 rfl (lw_V q3362 q3364 qp79 q122 q3365) py_X4_of (Nat.le_of_ble_eq_true rfl) (args := [_, _]) rfl rfl (Nat.le_of_ble_eq_true rfl) (x20.kd (x17.kd (x14.kd (x11.kd (x8.kd k3 (by decide)) (by decide)) (by decide)) (by decide)) (by decide)) (by decide) rfl (C.monoE H (fun o h21 _ x23 K => cont_I K (fun v22 H => ?_) (fun r HX => XR_nc rfl HX)))
    refine r_invV (y := m_X4_writes) dX4_tell_68 rfl (lw_V q3507 q3509 qp97 q122 q3510) py_X4_writes (Nat.le_of_ble_eq_true rfl) (args := [_]) rfl rfl (Nat.le_of_ble_eq_true rfl) (x23.kd (x20.kd (x17.kd (x14.kd (x11.kd (x8.kd k3 (by decide)) (by decide)) (by decide)) (by decide)) (by decide)) (by decide)) (by decide) rfl (C.monoE H (fun o h24 _ x26 K => cont_V K (fun H => ?_) (fun r HX => XR_nc rfl HX)))
    refine r_aload_n dX4_tell_71 rfl rfl ?_
    refine r_iload_n dX4_tell_72 rfl rfl ?_
    refine r_iconst dX4_tell_73 rfl ?_
    refine r_invV (y := m_X4_of) dX4_tell_74 rfl (lw_V q3362 q3364 qp79 q122 q3365) py_X4_of (Nat.le_of_ble_eq_true rfl) (args := [_, _]) rfl rfl (Nat.le_of_ble_eq_true rfl) (x26.kd (x23.kd (x20.kd (x17.kd (x14.kd (x11.kd (x8.kd k3 (by decide)) (by decide)) (by decide)) (by decide)) (by decide)) (by decide)) (by decide)) (by decide) rfl (C.monoE H (fun o h27 _ x29 K => cont_I K (fun v28 H => ?_) (fun r HX => XR_nc rfl HX)))
    refine r_iconst dX4_tell_77 rfl ?_
    refine r_icmp_ne (tgt := 87) dX4_tell_78 rfl (fun b30 => ?_) (fun b30 => ?_)
    · replace H := H.1 b30
      exact v_X4_tell_87 H
    · replace H := H.2 b30
      refine r_aload_n dX4_tell_81 rfl rfl ?_
      refine r_bipush dX4_tell_82 rfl ?_
      refine r_invV (y := m_X4_signs) dX4_tell_84 rfl (lw_V q3503 q3505 qp96 q122 q3506) py_X4_signs (Nat.le_of_ble_eq_true rfl) (args := [_]) rfl rfl (Nat.le_of_ble_eq_true rfl) (x29.kd (x26.kd (x23.kd (x20.kd (x17.kd (x14.kd (x11.kd (x8.kd k3 (by decide)) (by decide)) (by decide)) (by decide)) (by decide)) (by decide)) (by decide)) (by decide)) (by decide) rfl (C.monoE H (fun o h31 _ x33 K => cont_V K (fun H => ?_) (fun r HX => XR_nc rfl HX)))
      exact v_X4_tell_87 H
  · replace H := H.2 b4
    refine r_iconst dX4_tell_24 rfl ?_
    exact r_iret dX4_tell_25 rfl H
abbrev w_X4_tell_0 (g : PG) (d : Nat) (l0 : Nat) (l1 : Int32) (h : PH) (Q : Out → PH → Prop) : Prop := hkd h l0 = 12 ∧ C g d m_X4_isMan [.ref l0, .int l1] h (oI (fun v3 h2 => ((v3 = 0) → w_X4_tell_14 g d l0 l1 l0 (1 : Int32) h2 Q) ∧ ((¬ v3 = 0) → w_X4_tell_14 g d l0 l1 l0 (0 : Int32) h2 Q)) (fun r hx => Q (.inr r) hx))
theorem v_X4_tell_0 {g : PG} {d : Nat} {l0 : Nat} {l1 : Int32} {h : PH} {Q : Out → PH → Prop} (H : w_X4_tell_0 g d l0 l1 h Q) : R g d m_X4_tell 0 [.ref l0, .int l1] [] h Q := by
  refine r_aload_n dX4_tell_0 rfl rfl ?_
  refine r_aload_n dX4_tell_1 rfl rfl ?_
  refine r_iload_n dX4_tell_2 rfl rfl ?_
  obtain ⟨k1, H⟩ := H
  refine r_invV (y := m_X4_isMan) dX4_tell_3 rfl (lw_V q3358 q3360 qp78 q122 q3361) py_X4_isMan (Nat.le_of_ble_eq_true rfl) (args := [_]) rfl rfl (Nat.le_of_ble_eq_true rfl) k1 (by decide) rfl (C.monoE H (fun o h2 _ x4 K => cont_I K (fun v3 H => ?_) (fun r HX => XR_nc rfl HX)))
  refine r_if_eq (tgt := 13) dX4_tell_6 rfl (fun b5 => ?_) (fun b5 => ?_)
  · replace H := H.1 b5
    refine r_iconst dX4_tell_13 rfl ?_
    exact v_X4_tell_14 H
  · replace H := H.2 b5
    refine r_iconst dX4_tell_9 rfl ?_
    refine r_goto (tgt := 14) dX4_tell_10 rfl ?_
    exact v_X4_tell_14 H
theorem c_X4_tell_0 {g : PG} {d : Nat} {l0 : Nat} {l1 : Int32} {h : PH} {Q : Out → PH → Prop} (H : w_X4_tell_0 g d l0 l1 h Q) : C g (d + 1) m_X4_tell [.ref l0, .int l1] h Q := C_of_R rfl rfl (Nat.le_of_ble_eq_true rfl) rfl (v_X4_tell_0 H)
abbrev w_X4_character_20 (g : PG) (d : Nat) (l0 : Nat) (l1 : Int32) (s0 : Nat) (s1 : Int32) (h : PH) (Q : Out → PH → Prop) : Prop := hkd h s0 = 12 ∧ ∀ h2, h2 = setF 33 s0 s1 h → hkd h2 l0 = 12 ∧ ((¬ (hF h2 33 l0) = 0) → narrow .char (.int 97) = .int 97 ∧ Q (.inl (some (.int 97))) h2) ∧ (((hF h2 33 l0) = 0) → hkd h2 (hG h2 526 l0) / 100 = 2 ∧ vp_in l1 (hln h2 (hG h2 526 l0)) ∧ narrow .char (.int (hA h2 (hG h2 526 l0) l1.toNatClampNeg)) = .int (hA h2 (hG h2 526 l0) l1.toNatClampNeg) ∧ Q (.inl (some (.int (hA h2 (hG h2 526 l0) l1.toNatClampNeg)))) h2)
theorem v_X4_character_20 {g : PG} {d : Nat} {l0 : Nat} {l1 : Int32} {s0 : Nat} {s1 : Int32} {h : PH} {Q : Out → PH → Prop} (H : w_X4_character_20 g d l0 l1 s0 s1 h Q) : R g d m_X4_character 20 [.ref l0, .int l1] [.int s1, .ref s0] h Q := by
  obtain ⟨k1, H⟩ := H
  replace H := H _ rfl
  refine r_putF fw_X4_44_12 (by decide) dX4_character_20 k1 (by decide) rfl rfl ?_
  refine r_aload_n dX4_character_23 rfl rfl ?_
  obtain ⟨k3, H⟩ := H
  refine r_getF fr_X4_44_12 (by decide) dX4_character_24 k3 (by decide) ?_
  refine r_if_ne (tgt := 39) dX4_character_27 rfl (fun b4 => ?_) (fun b4 => ?_)
  · replace H := H.1 b4
    refine r_bipush dX4_character_39 rfl ?_
    exact r_zret dX4_character_41 rfl H.1 H.2
  · replace H := H.2 b4
    refine r_aload_n dX4_character_30 rfl rfl ?_
    refine r_getG fr_X4_25_12 (by decide) dX4_character_31 k3 (by decide) ?_
    refine r_iload_n dX4_character_34 rfl rfl ?_
    obtain ⟨k5, H⟩ := H
    obtain ⟨k6, H⟩ := H
    refine r_cald dX4_character_35 k5 k6 ?_
    refine r_goto (tgt := 41) dX4_character_36 rfl ?_
    exact r_zret dX4_character_41 rfl H.1 H.2
abbrev w_X4_character_0 (g : PG) (d : Nat) (l0 : Nat) (l1 : Int32) (h : PH) (Q : Out → PH → Prop) : Prop := hkd h l0 = 12 ∧ C g d m_X4_in [.int l1, .int 0, .int ((hF h 29 l0) - (1 : Int32))] h (oI (fun v3 h2 => ((v3 = 0) → w_X4_character_20 g d l0 l1 l0 (1 : Int32) h2 Q) ∧ ((¬ v3 = 0) → w_X4_character_20 g d l0 l1 l0 (0 : Int32) h2 Q)) (fun r hx => Q (.inr r) hx))
theorem v_X4_character_0 {g : PG} {d : Nat} {l0 : Nat} {l1 : Int32} {h : PH} {Q : Out → PH → Prop} (H : w_X4_character_0 g d l0 l1 h Q) : R g d m_X4_character 0 [.ref l0, .int l1] [] h Q := by
  refine r_aload_n dX4_character_0 rfl rfl ?_
  refine r_iload_n dX4_character_1 rfl rfl ?_
  refine r_iconst dX4_character_2 rfl ?_
  refine r_aload_n dX4_character_3 rfl rfl ?_
  obtain ⟨k1, H⟩ := H
  refine r_getF fr_X4_170_12 (by decide) dX4_character_4 k1 (by decide) ?_
  refine r_iconst dX4_character_7 rfl ?_
  refine r_isub dX4_character_8 ?_
  refine r_invS (y := m_X4_in) dX4_character_9 rfl (lw_S q3315 q3316 q122 q3317) py_X4_in (Nat.le_of_ble_eq_true rfl) (args := [_, _, _]) rfl rfl (Nat.le_of_ble_eq_true rfl) (C.monoE H (fun o h2 _ x4 K => cont_I K (fun v3 H => ?_) (fun r HX => XR_nc rfl HX)))
  refine r_if_eq (tgt := 19) dX4_character_12 rfl (fun b5 => ?_) (fun b5 => ?_)
  · replace H := H.1 b5
    refine r_iconst dX4_character_19 rfl ?_
    exact v_X4_character_20 H
  · replace H := H.2 b5
    refine r_iconst dX4_character_15 rfl ?_
    refine r_goto (tgt := 20) dX4_character_16 rfl ?_
    exact v_X4_character_20 H
theorem c_X4_character_0 {g : PG} {d : Nat} {l0 : Nat} {l1 : Int32} {h : PH} {Q : Out → PH → Prop} (H : w_X4_character_0 g d l0 l1 h Q) : C g (d + 1) m_X4_character [.ref l0, .int l1] h Q := C_of_R rfl rfl (Nat.le_of_ble_eq_true rfl) rfl (v_X4_character_0 H)
abbrev w_X4_isBalanced_0 (g : PG) (d : Nat) (l0 : Nat) (h : PH) (Q : Out → PH → Prop) : Prop := hkd h l0 = 12 ∧ ∀ h2, h2 = setF 33 l0 (0 : Int32) h → Q (.inl (some (.int 1))) h2
theorem v_X4_isBalanced_0 {g : PG} {d : Nat} {l0 : Nat} {h : PH} {Q : Out → PH → Prop} (H : w_X4_isBalanced_0 g d l0 h Q) : R g d m_X4_isBalanced 0 [.ref l0] [] h Q := by
  refine r_aload_n dX4_isBalanced_0 rfl rfl ?_
  refine r_iconst dX4_isBalanced_1 rfl ?_
  obtain ⟨k1, H⟩ := H
  replace H := H _ rfl
  refine r_putF fw_X4_44_12 (by decide) dX4_isBalanced_2 k1 (by decide) rfl rfl ?_
  refine r_iconst dX4_isBalanced_5 rfl ?_
  exact r_zret dX4_isBalanced_6 rfl rfl H
theorem c_X4_isBalanced_0 {g : PG} {d : Nat} {l0 : Nat} {h : PH} {Q : Out → PH → Prop} (H : w_X4_isBalanced_0 g d l0 h Q) : C g (d + 1) m_X4_isBalanced [.ref l0] h Q := C_of_R rfl rfl (Nat.le_of_ble_eq_true rfl) rfl (v_X4_isBalanced_0 H)
abbrev w_X4_meanDegree_0 (g : PG) (d : Nat) (l0 : Nat) (h : PH) (Q : Out → PH → Prop) : Prop := hkd h l0 = 12 ∧ ∀ h2, h2 = setF 33 l0 (0 : Int32) h → C g d m_X4_sumOf [.ref l0, .int 0] h2 (oI (fun v4 h3 => vf_n64 (FP.ddiv (FP.i2d v4) (4622945017495814144 : UInt64)) ∧ Q (.inl (some (.double (FP.ddiv (FP.i2d v4) (4622945017495814144 : UInt64))))) h3) (fun r hx => Q (.inr r) hx))
theorem v_X4_meanDegree_0 {g : PG} {d : Nat} {l0 : Nat} {h : PH} {Q : Out → PH → Prop} (H : w_X4_meanDegree_0 g d l0 h Q) : R g d m_X4_meanDegree 0 [.ref l0] [] h Q := by
  refine r_aload_n dX4_meanDegree_0 rfl rfl ?_
  refine r_iconst dX4_meanDegree_1 rfl ?_
  obtain ⟨k1, H⟩ := H
  replace H := H _ rfl
  refine r_putF fw_X4_44_12 (by decide) dX4_meanDegree_2 k1 (by decide) rfl rfl ?_
  refine r_aload_n dX4_meanDegree_5 rfl rfl ?_
  refine r_iconst dX4_meanDegree_6 rfl ?_
  refine r_invV (y := m_X4_sumOf) dX4_meanDegree_7 rfl (lw_V q3527 q3529 qp98 q122 q3530) py_X4_sumOf (Nat.le_of_ble_eq_true rfl) (args := [_]) rfl rfl (Nat.le_of_ble_eq_true rfl) k1 (by decide) rfl (C.monoE H (fun o h3 _ x5 K => cont_I K (fun v4 H => ?_) (fun r HX => XR_nc rfl HX)))
  refine r_i2d dX4_meanDegree_10 ?_
  refine r_ldc2d dX4_meanDegree_11 q3531 ?_
  obtain ⟨k6, H⟩ := H
  refine r_ddiv dX4_meanDegree_14 k6 ?_
  exact r_dret dX4_meanDegree_15 rfl H
theorem c_X4_meanDegree_0 {g : PG} {d : Nat} {l0 : Nat} {h : PH} {Q : Out → PH → Prop} (H : w_X4_meanDegree_0 g d l0 h Q) : C g (d + 1) m_X4_meanDegree [.ref l0] h Q := C_of_R rfl rfl (Nat.le_of_ble_eq_true rfl) rfl (v_X4_meanDegree_0 H)
abbrev w_X4_sumOf_4 (g : PG) (d : Nat) (l0 : Nat) (l1 : Int32) (l2 : Int32) (l3 : Int32) (h : PH) (Q : Out → PH → Prop) : Prop := (((12 : Int32) ≤ l3) → Q (.inl (some (.int l2))) h) ∧ ((¬ (12 : Int32) ≤ l3) → hkd h l0 = 12 ∧ hkd h (hG h 521 l0) / 100 = 1 ∧ vp_in (((3 : Int32) + ((3 : Int32) * l3)) + l1) (hln h (hG h 521 l0)) ∧ R g d m_X4_sumOf 4 [.ref l0, .int l1, .int (l2 + (hA h (hG h 521 l0) (((3 : Int32) + ((3 : Int32) * l3)) + l1).toNatClampNeg)), .int (l3 + 1)] [] h Q)
theorem v_X4_sumOf_4 {g : PG} {d : Nat} {l0 : Nat} {l1 : Int32} {l2 : Int32} {l3 : Int32} {h : PH} {Q : Out → PH → Prop} (H : w_X4_sumOf_4 g d l0 l1 l2 l3 h Q) : R g d m_X4_sumOf 4 [.ref l0, .int l1, .int l2, .int l3] [] h Q := by
  refine r_iload_n dX4_sumOf_4 rfl rfl ?_
  refine r_bipush dX4_sumOf_5 rfl ?_
  refine r_icmp_ge (tgt := 31) dX4_sumOf_7 rfl (fun b1 => ?_) (fun b1 => ?_)
  · replace H := H.1 b1
    refine r_iload_n dX4_sumOf_31 rfl rfl ?_
    exact r_iret dX4_sumOf_32 rfl H
  · replace H := H.2 b1
    refine r_iload_n dX4_sumOf_10 rfl rfl ?_
    refine r_aload_n dX4_sumOf_11 rfl rfl ?_
    obtain ⟨k2, H⟩ := H
    refine r_getG fr_X4_9_12 (by decide) dX4_sumOf_12 k2 (by decide) ?_
    refine r_iconst dX4_sumOf_15 rfl ?_
    refine r_iconst dX4_sumOf_16 rfl ?_
    refine r_iload_n dX4_sumOf_17 rfl rfl ?_
    refine r_imul dX4_sumOf_18 ?_
    refine r_iadd dX4_sumOf_19 ?_
    refine r_iload_n dX4_sumOf_20 rfl rfl ?_
    refine r_iadd dX4_sumOf_21 ?_
    obtain ⟨k3, H⟩ := H
    obtain ⟨k4, H⟩ := H
    refine r_iald dX4_sumOf_22 k3 k4 ?_
    refine r_iadd dX4_sumOf_23 ?_
    refine r_istore_n dX4_sumOf_24 rfl (Nat.le_of_ble_eq_true rfl) rfl (slS (slS sl0)) ?_
    refine r_iinc dX4_sumOf_25 rfl rfl (Nat.le_of_ble_eq_true rfl) rfl (slS (slS (slS sl0))) ?_
    refine r_goto (tgt := 4) dX4_sumOf_28 rfl ?_
    exact H
abbrev w_X4_sumOf_0 (g : PG) (d : Nat) (l0 : Nat) (l1 : Int32) (h : PH) (Q : Out → PH → Prop) : Prop := R g d m_X4_sumOf 4 [.ref l0, .int l1, .int 0, .int 0] [] h Q
theorem v_X4_sumOf_0 {g : PG} {d : Nat} {l0 : Nat} {l1 : Int32} {h : PH} {Q : Out → PH → Prop} (H : w_X4_sumOf_0 g d l0 l1 h Q) : R g d m_X4_sumOf 0 [.ref l0, .int l1, .null, .null] [] h Q := by
  refine r_iconst dX4_sumOf_0 rfl ?_
  refine r_istore_n dX4_sumOf_1 rfl (Nat.le_of_ble_eq_true rfl) rfl (slS (slS sl0)) ?_
  refine r_iconst dX4_sumOf_2 rfl ?_
  refine r_istore_n dX4_sumOf_3 rfl (Nat.le_of_ble_eq_true rfl) rfl (slS (slS (slS sl0))) ?_
  exact H
theorem c_X4_sumOf_0 {g : PG} {d : Nat} {l0 : Nat} {l1 : Int32} {h : PH} {Q : Out → PH → Prop} (H : w_X4_sumOf_0 g d l0 l1 h Q) : C g (d + 1) m_X4_sumOf [.ref l0, .int l1] h Q := C_of_R rfl rfl (Nat.le_of_ble_eq_true rfl) rfl (v_X4_sumOf_0 H)
abbrev w_X4_noseShare_9 (g : PG) (d : Nat) (l0 : Nat) (l1 : Int32) (l2 : Int32) (h : PH) (Q : Out → PH → Prop) : Prop := hkd h l0 = 12 ∧ hkd h (hG h 521 l0) / 100 = 1 ∧ vp_in (0 : Int32) (hln h (hG h 521 l0)) ∧ (((hA h (hG h 521 l0) (0 : Int32).toNatClampNeg) ≤ l2) → ((¬ (hA h (hG h 521 l0) (0 : Int32).toNatClampNeg) = 0) → vf_n32 (FP.fdiv (FP.i2f l1) (FP.i2f (hA h (hG h 521 l0) (0 : Int32).toNatClampNeg))) ∧ Q (.inl (some (.float (FP.fdiv (FP.i2f l1) (FP.i2f (hA h (hG h 521 l0) (0 : Int32).toNatClampNeg)))))) h) ∧ (((hA h (hG h 521 l0) (0 : Int32).toNatClampNeg) = 0) → C g d m_X4_raises [.ref l0, .int 1] h (oI (fun v12 h11 => Q (.inl (some (.float (FP.i2f v12)))) h11) (fun r hx => Q (.inr r) hx)))) ∧ ((¬ (hA h (hG h 521 l0) (0 : Int32).toNatClampNeg) ≤ l2) → C g d m_X4_of [.ref l0, .int l2, .int 3] h (oI (fun v15 h14 => R g d m_X4_noseShare 9 [.ref l0, .int (l1 + v15), .int (l2 + 1)] [] h14 Q) (fun r hx => Q (.inr r) hx)))
theorem v_X4_noseShare_9 {g : PG} {d : Nat} {l0 : Nat} {l1 : Int32} {l2 : Int32} {h : PH} {Q : Out → PH → Prop} (H : w_X4_noseShare_9 g d l0 l1 l2 h Q) : R g d m_X4_noseShare 9 [.ref l0, .int l1, .int l2] [] h Q := by
  refine r_iload_n dX4_noseShare_9 rfl rfl ?_
  refine r_aload_n dX4_noseShare_10 rfl rfl ?_
  obtain ⟨k1, H⟩ := H
  refine r_getG fr_X4_9_12 (by decide) dX4_noseShare_11 k1 (by decide) ?_
  refine r_iconst dX4_noseShare_14 rfl ?_
  obtain ⟨k2, H⟩ := H
  obtain ⟨k3, H⟩ := H
  refine r_iald dX4_noseShare_15 k2 k3 ?_
  refine r_icmp_ge (tgt := 34) dX4_noseShare_16 rfl (fun b4 => ?_) (fun b4 => ?_)
  · replace H := H.1 b4
    refine r_aload_n dX4_noseShare_34 rfl rfl ?_
    refine r_getG fr_X4_9_12 (by decide) dX4_noseShare_35 k1 (by decide) ?_
    refine r_iconst dX4_noseShare_38 rfl ?_
    refine r_iald dX4_noseShare_39 k2 k3 ?_
    refine r_if_ne (tgt := 52) dX4_noseShare_40 rfl (fun b7 => ?_) (fun b7 => ?_)
    · replace H := H.1 b7
      refine r_iload_n dX4_noseShare_52 rfl rfl ?_
      refine r_i2f dX4_noseShare_53 ?_
      refine r_aload_n dX4_noseShare_54 rfl rfl ?_
      refine r_getG fr_X4_9_12 (by decide) dX4_noseShare_55 k1 (by decide) ?_
      refine r_iconst dX4_noseShare_58 rfl ?_
      refine r_iald dX4_noseShare_59 k2 k3 ?_
      refine r_i2f dX4_noseShare_60 ?_
      obtain ⟨k10, H⟩ := H
      refine r_fdiv dX4_noseShare_61 k10 ?_
      exact r_fret dX4_noseShare_62 rfl H
    · replace H := H.2 b7
      refine r_aload_n dX4_noseShare_43 rfl rfl ?_
      refine r_iconst dX4_noseShare_44 rfl ?_
      refine r_invV (y := m_X4_raises) dX4_noseShare_45 rfl (lw_V q3346 q3348 qp76 q122 q3349) py_X4_raises (Nat.le_of_ble_eq_true rfl) (args := [_]) rfl rfl (Nat.le_of_ble_eq_true rfl) k1 (by decide) rfl (C.monoE H (fun o h11 _ x13 K => cont_I K (fun v12 H => ?_) (fun r HX => XR_nc rfl HX)))
      refine r_i2f dX4_noseShare_48 ?_
      refine r_goto (tgt := 62) dX4_noseShare_49 rfl ?_
      exact r_fret dX4_noseShare_62 rfl H
  · replace H := H.2 b4
    refine r_iload_n dX4_noseShare_19 rfl rfl ?_
    refine r_aload_n dX4_noseShare_20 rfl rfl ?_
    refine r_iload_n dX4_noseShare_21 rfl rfl ?_
    refine r_iconst dX4_noseShare_22 rfl ?_
    refine r_invV (y := m_X4_of) dX4_noseShare_23 rfl (lw_V q3362 q3364 qp79 q122 q3365) py_X4_of (Nat.le_of_ble_eq_true rfl) (args := [_, _]) rfl rfl (Nat.le_of_ble_eq_true rfl) k1 (by decide) rfl (C.monoE H (fun o h14 _ x16 K => cont_I K (fun v15 H => ?_) (fun r HX => XR_nc rfl HX)))
    refine r_iadd dX4_noseShare_26 ?_
    refine r_istore_n dX4_noseShare_27 rfl (Nat.le_of_ble_eq_true rfl) rfl (slS sl0) ?_
    refine r_iinc dX4_noseShare_28 rfl rfl (Nat.le_of_ble_eq_true rfl) rfl (slS (slS sl0)) ?_
    refine r_goto (tgt := 9) dX4_noseShare_31 rfl ?_
    exact H
abbrev w_X4_noseShare_0 (g : PG) (d : Nat) (l0 : Nat) (h : PH) (Q : Out → PH → Prop) : Prop := hkd h l0 = 12 ∧ ∀ h2, h2 = setF 33 l0 (0 : Int32) h → R g d m_X4_noseShare 9 [.ref l0, .int 0, .int 0] [] h2 Q
theorem v_X4_noseShare_0 {g : PG} {d : Nat} {l0 : Nat} {h : PH} {Q : Out → PH → Prop} (H : w_X4_noseShare_0 g d l0 h Q) : R g d m_X4_noseShare 0 [.ref l0, .null, .null] [] h Q := by
  refine r_aload_n dX4_noseShare_0 rfl rfl ?_
  refine r_iconst dX4_noseShare_1 rfl ?_
  obtain ⟨k1, H⟩ := H
  replace H := H _ rfl
  refine r_putF fw_X4_44_12 (by decide) dX4_noseShare_2 k1 (by decide) rfl rfl ?_
  refine r_iconst dX4_noseShare_5 rfl ?_
  refine r_istore_n dX4_noseShare_6 rfl (Nat.le_of_ble_eq_true rfl) rfl (slS sl0) ?_
  refine r_iconst dX4_noseShare_7 rfl ?_
  refine r_istore_n dX4_noseShare_8 rfl (Nat.le_of_ble_eq_true rfl) rfl (slS (slS sl0)) ?_
  exact H
theorem c_X4_noseShare_0 {g : PG} {d : Nat} {l0 : Nat} {h : PH} {Q : Out → PH → Prop} (H : w_X4_noseShare_0 g d l0 h Q) : C g (d + 1) m_X4_noseShare [.ref l0] h Q := C_of_R rfl rfl (Nat.le_of_ble_eq_true rfl) rfl (v_X4_noseShare_0 H)
abbrev w_X4_reason_28 (g : PG) (d : Nat) (l0 : Nat) (l1 : Int32) (l2 : Int32) (l3 : Int32) (h : PH) (Q : Out → PH → Prop) : Prop := ((l1 < l3) → hkd h l0 = 12 ∧ ((l2 = 0) → hkd h (hG h 530 l0) / 100 = 1 ∧ vp_in (((2 : Int32) * l1) + (0 : Int32)) (hln h (hG h 530 l0)) ∧ Q (.inl (some (.int (hA h (hG h 530 l0) (((2 : Int32) * l1) + (0 : Int32)).toNatClampNeg)))) h) ∧ ((¬ l2 = 0) → hkd h (hG h 530 l0) / 100 = 1 ∧ vp_in (((2 : Int32) * l1) + (1 : Int32)) (hln h (hG h 530 l0)) ∧ Q (.inl (some (.int (hA h (hG h 530 l0) (((2 : Int32) * l1) + (1 : Int32)).toNatClampNeg)))) h)) ∧ ((¬ l1 < l3) → hkd h l0 = 12 ∧ hkd h (hG h 530 l0) / 100 = 1 ∧ vp_in ((2 : Int32) * l3) (hln h (hG h 530 l0)) ∧ ((¬ (hA h (hG h 530 l0) ((2 : Int32) * l3).toNatClampNeg) = 0) → R g d m_X4_reason 28 [.ref l0, .int l1, .int l2, .int (l3 + 1)] [] h Q) ∧ (((hA h (hG h 530 l0) ((2 : Int32) * l3).toNatClampNeg) = 0) → C g d m_X4_raises [.ref l0, .int 2] h (oI (fun v13 h12 => Q (.inl (some (.int v13))) h12) (fun r hx => Q (.inr r) hx))))
theorem v_X4_reason_28 {g : PG} {d : Nat} {l0 : Nat} {l1 : Int32} {l2 : Int32} {l3 : Int32} {h : PH} {Q : Out → PH → Prop} (H : w_X4_reason_28 g d l0 l1 l2 l3 h Q) : R g d m_X4_reason 28 [.ref l0, .int l1, .int l2, .int l3] [] h Q := by
  refine r_iload_n dX4_reason_28 rfl rfl ?_
  refine r_iload_n dX4_reason_29 rfl rfl ?_
  refine r_icmp_gt (tgt := 56) dX4_reason_30 rfl (fun b1 => ?_) (fun b1 => ?_)
  · replace H := H.1 b1
    refine r_aload_n dX4_reason_56 rfl rfl ?_
    obtain ⟨k2, H⟩ := H
    refine r_getG fr_X4_41_12 (by decide) dX4_reason_57 k2 (by decide) ?_
    refine r_iconst dX4_reason_60 rfl ?_
    refine r_iload_n dX4_reason_61 rfl rfl ?_
    refine r_imul dX4_reason_62 ?_
    refine r_iload_n dX4_reason_63 rfl rfl ?_
    refine r_if_eq (tgt := 71) dX4_reason_64 rfl (fun b3 => ?_) (fun b3 => ?_)
    · replace H := H.1 b3
      refine r_iconst dX4_reason_71 rfl ?_
      refine r_iadd dX4_reason_72 ?_
      obtain ⟨k4, H⟩ := H
      obtain ⟨k5, H⟩ := H
      refine r_iald dX4_reason_73 k4 k5 ?_
      exact r_iret dX4_reason_74 rfl H
    · replace H := H.2 b3
      refine r_iconst dX4_reason_67 rfl ?_
      refine r_goto (tgt := 72) dX4_reason_68 rfl ?_
      refine r_iadd dX4_reason_72 ?_
      obtain ⟨k6, H⟩ := H
      obtain ⟨k7, H⟩ := H
      refine r_iald dX4_reason_73 k6 k7 ?_
      exact r_iret dX4_reason_74 rfl H
  · replace H := H.2 b1
    refine r_aload_n dX4_reason_33 rfl rfl ?_
    obtain ⟨k8, H⟩ := H
    refine r_getG fr_X4_41_12 (by decide) dX4_reason_34 k8 (by decide) ?_
    refine r_iconst dX4_reason_37 rfl ?_
    refine r_iload_n dX4_reason_38 rfl rfl ?_
    refine r_imul dX4_reason_39 ?_
    obtain ⟨k9, H⟩ := H
    obtain ⟨k10, H⟩ := H
    refine r_iald dX4_reason_40 k9 k10 ?_
    refine r_if_ne (tgt := 50) dX4_reason_41 rfl (fun b11 => ?_) (fun b11 => ?_)
    · replace H := H.1 b11
      refine r_iinc dX4_reason_50 rfl rfl (Nat.le_of_ble_eq_true rfl) rfl (slS (slS (slS sl0))) ?_
      refine r_goto (tgt := 28) dX4_reason_53 rfl ?_
      exact H
    · replace H := H.2 b11
      refine r_aload_n dX4_reason_44 rfl rfl ?_
      refine r_iconst dX4_reason_45 rfl ?_
      refine r_invV (y := m_X4_raises) dX4_reason_46 rfl (lw_V q3346 q3348 qp76 q122 q3349) py_X4_raises (Nat.le_of_ble_eq_true rfl) (args := [_]) rfl rfl (Nat.le_of_ble_eq_true rfl) k8 (by decide) rfl (C.monoE H (fun o h12 _ x14 K => cont_I K (fun v13 H => ?_) (fun r HX => XR_nc rfl HX)))
      exact r_iret dX4_reason_49 rfl H
abbrev w_X4_reason_0 (g : PG) (d : Nat) (l0 : Nat) (l1 : Int32) (l2 : Int32) (h : PH) (Q : Out → PH → Prop) : Prop := hkd h l0 = 12 ∧ ∀ h2, h2 = setF 33 l0 (0 : Int32) h → ((0 ≤ l1) → ((l1 ≤ (2 : Int32)) → R g d m_X4_reason 28 [.ref l0, .int l1, .int l2, .int 0] [] h2 Q) ∧ ((¬ l1 ≤ (2 : Int32)) → C g d m_X4_raises [.ref l0, .int 2] h2 (oI (fun v6 h5 => Q (.inl (some (.int v6))) h5) (fun r hx => Q (.inr r) hx)))) ∧ ((¬ 0 ≤ l1) → C g d m_X4_raises [.ref l0, .int 1] h2 (oI (fun v9 h8 => Q (.inl (some (.int v9))) h8) (fun r hx => Q (.inr r) hx)))
theorem v_X4_reason_0 {g : PG} {d : Nat} {l0 : Nat} {l1 : Int32} {l2 : Int32} {h : PH} {Q : Out → PH → Prop} (H : w_X4_reason_0 g d l0 l1 l2 h Q) : R g d m_X4_reason 0 [.ref l0, .int l1, .int l2, .null] [] h Q := by
  refine r_aload_n dX4_reason_0 rfl rfl ?_
  refine r_iconst dX4_reason_1 rfl ?_
  obtain ⟨k1, H⟩ := H
  replace H := H _ rfl
  refine r_putF fw_X4_44_12 (by decide) dX4_reason_2 k1 (by decide) rfl rfl ?_
  refine r_iload_n dX4_reason_5 rfl rfl ?_
  refine r_if_ge (tgt := 15) dX4_reason_6 rfl (fun b3 => ?_) (fun b3 => ?_)
  · replace H := H.1 b3
    refine r_iload_n dX4_reason_15 rfl rfl ?_
    refine r_iconst dX4_reason_16 rfl ?_
    refine r_icmp_le (tgt := 26) dX4_reason_17 rfl (fun b4 => ?_) (fun b4 => ?_)
    · replace H := H.1 b4
      refine r_iconst dX4_reason_26 rfl ?_
      refine r_istore_n dX4_reason_27 rfl (Nat.le_of_ble_eq_true rfl) rfl (slS (slS (slS sl0))) ?_
      exact H
    · replace H := H.2 b4
      refine r_aload_n dX4_reason_20 rfl rfl ?_
      refine r_iconst dX4_reason_21 rfl ?_
      refine r_invV (y := m_X4_raises) dX4_reason_22 rfl (lw_V q3346 q3348 qp76 q122 q3349) py_X4_raises (Nat.le_of_ble_eq_true rfl) (args := [_]) rfl rfl (Nat.le_of_ble_eq_true rfl) k1 (by decide) rfl (C.monoE H (fun o h5 _ x7 K => cont_I K (fun v6 H => ?_) (fun r HX => XR_nc rfl HX)))
      exact r_iret dX4_reason_25 rfl H
  · replace H := H.2 b3
    refine r_aload_n dX4_reason_9 rfl rfl ?_
    refine r_iconst dX4_reason_10 rfl ?_
    refine r_invV (y := m_X4_raises) dX4_reason_11 rfl (lw_V q3346 q3348 qp76 q122 q3349) py_X4_raises (Nat.le_of_ble_eq_true rfl) (args := [_]) rfl rfl (Nat.le_of_ble_eq_true rfl) k1 (by decide) rfl (C.monoE H (fun o h8 _ x10 K => cont_I K (fun v9 H => ?_) (fun r HX => XR_nc rfl HX)))
    exact r_iret dX4_reason_14 rfl H
theorem c_X4_reason_0 {g : PG} {d : Nat} {l0 : Nat} {l1 : Int32} {l2 : Int32} {h : PH} {Q : Out → PH → Prop} (H : w_X4_reason_0 g d l0 l1 l2 h Q) : C g (d + 1) m_X4_reason [.ref l0, .int l1, .int l2] h Q := C_of_R rfl rfl (Nat.le_of_ble_eq_true rfl) rfl (v_X4_reason_0 H)
abbrev w_X4_account_203 (g : PG) (d : Nat) (l0 : Nat) (l2 : Int32) (l3 : Int32) (h : PH) (Q : Out → PH → Prop) : Prop := R g d m_X4_account 179 [.ref l0, .null, .int l2, .int (l3 + 1)] [] h Q
theorem v_X4_account_203 {g : PG} {d : Nat} {l0 : Nat} {l2 : Int32} {l3 : Int32} {h : PH} {Q : Out → PH → Prop} (H : w_X4_account_203 g d l0 l2 l3 h Q) : R g d m_X4_account 203 [.ref l0, .null, .int l2, .int l3] [] h Q := by
  refine r_iinc dX4_account_203 rfl rfl (Nat.le_of_ble_eq_true rfl) rfl (slS (slS (slS sl0))) ?_
  refine r_goto (tgt := 179) dX4_account_206 rfl ?_
  exact H
abbrev w_X4_account_179 (g : PG) (d : Nat) (l0 : Nat) (l2 : Int32) (l3 : Int32) (h : PH) (Q : Out → PH → Prop) : Prop := (((3 : Int32) ≤ l3) → Q (.inl (some (.int l2))) h) ∧ ((¬ (3 : Int32) ≤ l3) → hkd h l0 = 12 ∧ hkd h (hG h 521 l0) / 100 = 1 ∧ vp_in (((39 : Int32) + ((3 : Int32) * l3)) + (1 : Int32)) (hln h (hG h 521 l0)) ∧ (((hA h (hG h 521 l0) (((39 : Int32) + ((3 : Int32) * l3)) + (1 : Int32)).toNatClampNeg) ≤ 0) → w_X4_account_203 g d l0 l2 l3 h Q) ∧ ((¬ (hA h (hG h 521 l0) (((39 : Int32) + ((3 : Int32) * l3)) + (1 : Int32)).toNatClampNeg) ≤ 0) → w_X4_account_203 g d l0 (l2 + 1) l3 h Q))
theorem v_X4_account_179 {g : PG} {d : Nat} {l0 : Nat} {l2 : Int32} {l3 : Int32} {h : PH} {Q : Out → PH → Prop} (H : w_X4_account_179 g d l0 l2 l3 h Q) : R g d m_X4_account 179 [.ref l0, .null, .int l2, .int l3] [] h Q := by
  refine r_iload_n dX4_account_179 rfl rfl ?_
  refine r_iconst dX4_account_180 rfl ?_
  refine r_icmp_ge (tgt := 209) dX4_account_181 rfl (fun b1 => ?_) (fun b1 => ?_)
  · replace H := H.1 b1
    refine r_iload_n dX4_account_209 rfl rfl ?_
    exact r_iret dX4_account_210 rfl H
  · replace H := H.2 b1
    refine r_aload_n dX4_account_184 rfl rfl ?_
    obtain ⟨k2, H⟩ := H
    refine r_getG fr_X4_9_12 (by decide) dX4_account_185 k2 (by decide) ?_
    refine r_bipush dX4_account_188 rfl ?_
    refine r_iconst dX4_account_190 rfl ?_
    refine r_iload_n dX4_account_191 rfl rfl ?_
    refine r_imul dX4_account_192 ?_
    refine r_iadd dX4_account_193 ?_
    refine r_iconst dX4_account_194 rfl ?_
    refine r_iadd dX4_account_195 ?_
    obtain ⟨k3, H⟩ := H
    obtain ⟨k4, H⟩ := H
    refine r_iald dX4_account_196 k3 k4 ?_
    refine r_if_le (tgt := 203) dX4_account_197 rfl (fun b5 => ?_) (fun b5 => ?_)
    · replace H := H.1 b5
      exact v_X4_account_203 H
    · replace H := H.2 b5
      refine r_iinc dX4_account_200 rfl rfl (Nat.le_of_ble_eq_true rfl) rfl (slS (slS sl0)) ?_
      exact v_X4_account_203 H
abbrev w_X4_account_169 (g : PG) (d : Nat) (l0 : Nat) (l2 : Int32) (l3 : Int32) (h : PH) (Q : Out → PH → Prop) : Prop := R g d m_X4_account 153 [.ref l0, .null, .int l2, .int (l3 + 1)] [] h Q
theorem v_X4_account_169 {g : PG} {d : Nat} {l0 : Nat} {l2 : Int32} {l3 : Int32} {h : PH} {Q : Out → PH → Prop} (H : w_X4_account_169 g d l0 l2 l3 h Q) : R g d m_X4_account 169 [.ref l0, .null, .int l2, .int l3] [] h Q := by
  refine r_iinc dX4_account_169 rfl rfl (Nat.le_of_ble_eq_true rfl) rfl (slS (slS (slS sl0))) ?_
  refine r_goto (tgt := 153) dX4_account_172 rfl ?_
  exact H
abbrev w_X4_account_153 (g : PG) (d : Nat) (l0 : Nat) (l2 : Int32) (l3 : Int32) (h : PH) (Q : Out → PH → Prop) : Prop := (((3 : Int32) ≤ l3) → Q (.inl (some (.int l2))) h) ∧ ((¬ (3 : Int32) ≤ l3) → hkd h l0 = 12 ∧ C g d m_X4_hat [.ref l0, .int l3] h (oI (fun v4 h3 => ((0 ≤ v4) → w_X4_account_169 g d l0 l2 l3 h3 Q) ∧ ((¬ 0 ≤ v4) → w_X4_account_169 g d l0 (l2 + 1) l3 h3 Q)) (fun r hx => Q (.inr r) hx)))
theorem v_X4_account_153 {g : PG} {d : Nat} {l0 : Nat} {l2 : Int32} {l3 : Int32} {h : PH} {Q : Out → PH → Prop} (H : w_X4_account_153 g d l0 l2 l3 h Q) : R g d m_X4_account 153 [.ref l0, .null, .int l2, .int l3] [] h Q := by
  refine r_iload_n dX4_account_153 rfl rfl ?_
  refine r_iconst dX4_account_154 rfl ?_
  refine r_icmp_ge (tgt := 175) dX4_account_155 rfl (fun b1 => ?_) (fun b1 => ?_)
  · replace H := H.1 b1
    refine r_iload_n dX4_account_175 rfl rfl ?_
    exact r_iret dX4_account_176 rfl H
  · replace H := H.2 b1
    refine r_aload_n dX4_account_158 rfl rfl ?_
    refine r_iload_n dX4_account_159 rfl rfl ?_
    obtain ⟨k2, H⟩ := H
    refine r_invV (y := m_X4_hat) dX4_account_160 rfl (lw_V q3330 q3332 qp72 q122 q3333) py_X4_hat (Nat.le_of_ble_eq_true rfl) (args := [_]) rfl rfl (Nat.le_of_ble_eq_true rfl) k2 (by decide) rfl (C.monoE H (fun o h3 _ x5 K => cont_I K (fun v4 H => ?_) (fun r HX => XR_nc rfl HX)))
    refine r_if_ge (tgt := 169) dX4_account_163 rfl (fun b6 => ?_) (fun b6 => ?_)
    · replace H := H.1 b6
      exact v_X4_account_169 H
    · replace H := H.2 b6
      refine r_iinc dX4_account_166 rfl rfl (Nat.le_of_ble_eq_true rfl) rfl (slS (slS sl0)) ?_
      exact v_X4_account_169 H
abbrev w_X4_account_143 (g : PG) (d : Nat) (l0 : Nat) (l1 : Int32) (h : PH) (Q : Out → PH → Prop) : Prop := hkd h l0 = 12 ∧ C g d m_X4_sumOf [.ref l0, .int (l1 - (3 : Int32))] h (oI (fun v3 h2 => Q (.inl (some (.int v3))) h2) (fun r hx => Q (.inr r) hx))
theorem v_X4_account_143 {g : PG} {d : Nat} {l0 : Nat} {l1 : Int32} {h : PH} {Q : Out → PH → Prop} (H : w_X4_account_143 g d l0 l1 h Q) : R g d m_X4_account 143 [.ref l0, .int l1, .null, .null] [] h Q := by
  refine r_aload_n dX4_account_143 rfl rfl ?_
  refine r_iload_n dX4_account_144 rfl rfl ?_
  refine r_iconst dX4_account_145 rfl ?_
  refine r_isub dX4_account_146 ?_
  obtain ⟨k1, H⟩ := H
  refine r_invV (y := m_X4_sumOf) dX4_account_147 rfl (lw_V q3527 q3529 qp98 q122 q3530) py_X4_sumOf (Nat.le_of_ble_eq_true rfl) (args := [_]) rfl rfl (Nat.le_of_ble_eq_true rfl) k1 (by decide) rfl (C.monoE H (fun o h2 _ x4 K => cont_I K (fun v3 H => ?_) (fun r HX => XR_nc rfl HX)))
  exact r_iret dX4_account_150 rfl H
abbrev w_X4_account_116 (g : PG) (d : Nat) (l0 : Nat) (l2 : Int32) (l3 : Int32) (h : PH) (Q : Out → PH → Prop) : Prop := hkd h l0 = 12 ∧ hkd h (hG h 521 l0) / 100 = 1 ∧ vp_in (0 : Int32) (hln h (hG h 521 l0)) ∧ (((hA h (hG h 521 l0) (0 : Int32).toNatClampNeg) ≤ l3) → Q (.inl (some (.int l2))) h) ∧ ((¬ (hA h (hG h 521 l0) (0 : Int32).toNatClampNeg) ≤ l3) → C g d m_X4_of [.ref l0, .int l3, .int 2] h (oI (fun v6 h5 => R g d m_X4_account 116 [.ref l0, .null, .int (l2 + v6), .int (l3 + 1)] [] h5 Q) (fun r hx => Q (.inr r) hx)))
theorem v_X4_account_116 {g : PG} {d : Nat} {l0 : Nat} {l2 : Int32} {l3 : Int32} {h : PH} {Q : Out → PH → Prop} (H : w_X4_account_116 g d l0 l2 l3 h Q) : R g d m_X4_account 116 [.ref l0, .null, .int l2, .int l3] [] h Q := by
  refine r_iload_n dX4_account_116 rfl rfl ?_
  refine r_aload_n dX4_account_117 rfl rfl ?_
  obtain ⟨k1, H⟩ := H
  refine r_getG fr_X4_9_12 (by decide) dX4_account_118 k1 (by decide) ?_
  refine r_iconst dX4_account_121 rfl ?_
  obtain ⟨k2, H⟩ := H
  obtain ⟨k3, H⟩ := H
  refine r_iald dX4_account_122 k2 k3 ?_
  refine r_icmp_ge (tgt := 141) dX4_account_123 rfl (fun b4 => ?_) (fun b4 => ?_)
  · replace H := H.1 b4
    refine r_iload_n dX4_account_141 rfl rfl ?_
    exact r_iret dX4_account_142 rfl H
  · replace H := H.2 b4
    refine r_iload_n dX4_account_126 rfl rfl ?_
    refine r_aload_n dX4_account_127 rfl rfl ?_
    refine r_iload_n dX4_account_128 rfl rfl ?_
    refine r_iconst dX4_account_129 rfl ?_
    refine r_invV (y := m_X4_of) dX4_account_130 rfl (lw_V q3362 q3364 qp79 q122 q3365) py_X4_of (Nat.le_of_ble_eq_true rfl) (args := [_, _]) rfl rfl (Nat.le_of_ble_eq_true rfl) k1 (by decide) rfl (C.monoE H (fun o h5 _ x7 K => cont_I K (fun v6 H => ?_) (fun r HX => XR_nc rfl HX)))
    refine r_iadd dX4_account_133 ?_
    refine r_istore_n dX4_account_134 rfl (Nat.le_of_ble_eq_true rfl) rfl (slS (slS sl0)) ?_
    refine r_iinc dX4_account_135 rfl rfl (Nat.le_of_ble_eq_true rfl) rfl (slS (slS (slS sl0))) ?_
    refine r_goto (tgt := 116) dX4_account_138 rfl ?_
    exact H
abbrev w_X4_account_99 (g : PG) (d : Nat) (l0 : Nat) (l2 : Int32) (l3 : Int32) (h : PH) (Q : Out → PH → Prop) : Prop := R g d m_X4_account 77 [.ref l0, .null, .int l2, .int (l3 + 1)] [] h Q
theorem v_X4_account_99 {g : PG} {d : Nat} {l0 : Nat} {l2 : Int32} {l3 : Int32} {h : PH} {Q : Out → PH → Prop} (H : w_X4_account_99 g d l0 l2 l3 h Q) : R g d m_X4_account 99 [.ref l0, .null, .int l2, .int l3] [] h Q := by
  refine r_iinc dX4_account_99 rfl rfl (Nat.le_of_ble_eq_true rfl) rfl (slS (slS (slS sl0))) ?_
  refine r_goto (tgt := 77) dX4_account_102 rfl ?_
  exact H
abbrev w_X4_account_77 (g : PG) (d : Nat) (l0 : Nat) (l2 : Int32) (l3 : Int32) (h : PH) (Q : Out → PH → Prop) : Prop := hkd h l0 = 12 ∧ hkd h (hG h 521 l0) / 100 = 1 ∧ vp_in (0 : Int32) (hln h (hG h 521 l0)) ∧ (((hA h (hG h 521 l0) (0 : Int32).toNatClampNeg) ≤ l3) → Q (.inl (some (.int l2))) h) ∧ ((¬ (hA h (hG h 521 l0) (0 : Int32).toNatClampNeg) ≤ l3) → C g d m_X4_of [.ref l0, .int l3, .int 2] h (oI (fun v6 h5 => ((¬ v6 = 0) → w_X4_account_99 g d l0 l2 l3 h5 Q) ∧ ((v6 = 0) → w_X4_account_99 g d l0 (l2 + 1) l3 h5 Q)) (fun r hx => Q (.inr r) hx)))
theorem v_X4_account_77 {g : PG} {d : Nat} {l0 : Nat} {l2 : Int32} {l3 : Int32} {h : PH} {Q : Out → PH → Prop} (H : w_X4_account_77 g d l0 l2 l3 h Q) : R g d m_X4_account 77 [.ref l0, .null, .int l2, .int l3] [] h Q := by
  refine r_iload_n dX4_account_77 rfl rfl ?_
  refine r_aload_n dX4_account_78 rfl rfl ?_
  obtain ⟨k1, H⟩ := H
  refine r_getG fr_X4_9_12 (by decide) dX4_account_79 k1 (by decide) ?_
  refine r_iconst dX4_account_82 rfl ?_
  obtain ⟨k2, H⟩ := H
  obtain ⟨k3, H⟩ := H
  refine r_iald dX4_account_83 k2 k3 ?_
  refine r_icmp_ge (tgt := 105) dX4_account_84 rfl (fun b4 => ?_) (fun b4 => ?_)
  · replace H := H.1 b4
    refine r_iload_n dX4_account_105 rfl rfl ?_
    exact r_iret dX4_account_106 rfl H
  · replace H := H.2 b4
    refine r_aload_n dX4_account_87 rfl rfl ?_
    refine r_iload_n dX4_account_88 rfl rfl ?_
    refine r_iconst dX4_account_89 rfl ?_
    refine r_invV (y := m_X4_of) dX4_account_90 rfl (lw_V q3362 q3364 qp79 q122 q3365) py_X4_of (Nat.le_of_ble_eq_true rfl) (args := [_, _]) rfl rfl (Nat.le_of_ble_eq_true rfl) k1 (by decide) rfl (C.monoE H (fun o h5 _ x7 K => cont_I K (fun v6 H => ?_) (fun r HX => XR_nc rfl HX)))
    refine r_if_ne (tgt := 99) dX4_account_93 rfl (fun b8 => ?_) (fun b8 => ?_)
    · replace H := H.1 b8
      exact v_X4_account_99 H
    · replace H := H.2 b8
      refine r_iinc dX4_account_96 rfl rfl (Nat.le_of_ble_eq_true rfl) rfl (slS (slS sl0)) ?_
      exact v_X4_account_99 H
abbrev w_X4_account_0 (g : PG) (d : Nat) (l0 : Nat) (l1 : Int32) (h : PH) (Q : Out → PH → Prop) : Prop := hkd h l0 = 12 ∧ ∀ h2, h2 = setF 33 l0 (0 : Int32) h → (l1 = 0 → hkd h2 (hG h2 521 l0) / 100 = 1 ∧ vp_in (0 : Int32) (hln h2 (hG h2 521 l0)) ∧ Q (.inl (some (.int (hA h2 (hG h2 521 l0) (0 : Int32).toNatClampNeg)))) h2) ∧ (l1 = 1 → R g d m_X4_account 77 [.ref l0, .null, .int 0, .int 0] [] h2 Q) ∧ (l1 = 2 → hkd h2 (hG h2 521 l0) / 100 = 1 ∧ vp_in (1 : Int32) (hln h2 (hG h2 521 l0)) ∧ Q (.inl (some (.int (hA h2 (hG h2 521 l0) (1 : Int32).toNatClampNeg)))) h2) ∧ (l1 = 3 → R g d m_X4_account 116 [.ref l0, .null, .int 0, .int 0] [] h2 Q) ∧ (l1 = 4 → w_X4_account_143 g d l0 l1 h2 Q) ∧ (l1 = 5 → w_X4_account_143 g d l0 l1 h2 Q) ∧ (l1 = 6 → R g d m_X4_account 153 [.ref l0, .null, .int 0, .int 0] [] h2 Q) ∧ (l1 = 7 → R g d m_X4_account 179 [.ref l0, .null, .int 0, .int 0] [] h2 Q) ∧ (l1 = 8 → hkd h2 (hG h2 521 l0) / 100 = 1 ∧ vp_in (2 : Int32) (hln h2 (hG h2 521 l0)) ∧ Q (.inl (some (.int (hA h2 (hG h2 521 l0) (2 : Int32).toNatClampNeg)))) h2) ∧ (l1 = 9 → Q (.inl (some (.int (hF h2 30 l0)))) h2) ∧ (l1 = 10 → Q (.inl (some (.int (hF h2 27 l0)))) h2) ∧ (¬ l1 = 0 → ¬ l1 = 1 → ¬ l1 = 2 → ¬ l1 = 3 → ¬ l1 = 4 → ¬ l1 = 5 → ¬ l1 = 6 → ¬ l1 = 7 → ¬ l1 = 8 → ¬ l1 = 9 → ¬ l1 = 10 → C g d m_X4_raises [.ref l0, .int 1] h2 (oI (fun v21 h20 => Q (.inl (some (.int v21))) h20) (fun r hx => Q (.inr r) hx)))
theorem v_X4_account_0 {g : PG} {d : Nat} {l0 : Nat} {l1 : Int32} {h : PH} {Q : Out → PH → Prop} (H : w_X4_account_0 g d l0 l1 h Q) : R g d m_X4_account 0 [.ref l0, .int l1, .null, .null] [] h Q := by
  refine r_aload_n dX4_account_0 rfl rfl ?_
  refine r_iconst dX4_account_1 rfl ?_
  obtain ⟨k1, H⟩ := H
  replace H := H _ rfl
  refine r_putF fw_X4_44_12 (by decide) dX4_account_2 k1 (by decide) rfl rfl ?_
  refine r_iconst dX4_account_5 rfl ?_
  refine r_istore_n dX4_account_6 rfl (Nat.le_of_ble_eq_true rfl) rfl (slS (slS sl0)) ?_
  refine r_iload_n dX4_account_7 rfl rfl ?_
  refine R.tri (k9 := 0) (fun b3 => ?_) (fun b3 => ?_)
  · replace H := H.1 b3
    refine r_tableIn (tgt := 68) dX4_account_8 (by rw [b3]; decide) (by rw [b3]; decide) (by rw [b3]; first | done | rfl) rfl ?_
    refine r_aload_n dX4_account_68 rfl rfl ?_
    refine r_getG fr_X4_9_12 (by decide) dX4_account_69 k1 (by decide) ?_
    refine r_iconst dX4_account_72 rfl ?_
    obtain ⟨k4, H⟩ := H
    obtain ⟨k5, H⟩ := H
    refine r_iald dX4_account_73 k4 k5 ?_
    exact r_iret dX4_account_74 rfl H
  replace H := H.2
  refine R.tri (k9 := 1) (fun b6 => ?_) (fun b6 => ?_)
  · replace H := H.1 b6
    refine r_tableIn (tgt := 75) dX4_account_8 (by rw [b6]; decide) (by rw [b6]; decide) (by rw [b6]; first | done | rfl) rfl ?_
    refine r_iconst dX4_account_75 rfl ?_
    refine r_istore_n dX4_account_76 rfl (Nat.le_of_ble_eq_true rfl) rfl (slS (slS (slS sl0))) ?_
    exact R.forget H ⟨Or.inl rfl, ⟨Or.inr rfl, ⟨Or.inl rfl, ⟨Or.inl rfl, trivial⟩⟩⟩⟩
  replace H := H.2
  refine R.tri (k9 := 2) (fun b7 => ?_) (fun b7 => ?_)
  · replace H := H.1 b7
    refine r_tableIn (tgt := 107) dX4_account_8 (by rw [b7]; decide) (by rw [b7]; decide) (by rw [b7]; first | done | rfl) rfl ?_
    refine r_aload_n dX4_account_107 rfl rfl ?_
    refine r_getG fr_X4_9_12 (by decide) dX4_account_108 k1 (by decide) ?_
    refine r_iconst dX4_account_111 rfl ?_
    obtain ⟨k8, H⟩ := H
    obtain ⟨k9, H⟩ := H
    refine r_iald dX4_account_112 k8 k9 ?_
    exact r_iret dX4_account_113 rfl H
  replace H := H.2
  refine R.tri (k9 := 3) (fun b10 => ?_) (fun b10 => ?_)
  · replace H := H.1 b10
    refine r_tableIn (tgt := 114) dX4_account_8 (by rw [b10]; decide) (by rw [b10]; decide) (by rw [b10]; first | done | rfl) rfl ?_
    refine r_iconst dX4_account_114 rfl ?_
    refine r_istore_n dX4_account_115 rfl (Nat.le_of_ble_eq_true rfl) rfl (slS (slS (slS sl0))) ?_
    exact R.forget H ⟨Or.inl rfl, ⟨Or.inr rfl, ⟨Or.inl rfl, ⟨Or.inl rfl, trivial⟩⟩⟩⟩
  replace H := H.2
  refine R.tri (k9 := 4) (fun b11 => ?_) (fun b11 => ?_)
  · replace H := H.1 b11
    refine r_tableIn (tgt := 143) dX4_account_8 (by rw [b11]; decide) (by rw [b11]; decide) (by rw [b11]; first | done | rfl) rfl ?_
    exact R.forget (v_X4_account_143 H) ⟨Or.inl rfl, ⟨Or.inl rfl, ⟨Or.inr rfl, ⟨Or.inl rfl, trivial⟩⟩⟩⟩
  replace H := H.2
  refine R.tri (k9 := 5) (fun b12 => ?_) (fun b12 => ?_)
  · replace H := H.1 b12
    refine r_tableIn (tgt := 143) dX4_account_8 (by rw [b12]; decide) (by rw [b12]; decide) (by rw [b12]; first | done | rfl) rfl ?_
    exact R.forget (v_X4_account_143 H) ⟨Or.inl rfl, ⟨Or.inl rfl, ⟨Or.inr rfl, ⟨Or.inl rfl, trivial⟩⟩⟩⟩
  replace H := H.2
  refine R.tri (k9 := 6) (fun b13 => ?_) (fun b13 => ?_)
  · replace H := H.1 b13
    refine r_tableIn (tgt := 151) dX4_account_8 (by rw [b13]; decide) (by rw [b13]; decide) (by rw [b13]; first | done | rfl) rfl ?_
    refine r_iconst dX4_account_151 rfl ?_
    refine r_istore_n dX4_account_152 rfl (Nat.le_of_ble_eq_true rfl) rfl (slS (slS (slS sl0))) ?_
    exact R.forget H ⟨Or.inl rfl, ⟨Or.inr rfl, ⟨Or.inl rfl, ⟨Or.inl rfl, trivial⟩⟩⟩⟩
  replace H := H.2
  refine R.tri (k9 := 7) (fun b14 => ?_) (fun b14 => ?_)
  · replace H := H.1 b14
    refine r_tableIn (tgt := 177) dX4_account_8 (by rw [b14]; decide) (by rw [b14]; decide) (by rw [b14]; first | done | rfl) rfl ?_
    refine r_iconst dX4_account_177 rfl ?_
    refine r_istore_n dX4_account_178 rfl (Nat.le_of_ble_eq_true rfl) rfl (slS (slS (slS sl0))) ?_
    exact R.forget H ⟨Or.inl rfl, ⟨Or.inr rfl, ⟨Or.inl rfl, ⟨Or.inl rfl, trivial⟩⟩⟩⟩
  replace H := H.2
  refine R.tri (k9 := 8) (fun b15 => ?_) (fun b15 => ?_)
  · replace H := H.1 b15
    refine r_tableIn (tgt := 211) dX4_account_8 (by rw [b15]; decide) (by rw [b15]; decide) (by rw [b15]; first | done | rfl) rfl ?_
    refine r_aload_n dX4_account_211 rfl rfl ?_
    refine r_getG fr_X4_9_12 (by decide) dX4_account_212 k1 (by decide) ?_
    refine r_iconst dX4_account_215 rfl ?_
    obtain ⟨k16, H⟩ := H
    obtain ⟨k17, H⟩ := H
    refine r_iald dX4_account_216 k16 k17 ?_
    exact r_iret dX4_account_217 rfl H
  replace H := H.2
  refine R.tri (k9 := 9) (fun b18 => ?_) (fun b18 => ?_)
  · replace H := H.1 b18
    refine r_tableIn (tgt := 218) dX4_account_8 (by rw [b18]; decide) (by rw [b18]; decide) (by rw [b18]; first | done | rfl) rfl ?_
    refine r_aload_n dX4_account_218 rfl rfl ?_
    refine r_getF fr_X4_185_12 (by decide) dX4_account_219 k1 (by decide) ?_
    exact r_iret dX4_account_222 rfl H
  replace H := H.2
  refine R.tri (k9 := 10) (fun b19 => ?_) (fun b19 => ?_)
  · replace H := H.1 b19
    refine r_tableIn (tgt := 223) dX4_account_8 (by rw [b19]; decide) (by rw [b19]; decide) (by rw [b19]; first | done | rfl) rfl ?_
    refine r_aload_n dX4_account_223 rfl rfl ?_
    refine r_getF fr_X4_48_12 (by decide) dX4_account_224 k1 (by decide) ?_
    exact r_iret dX4_account_227 rfl H
  replace H := H.2
  replace H := H b3 b6 b7 b10 b11 b12 b13 b14 b15 b18 b19
  refine r_tableOut (tgt := 228) dX4_account_8 (tabOut (lo := 0) (n := 11) rfl (fun i hi => match i, hi with | 0, _ => b3 | 1, _ => b6 | 2, _ => b7 | 3, _ => b10 | 4, _ => b11 | 5, _ => b12 | 6, _ => b13 | 7, _ => b14 | 8, _ => b15 | 9, _ => b18 | 10, _ => b19 | k + 11, hi => absurd hi (by omega))) rfl ?_
  refine r_aload_n dX4_account_228 rfl rfl ?_
  refine r_iconst dX4_account_229 rfl ?_
  refine r_invV (y := m_X4_raises) dX4_account_230 rfl (lw_V q3346 q3348 qp76 q122 q3349) py_X4_raises (Nat.le_of_ble_eq_true rfl) (args := [_]) rfl rfl (Nat.le_of_ble_eq_true rfl) k1 (by decide) rfl (C.monoE H (fun o h20 _ x22 K => cont_I K (fun v21 H => ?_) (fun r HX => XR_nc rfl HX)))
  exact r_iret dX4_account_233 rfl H
theorem c_X4_account_0 {g : PG} {d : Nat} {l0 : Nat} {l1 : Int32} {h : PH} {Q : Out → PH → Prop} (H : w_X4_account_0 g d l0 l1 h Q) : C g (d + 1) m_X4_account [.ref l0, .int l1] h Q := C_of_R rfl rfl (Nat.le_of_ble_eq_true rfl) rfl (v_X4_account_0 H)
abbrev w_X4_feed_0 (g : PG) (d : Nat) (l0 : Nat) (l1 : Int32) (h : PH) (Q : Out → PH → Prop) : Prop := hkd h l0 = 12 ∧ ∀ h2, h2 = setF 33 l0 (0 : Int32) h → ((¬ (hF h2 30 l0) = (50 : Int32)) → ∀ h4, h4 = setF 30 l0 ((hF h2 30 l0) + (1 : Int32)) h2 → hkd h4 (hG h2 527 l0) / 100 = 2 ∧ hkd h4 (hG h2 527 l0) % 100 < 50 ∧ vp_in (hF h2 30 l0) (hln h4 (hG h2 527 l0)) ∧ narrow .char (.int l1) = .int l1 ∧ ∀ h8, h8 = setA (hG h2 527 l0) (hF h2 30 l0).toNatClampNeg l1 h4 → Q (.inl (some (.int (hF h8 30 l0)))) h8) ∧ (((hF h2 30 l0) = (50 : Int32)) → C g d m_X4_raises [.ref l0, .int 1] h2 (oI (fun v11 h10 => Q (.inl (some (.int v11))) h10) (fun r hx => Q (.inr r) hx)))
theorem v_X4_feed_0 {g : PG} {d : Nat} {l0 : Nat} {l1 : Int32} {h : PH} {Q : Out → PH → Prop} (H : w_X4_feed_0 g d l0 l1 h Q) : R g d m_X4_feed 0 [.ref l0, .int l1] [] h Q := by
  refine r_aload_n dX4_feed_0 rfl rfl ?_
  refine r_iconst dX4_feed_1 rfl ?_
  obtain ⟨k1, H⟩ := H
  replace H := H _ rfl
  refine r_putF fw_X4_44_12 (by decide) dX4_feed_2 k1 (by decide) rfl rfl ?_
  refine r_aload_n dX4_feed_5 rfl rfl ?_
  refine r_getF fr_X4_185_12 (by decide) dX4_feed_6 k1 (by decide) ?_
  refine r_bipush dX4_feed_9 rfl ?_
  refine r_icmp_ne (tgt := 20) dX4_feed_11 rfl (fun b3 => ?_) (fun b3 => ?_)
  · replace H := H.1 b3
    refine r_aload_n dX4_feed_20 rfl rfl ?_
    refine r_getG fr_X4_29_12 (by decide) dX4_feed_21 k1 (by decide) ?_
    refine r_aload_n dX4_feed_24 rfl rfl ?_
    refine r_dup dX4_feed_25 rfl ?_
    refine r_getF fr_X4_185_12 (by decide) dX4_feed_26 k1 (by decide) ?_
    refine r_dup_x1 dX4_feed_29 rfl rfl ?_
    refine r_iconst dX4_feed_30 rfl ?_
    refine r_iadd dX4_feed_31 ?_
    replace H := H _ rfl
    refine r_putF fw_X4_185_12 (by decide) dX4_feed_32 k1 (by decide) rfl rfl ?_
    refine r_iload_n dX4_feed_35 rfl rfl ?_
    obtain ⟨k5, H⟩ := H
    obtain ⟨k6, H⟩ := H
    obtain ⟨k7, H⟩ := H
    obtain ⟨k9, H⟩ := H
    replace H := H _ rfl
    refine r_cast dX4_feed_36 k5 k6 k7 k9 ?_
    refine r_aload_n dX4_feed_37 rfl rfl ?_
    refine r_getF fr_X4_185_12 (by decide) dX4_feed_38 k1 (by decide) ?_
    exact r_iret dX4_feed_41 rfl H
  · replace H := H.2 b3
    refine r_aload_n dX4_feed_14 rfl rfl ?_
    refine r_iconst dX4_feed_15 rfl ?_
    refine r_invV (y := m_X4_raises) dX4_feed_16 rfl (lw_V q3346 q3348 qp76 q122 q3349) py_X4_raises (Nat.le_of_ble_eq_true rfl) (args := [_]) rfl rfl (Nat.le_of_ble_eq_true rfl) k1 (by decide) rfl (C.monoE H (fun o h10 _ x12 K => cont_I K (fun v11 H => ?_) (fun r HX => XR_nc rfl HX)))
    exact r_iret dX4_feed_19 rfl H
theorem c_X4_feed_0 {g : PG} {d : Nat} {l0 : Nat} {l1 : Int32} {h : PH} {Q : Out → PH → Prop} (H : w_X4_feed_0 g d l0 l1 h Q) : C g (d + 1) m_X4_feed [.ref l0, .int l1] h Q := C_of_R rfl rfl (Nat.le_of_ble_eq_true rfl) rfl (v_X4_feed_0 H)
abbrev w_X4_perform_214 (g : PG) (d : Nat) (l0 : Nat) (l5 : Int32) (h : PH) (Q : Out → PH → Prop) : Prop := (((127 : Int32) ≤ l5) → hkd h l0 = 12 ∧ C g d m_X4_raises [.ref l0, .int 1] h (oI (fun v4 h3 => Q (.inl (some (.int v4))) h3) (fun r hx => Q (.inr r) hx))) ∧ ((¬ (127 : Int32) ≤ l5) → hkd h l0 = 12 ∧ hkd h (hG h 522 l0) / 100 = 1 ∧ vp_in l5 (hln h (hG h 522 l0)) ∧ hkd h (hG h 521 l0) / 100 = 1 ∧ hkd h (hG h 521 l0) % 100 < 50 ∧ vp_in l5 (hln h (hG h 521 l0)) ∧ ∀ h12, h12 = setA (hG h 521 l0) l5.toNatClampNeg (hA h (hG h 522 l0) l5.toNatClampNeg) h → R g d m_X4_perform 214 [.ref l0, .null, .null, .null, .null, .int (l5 + 1)] [] h12 Q)
theorem v_X4_perform_214 {g : PG} {d : Nat} {l0 : Nat} {l5 : Int32} {h : PH} {Q : Out → PH → Prop} (H : w_X4_perform_214 g d l0 l5 h Q) : R g d m_X4_perform 214 [.ref l0, .null, .null, .null, .null, .int l5] [] h Q := by
  refine r_iload dX4_perform_214 rfl ?_
  refine r_bipush dX4_perform_216 rfl ?_
  refine r_icmp_ge (tgt := 241) dX4_perform_218 rfl (fun b1 => ?_) (fun b1 => ?_)
  · replace H := H.1 b1
    refine r_aload_n dX4_perform_241 rfl rfl ?_
    refine r_iconst dX4_perform_242 rfl ?_
    obtain ⟨k2, H⟩ := H
    refine r_invV (y := m_X4_raises) dX4_perform_243 rfl (lw_V q3346 q3348 qp76 q122 q3349) py_X4_raises (Nat.le_of_ble_eq_true rfl) (args := [_]) rfl rfl (Nat.le_of_ble_eq_true rfl) k2 (by decide) rfl (C.monoE H (fun o h3 _ x5 K => cont_I K (fun v4 H => ?_) (fun r HX => XR_nc rfl HX)))
    exact r_iret dX4_perform_246 rfl H
  · replace H := H.2 b1
    refine r_aload_n dX4_perform_221 rfl rfl ?_
    obtain ⟨k6, H⟩ := H
    refine r_getG fr_X4_9_12 (by decide) dX4_perform_222 k6 (by decide) ?_
    refine r_iload dX4_perform_225 rfl ?_
    refine r_aload_n dX4_perform_227 rfl rfl ?_
    refine r_getG fr_X4_13_12 (by decide) dX4_perform_228 k6 (by decide) ?_
    refine r_iload dX4_perform_231 rfl ?_
    obtain ⟨k7, H⟩ := H
    obtain ⟨k8, H⟩ := H
    refine r_iald dX4_perform_233 k7 k8 ?_
    obtain ⟨k9, H⟩ := H
    obtain ⟨k10, H⟩ := H
    obtain ⟨k11, H⟩ := H
    replace H := H _ rfl
    refine r_iast dX4_perform_234 k9 k10 k11 ?_
    refine r_iinc dX4_perform_235 rfl rfl (Nat.le_of_ble_eq_true rfl) rfl (slS (slS (slS (slS (slS sl0))))) ?_
    refine r_goto (tgt := 214) dX4_perform_238 rfl ?_
    exact H
abbrev w_X4_perform_168 (g : PG) (d : Nat) (l0 : Nat) (l2 : Int32) (l5 : Int32) (h : PH) (Q : Out → PH → Prop) : Prop := ((l5 ≤ (-1 : Int32)) → hkd h l0 = 12 ∧ hkd h (hG h 530 l0) / 100 = 1 ∧ hkd h (hG h 530 l0) % 100 < 50 ∧ vp_in (0 : Int32) (hln h (hG h 530 l0)) ∧ ∀ h6, h6 = setA (hG h 530 l0) (0 : Int32).toNatClampNeg (15 : Int32) h → hkd h6 (hG h6 530 l0) / 100 = 1 ∧ hkd h6 (hG h6 530 l0) % 100 < 50 ∧ vp_in (1 : Int32) (hln h6 (hG h6 530 l0)) ∧ ∀ h10, h10 = setA (hG h6 530 l0) (1 : Int32).toNatClampNeg l2 h6 → R g d m_X4_perform 214 [.ref l0, .null, .null, .null, .null, .int 0] [] h10 Q) ∧ ((¬ l5 ≤ (-1 : Int32)) → hkd h l0 = 12 ∧ hkd h (hG h 530 l0) / 100 = 1 ∧ vp_in l5 (hln h (hG h 530 l0)) ∧ hkd h (hG h 530 l0) % 100 < 50 ∧ vp_in (l5 + (2 : Int32)) (hln h (hG h 530 l0)) ∧ ∀ h17, h17 = setA (hG h 530 l0) (l5 + (2 : Int32)).toNatClampNeg (hA h (hG h 530 l0) l5.toNatClampNeg) h → R g d m_X4_perform 168 [.ref l0, .null, .int l2, .null, .null, .int (l5 + (-1))] [] h17 Q)
theorem v_X4_perform_168 {g : PG} {d : Nat} {l0 : Nat} {l2 : Int32} {l5 : Int32} {h : PH} {Q : Out → PH → Prop} (H : w_X4_perform_168 g d l0 l2 l5 h Q) : R g d m_X4_perform 168 [.ref l0, .null, .int l2, .null, .null, .int l5] [] h Q := by
  refine r_iload dX4_perform_168 rfl ?_
  refine r_iconst dX4_perform_170 rfl ?_
  refine r_icmp_le (tgt := 196) dX4_perform_171 rfl (fun b1 => ?_) (fun b1 => ?_)
  · replace H := H.1 b1
    refine r_aload_n dX4_perform_196 rfl rfl ?_
    obtain ⟨k2, H⟩ := H
    refine r_getG fr_X4_41_12 (by decide) dX4_perform_197 k2 (by decide) ?_
    refine r_iconst dX4_perform_200 rfl ?_
    refine r_bipush dX4_perform_201 rfl ?_
    obtain ⟨k3, H⟩ := H
    obtain ⟨k4, H⟩ := H
    obtain ⟨k5, H⟩ := H
    replace H := H _ rfl
    refine r_iast dX4_perform_203 k3 k4 k5 ?_
    refine r_aload_n dX4_perform_204 rfl rfl ?_
    refine r_getG fr_X4_41_12 (by decide) dX4_perform_205 k2 (by decide) ?_
    refine r_iconst dX4_perform_208 rfl ?_
    refine r_iload_n dX4_perform_209 rfl rfl ?_
    obtain ⟨k7, H⟩ := H
    obtain ⟨k8, H⟩ := H
    obtain ⟨k9, H⟩ := H
    replace H := H _ rfl
    refine r_iast dX4_perform_210 k7 k8 k9 ?_
    refine r_iconst dX4_perform_211 rfl ?_
    refine r_istore dX4_perform_212 (Nat.le_of_ble_eq_true rfl) rfl (slS (slS (slS (slS (slS sl0))))) ?_
    exact R.forget H ⟨Or.inl rfl, ⟨Or.inl rfl, ⟨Or.inr rfl, ⟨Or.inl rfl, ⟨Or.inl rfl, ⟨Or.inl rfl, trivial⟩⟩⟩⟩⟩⟩
  · replace H := H.2 b1
    refine r_aload_n dX4_perform_174 rfl rfl ?_
    obtain ⟨k11, H⟩ := H
    refine r_getG fr_X4_41_12 (by decide) dX4_perform_175 k11 (by decide) ?_
    refine r_iload dX4_perform_178 rfl ?_
    refine r_iconst dX4_perform_180 rfl ?_
    refine r_iadd dX4_perform_181 ?_
    refine r_aload_n dX4_perform_182 rfl rfl ?_
    refine r_getG fr_X4_41_12 (by decide) dX4_perform_183 k11 (by decide) ?_
    refine r_iload dX4_perform_186 rfl ?_
    obtain ⟨k12, H⟩ := H
    obtain ⟨k13, H⟩ := H
    refine r_iald dX4_perform_188 k12 k13 ?_
    obtain ⟨k15, H⟩ := H
    obtain ⟨k16, H⟩ := H
    replace H := H _ rfl
    refine r_iast dX4_perform_189 k12 k15 k16 ?_
    refine r_iinc dX4_perform_190 rfl rfl (Nat.le_of_ble_eq_true rfl) rfl (slS (slS (slS (slS (slS sl0))))) ?_
    refine r_goto (tgt := 168) dX4_perform_193 rfl ?_
    exact H
abbrev w_X4_perform_165 (g : PG) (d : Nat) (l0 : Nat) (l2 : Int32) (h : PH) (Q : Out → PH → Prop) : Prop := R g d m_X4_perform 168 [.ref l0, .null, .int l2, .null, .null, .int 3] [] h Q
theorem v_X4_perform_165 {g : PG} {d : Nat} {l0 : Nat} {l2 : Int32} {h : PH} {Q : Out → PH → Prop} (H : w_X4_perform_165 g d l0 l2 h Q) : R g d m_X4_perform 165 [.ref l0, .null, .int l2, .null, .null, .null] [] h Q := by
  refine r_iconst dX4_perform_165 rfl ?_
  refine r_istore dX4_perform_166 (Nat.le_of_ble_eq_true rfl) rfl (slS (slS (slS (slS (slS sl0))))) ?_
  exact H
abbrev w_X4_perform_154 (g : PG) (d : Nat) (l0 : Nat) (l2 : Int32) (l3 : Int32) (h : PH) (Q : Out → PH → Prop) : Prop := ((l3 ≤ 0) → w_X4_perform_165 g d l0 l2 h Q) ∧ ((¬ l3 ≤ 0) → hkd h l0 = 12 ∧ hkd h (hG h 530 l0) / 100 = 1 ∧ hkd h (hG h 530 l0) % 100 < 50 ∧ vp_in (2 : Int32) (hln h (hG h 530 l0)) ∧ ∀ h6, h6 = setA (hG h 530 l0) (2 : Int32).toNatClampNeg (0 : Int32) h → w_X4_perform_165 g d l0 l2 h6 Q)
theorem v_X4_perform_154 {g : PG} {d : Nat} {l0 : Nat} {l2 : Int32} {l3 : Int32} {h : PH} {Q : Out → PH → Prop} (H : w_X4_perform_154 g d l0 l2 l3 h Q) : R g d m_X4_perform 154 [.ref l0, .null, .int l2, .int l3, .null, .null] [] h Q := by
  refine r_iload_n dX4_perform_154 rfl rfl ?_
  refine r_if_le (tgt := 165) dX4_perform_155 rfl (fun b1 => ?_) (fun b1 => ?_)
  · replace H := H.1 b1
    exact R.forget (v_X4_perform_165 H) ⟨Or.inl rfl, ⟨Or.inl rfl, ⟨Or.inl rfl, ⟨Or.inr rfl, ⟨Or.inl rfl, ⟨Or.inl rfl, trivial⟩⟩⟩⟩⟩⟩
  · replace H := H.2 b1
    refine r_aload_n dX4_perform_158 rfl rfl ?_
    obtain ⟨k2, H⟩ := H
    refine r_getG fr_X4_41_12 (by decide) dX4_perform_159 k2 (by decide) ?_
    refine r_iconst dX4_perform_162 rfl ?_
    refine r_iconst dX4_perform_163 rfl ?_
    obtain ⟨k3, H⟩ := H
    obtain ⟨k4, H⟩ := H
    obtain ⟨k5, H⟩ := H
    replace H := H _ rfl
    refine r_iast dX4_perform_164 k3 k4 k5 ?_
    exact R.forget (v_X4_perform_165 H) ⟨Or.inl rfl, ⟨Or.inl rfl, ⟨Or.inl rfl, ⟨Or.inr rfl, ⟨Or.inl rfl, ⟨Or.inl rfl, trivial⟩⟩⟩⟩⟩⟩
abbrev w_X4_perform_123 (g : PG) (d : Nat) (l0 : Nat) (l2 : Int32) (l3 : Int32) (s0 : Int32) (h : PH) (Q : Out → PH → Prop) : Prop := R g d m_X4_perform 83 [.ref l0, .null, .int l2, .int l3, .int s0, .null] [] h Q
theorem v_X4_perform_123 {g : PG} {d : Nat} {l0 : Nat} {l2 : Int32} {l3 : Int32} {s0 : Int32} {h : PH} {Q : Out → PH → Prop} (H : w_X4_perform_123 g d l0 l2 l3 s0 h Q) : R g d m_X4_perform 123 [.ref l0, .null, .int l2, .int l3, .null, .null] [.int s0] h Q := by
  refine r_istore dX4_perform_123 (Nat.le_of_ble_eq_true rfl) rfl (slS (slS (slS (slS sl0)))) ?_
  refine r_goto (tgt := 83) dX4_perform_125 rfl ?_
  exact H
abbrev w_X4_perform_122 (g : PG) (d : Nat) (l0 : Nat) (l2 : Int32) (l3 : Int32) (h : PH) (Q : Out → PH → Prop) : Prop := w_X4_perform_123 g d l0 l2 l3 (0 : Int32) h Q
theorem v_X4_perform_122 {g : PG} {d : Nat} {l0 : Nat} {l2 : Int32} {l3 : Int32} {h : PH} {Q : Out → PH → Prop} (H : w_X4_perform_122 g d l0 l2 l3 h Q) : R g d m_X4_perform 122 [.ref l0, .null, .int l2, .int l3, .null, .null] [] h Q := by
  refine r_iconst dX4_perform_122 rfl ?_
  exact v_X4_perform_123 H
abbrev w_X4_perform_105 (g : PG) (d : Nat) (l0 : Nat) (l2 : Int32) (l3 : Int32) (h : PH) (Q : Out → PH → Prop) : Prop := ((¬ l3 = 0) → w_X4_perform_122 g d l0 l2 l3 h Q) ∧ ((l3 = 0) → hkd h l0 = 12 ∧ C g d m_X4_takes [.ref l0, .int 59] h (oI (fun v4 h3 => ((v4 = 0) → w_X4_perform_122 g d l0 l2 l3 h3 Q) ∧ ((¬ v4 = 0) → w_X4_perform_123 g d l0 l2 l3 (1 : Int32) h3 Q)) (fun r hx => Q (.inr r) hx)))
theorem v_X4_perform_105 {g : PG} {d : Nat} {l0 : Nat} {l2 : Int32} {l3 : Int32} {h : PH} {Q : Out → PH → Prop} (H : w_X4_perform_105 g d l0 l2 l3 h Q) : R g d m_X4_perform 105 [.ref l0, .null, .int l2, .int l3, .null, .null] [] h Q := by
  refine r_iload_n dX4_perform_105 rfl rfl ?_
  refine r_if_ne (tgt := 122) dX4_perform_106 rfl (fun b1 => ?_) (fun b1 => ?_)
  · replace H := H.1 b1
    exact v_X4_perform_122 H
  · replace H := H.2 b1
    refine r_aload_n dX4_perform_109 rfl rfl ?_
    refine r_bipush dX4_perform_110 rfl ?_
    obtain ⟨k2, H⟩ := H
    refine r_invV (y := m_X4_takes) dX4_perform_112 rfl (lw_V q3637 q3639 qp102 q122 q3640) py_X4_takes (Nat.le_of_ble_eq_true rfl) (args := [_]) rfl rfl (Nat.le_of_ble_eq_true rfl) k2 (by decide) rfl (C.monoE H (fun o h3 _ x5 K => cont_I K (fun v4 H => ?_) (fun r HX => XR_nc rfl HX)))
    refine r_if_eq (tgt := 122) dX4_perform_115 rfl (fun b6 => ?_) (fun b6 => ?_)
    · replace H := H.1 b6
      exact v_X4_perform_122 H
    · replace H := H.2 b6
      refine r_iconst dX4_perform_118 rfl ?_
      refine r_goto (tgt := 123) dX4_perform_119 rfl ?_
      exact v_X4_perform_123 H
abbrev w_X4_perform_83 (g : PG) (d : Nat) (l0 : Nat) (l2 : Int32) (l3 : Int32) (l4 : Int32) (h : PH) (Q : Out → PH → Prop) : Prop := ((l4 = 0) → hkd h l0 = 12 ∧ ∀ h3, h3 = setF 30 l0 (0 : Int32) h → ((¬ l3 = 0) → ((l3 ≤ 0) → w_X4_perform_154 g d l0 l2 l3 h3 Q) ∧ ((¬ l3 ≤ 0) → hkd h3 (hG h3 530 l0) / 100 = 1 ∧ hkd h3 (hG h3 530 l0) % 100 < 50 ∧ vp_in (0 : Int32) (hln h3 (hG h3 530 l0)) ∧ ∀ h9, h9 = setA (hG h3 530 l0) (0 : Int32).toNatClampNeg (0 : Int32) h3 → w_X4_perform_154 g d l0 l2 l3 h9 Q)) ∧ ((l3 = 0) → C g d m_X4_keeps [.ref l0, .int l2] h3 (oI (fun v11 h10 => Q (.inl (some (.int v11))) h10) (fun r hx => Q (.inr r) hx)))) ∧ ((¬ l4 = 0) → hkd h l0 = 12 ∧ C g d m_X4_isCommand [.ref l0] h (oI (fun v15 h14 => C g d m_X4_carries [.ref l0] h14 (oI (fun v18 h17 => ((¬ v18 = 0) → w_X4_perform_105 g d l0 l2 v18 h17 Q) ∧ ((v18 = 0) → w_X4_perform_105 g d l0 (l2 + 1) v18 h17 Q)) (fun r hx => Q (.inr r) hx))) (fun r hx => Q (.inr r) hx)))
theorem v_X4_perform_83 {g : PG} {d : Nat} {l0 : Nat} {l2 : Int32} {l3 : Int32} {l4 : Int32} {h : PH} {Q : Out → PH → Prop} (H : w_X4_perform_83 g d l0 l2 l3 l4 h Q) : R g d m_X4_perform 83 [.ref l0, .null, .int l2, .int l3, .int l4, .null] [] h Q := by
  refine r_iload dX4_perform_83 rfl ?_
  refine r_if_eq (tgt := 128) dX4_perform_85 rfl (fun b1 => ?_) (fun b1 => ?_)
  · replace H := H.1 b1
    refine r_aload_n dX4_perform_128 rfl rfl ?_
    refine r_iconst dX4_perform_129 rfl ?_
    obtain ⟨k2, H⟩ := H
    replace H := H _ rfl
    refine r_putF fw_X4_185_12 (by decide) dX4_perform_130 k2 (by decide) rfl rfl ?_
    refine r_iload_n dX4_perform_133 rfl rfl ?_
    refine r_if_ne (tgt := 143) dX4_perform_134 rfl (fun b4 => ?_) (fun b4 => ?_)
    · replace H := H.1 b4
      refine r_iload_n dX4_perform_143 rfl rfl ?_
      refine r_if_le (tgt := 154) dX4_perform_144 rfl (fun b5 => ?_) (fun b5 => ?_)
      · replace H := H.1 b5
        exact R.forget (v_X4_perform_154 H) ⟨Or.inl rfl, ⟨Or.inl rfl, ⟨Or.inl rfl, ⟨Or.inl rfl, ⟨Or.inr rfl, ⟨Or.inl rfl, trivial⟩⟩⟩⟩⟩⟩
      · replace H := H.2 b5
        refine r_aload_n dX4_perform_147 rfl rfl ?_
        refine r_getG fr_X4_41_12 (by decide) dX4_perform_148 k2 (by decide) ?_
        refine r_iconst dX4_perform_151 rfl ?_
        refine r_iconst dX4_perform_152 rfl ?_
        obtain ⟨k6, H⟩ := H
        obtain ⟨k7, H⟩ := H
        obtain ⟨k8, H⟩ := H
        replace H := H _ rfl
        refine r_iast dX4_perform_153 k6 k7 k8 ?_
        exact R.forget (v_X4_perform_154 H) ⟨Or.inl rfl, ⟨Or.inl rfl, ⟨Or.inl rfl, ⟨Or.inl rfl, ⟨Or.inr rfl, ⟨Or.inl rfl, trivial⟩⟩⟩⟩⟩⟩
    · replace H := H.2 b4
      refine r_aload_n dX4_perform_137 rfl rfl ?_
      refine r_iload_n dX4_perform_138 rfl rfl ?_
      refine r_invV (y := m_X4_keeps) dX4_perform_139 rfl (lw_V q3342 q3344 qp75 q122 q3345) py_X4_keeps (Nat.le_of_ble_eq_true rfl) (args := [_]) rfl rfl (Nat.le_of_ble_eq_true rfl) k2 (by decide) rfl (C.monoE H (fun o h10 _ x12 K => cont_I K (fun v11 H => ?_) (fun r HX => XR_nc rfl HX)))
      exact r_iret dX4_perform_142 rfl H
  · replace H := H.2 b1
    refine r_aload_n dX4_perform_88 rfl rfl ?_
    obtain ⟨k13, H⟩ := H
    refine r_invV (y := m_X4_isCommand) dX4_perform_89 rfl (lw_V q3552 q3554 qp99 q122 q3555) py_X4_isCommand (Nat.le_of_ble_eq_true rfl) (args := []) rfl rfl (Nat.le_of_ble_eq_true rfl) k13 (by decide) rfl (C.monoE H (fun o h14 _ x16 K => cont_I K (fun v15 H => ?_) (fun r HX => XR_nc rfl HX)))
    refine r_istore_n dX4_perform_92 rfl (Nat.le_of_ble_eq_true rfl) rfl (slS sl0) ?_
    refine r_aload_n dX4_perform_93 rfl rfl ?_
    refine r_invV (y := m_X4_carries) dX4_perform_94 rfl (lw_V q3649 q3651 qp105 q122 q3652) py_X4_carries (Nat.le_of_ble_eq_true rfl) (args := []) rfl rfl (Nat.le_of_ble_eq_true rfl) (x16.kd k13 (by decide)) (by decide) rfl (C.monoE H (fun o h17 _ x19 K => cont_I K (fun v18 H => ?_) (fun r HX => XR_nc rfl HX)))
    refine r_istore_n dX4_perform_97 rfl (Nat.le_of_ble_eq_true rfl) rfl (slS (slS (slS sl0))) ?_
    refine r_iload_n dX4_perform_98 rfl rfl ?_
    refine r_if_ne (tgt := 105) dX4_perform_99 rfl (fun b20 => ?_) (fun b20 => ?_)
    · replace H := H.1 b20
      exact R.forget (v_X4_perform_105 H) ⟨Or.inl rfl, ⟨Or.inr rfl, ⟨Or.inl rfl, ⟨Or.inl rfl, ⟨Or.inr rfl, ⟨Or.inl rfl, trivial⟩⟩⟩⟩⟩⟩
    · replace H := H.2 b20
      refine r_iinc dX4_perform_102 rfl rfl (Nat.le_of_ble_eq_true rfl) rfl (slS (slS sl0)) ?_
      exact R.forget (v_X4_perform_105 H) ⟨Or.inl rfl, ⟨Or.inr rfl, ⟨Or.inl rfl, ⟨Or.inl rfl, ⟨Or.inr rfl, ⟨Or.inl rfl, trivial⟩⟩⟩⟩⟩⟩
abbrev w_X4_perform_54 (g : PG) (d : Nat) (l0 : Nat) (l1 : Int32) (h : PH) (Q : Out → PH → Prop) : Prop := ((¬ l1 = 0) → hkd h l0 = 12 ∧ ∀ h3, h3 = setF 31 l0 (0 : Int32) h → R g d m_X4_perform 83 [.ref l0, .null, .int 0, .int 0, .int 1, .null] [] h3 Q) ∧ ((l1 = 0) → hkd h l0 = 12 ∧ ∀ h5, h5 = setF 30 l0 (0 : Int32) h → Q (.inl (some (.int ((-100 : Int32) - (hF h5 31 l0))))) h5)
theorem v_X4_perform_54 {g : PG} {d : Nat} {l0 : Nat} {l1 : Int32} {h : PH} {Q : Out → PH → Prop} (H : w_X4_perform_54 g d l0 l1 h Q) : R g d m_X4_perform 54 [.ref l0, .int l1, .null, .null, .null, .null] [] h Q := by
  refine r_iload_n dX4_perform_54 rfl rfl ?_
  refine r_if_ne (tgt := 71) dX4_perform_55 rfl (fun b1 => ?_) (fun b1 => ?_)
  · replace H := H.1 b1
    refine r_aload_n dX4_perform_71 rfl rfl ?_
    refine r_iconst dX4_perform_72 rfl ?_
    obtain ⟨k2, H⟩ := H
    replace H := H _ rfl
    refine r_putF fw_X4_188_12 (by decide) dX4_perform_73 k2 (by decide) rfl rfl ?_
    refine r_iconst dX4_perform_76 rfl ?_
    refine r_istore_n dX4_perform_77 rfl (Nat.le_of_ble_eq_true rfl) rfl (slS (slS sl0)) ?_
    refine r_iconst dX4_perform_78 rfl ?_
    refine r_istore_n dX4_perform_79 rfl (Nat.le_of_ble_eq_true rfl) rfl (slS (slS (slS sl0))) ?_
    refine r_iconst dX4_perform_80 rfl ?_
    refine r_istore dX4_perform_81 (Nat.le_of_ble_eq_true rfl) rfl (slS (slS (slS (slS sl0)))) ?_
    exact R.forget H ⟨Or.inl rfl, ⟨Or.inr rfl, ⟨Or.inl rfl, ⟨Or.inl rfl, ⟨Or.inl rfl, ⟨Or.inl rfl, trivial⟩⟩⟩⟩⟩⟩
  · replace H := H.2 b1
    refine r_aload_n dX4_perform_58 rfl rfl ?_
    refine r_iconst dX4_perform_59 rfl ?_
    obtain ⟨k4, H⟩ := H
    replace H := H _ rfl
    refine r_putF fw_X4_185_12 (by decide) dX4_perform_60 k4 (by decide) rfl rfl ?_
    refine r_bipush dX4_perform_63 rfl ?_
    refine r_aload_n dX4_perform_65 rfl rfl ?_
    refine r_getF fr_X4_188_12 (by decide) dX4_perform_66 k4 (by decide) ?_
    refine r_isub dX4_perform_69 ?_
    exact r_iret dX4_perform_70 rfl H
abbrev w_X4_perform_50 (g : PG) (d : Nat) (l0 : Nat) (s0 : Int32) (h : PH) (Q : Out → PH → Prop) : Prop := R g d m_X4_perform 14 [.ref l0, .int s0, .null, .null, .null, .null] [] h Q
theorem v_X4_perform_50 {g : PG} {d : Nat} {l0 : Nat} {s0 : Int32} {h : PH} {Q : Out → PH → Prop} (H : w_X4_perform_50 g d l0 s0 h Q) : R g d m_X4_perform 50 [.ref l0, .null, .null, .null, .null, .null] [.int s0] h Q := by
  refine r_istore_n dX4_perform_50 rfl (Nat.le_of_ble_eq_true rfl) rfl (slS sl0) ?_
  refine r_goto (tgt := 14) dX4_perform_51 rfl ?_
  exact H
abbrev w_X4_perform_49 (g : PG) (d : Nat) (l0 : Nat) (h : PH) (Q : Out → PH → Prop) : Prop := w_X4_perform_50 g d l0 (0 : Int32) h Q
theorem v_X4_perform_49 {g : PG} {d : Nat} {l0 : Nat} {h : PH} {Q : Out → PH → Prop} (H : w_X4_perform_49 g d l0 h Q) : R g d m_X4_perform 49 [.ref l0, .null, .null, .null, .null, .null] [] h Q := by
  refine r_iconst dX4_perform_49 rfl ?_
  exact v_X4_perform_50 H
abbrev w_X4_perform_14 (g : PG) (d : Nat) (l0 : Nat) (l1 : Int32) (h : PH) (Q : Out → PH → Prop) : Prop := ((l1 = 0) → w_X4_perform_54 g d l0 l1 h Q) ∧ ((¬ l1 = 0) → hkd h l0 = 12 ∧ (((hF h 30 l0) ≤ (hF h 31 l0)) → w_X4_perform_54 g d l0 l1 h Q) ∧ ((¬ (hF h 30 l0) ≤ (hF h 31 l0)) → C g d m_X4_takes [.ref l0, .int 59] h (oI (fun v5 h4 => ((v5 = 0) → w_X4_perform_49 g d l0 h4 Q) ∧ ((¬ v5 = 0) → C g d m_X4_isCommand [.ref l0] h4 (oI (fun v9 h8 => ((v9 = 0) → w_X4_perform_49 g d l0 h8 Q) ∧ ((¬ v9 = 0) → w_X4_perform_50 g d l0 (1 : Int32) h8 Q)) (fun r hx => Q (.inr r) hx)))) (fun r hx => Q (.inr r) hx))))
theorem v_X4_perform_14 {g : PG} {d : Nat} {l0 : Nat} {l1 : Int32} {h : PH} {Q : Out → PH → Prop} (H : w_X4_perform_14 g d l0 l1 h Q) : R g d m_X4_perform 14 [.ref l0, .int l1, .null, .null, .null, .null] [] h Q := by
  refine r_iload_n dX4_perform_14 rfl rfl ?_
  refine r_if_eq (tgt := 54) dX4_perform_15 rfl (fun b1 => ?_) (fun b1 => ?_)
  · replace H := H.1 b1
    exact v_X4_perform_54 H
  · replace H := H.2 b1
    refine r_aload_n dX4_perform_18 rfl rfl ?_
    obtain ⟨k2, H⟩ := H
    refine r_getF fr_X4_188_12 (by decide) dX4_perform_19 k2 (by decide) ?_
    refine r_aload_n dX4_perform_22 rfl rfl ?_
    refine r_getF fr_X4_185_12 (by decide) dX4_perform_23 k2 (by decide) ?_
    refine r_icmp_ge (tgt := 54) dX4_perform_26 rfl (fun b3 => ?_) (fun b3 => ?_)
    · replace H := H.1 b3
      exact v_X4_perform_54 H
    · replace H := H.2 b3
      refine r_aload_n dX4_perform_29 rfl rfl ?_
      refine r_bipush dX4_perform_30 rfl ?_
      refine r_invV (y := m_X4_takes) dX4_perform_32 rfl (lw_V q3637 q3639 qp102 q122 q3640) py_X4_takes (Nat.le_of_ble_eq_true rfl) (args := [_]) rfl rfl (Nat.le_of_ble_eq_true rfl) k2 (by decide) rfl (C.monoE H (fun o h4 _ x6 K => cont_I K (fun v5 H => ?_) (fun r HX => XR_nc rfl HX)))
      refine r_if_eq (tgt := 49) dX4_perform_35 rfl (fun b7 => ?_) (fun b7 => ?_)
      · replace H := H.1 b7
        exact R.forget (v_X4_perform_49 H) ⟨Or.inl rfl, ⟨Or.inr rfl, ⟨Or.inl rfl, ⟨Or.inl rfl, ⟨Or.inl rfl, ⟨Or.inl rfl, trivial⟩⟩⟩⟩⟩⟩
      · replace H := H.2 b7
        refine r_aload_n dX4_perform_38 rfl rfl ?_
        refine r_invV (y := m_X4_isCommand) dX4_perform_39 rfl (lw_V q3552 q3554 qp99 q122 q3555) py_X4_isCommand (Nat.le_of_ble_eq_true rfl) (args := []) rfl rfl (Nat.le_of_ble_eq_true rfl) (x6.kd k2 (by decide)) (by decide) rfl (C.monoE H (fun o h8 _ x10 K => cont_I K (fun v9 H => ?_) (fun r HX => XR_nc rfl HX)))
        refine r_if_eq (tgt := 49) dX4_perform_42 rfl (fun b11 => ?_) (fun b11 => ?_)
        · replace H := H.1 b11
          exact R.forget (v_X4_perform_49 H) ⟨Or.inl rfl, ⟨Or.inr rfl, ⟨Or.inl rfl, ⟨Or.inl rfl, ⟨Or.inl rfl, ⟨Or.inl rfl, trivial⟩⟩⟩⟩⟩⟩
        · replace H := H.2 b11
          refine r_iconst dX4_perform_45 rfl ?_
          refine r_goto (tgt := 50) dX4_perform_46 rfl ?_
          exact R.forget (v_X4_perform_50 H) ⟨Or.inl rfl, ⟨Or.inr rfl, ⟨Or.inl rfl, ⟨Or.inl rfl, ⟨Or.inl rfl, ⟨Or.inl rfl, trivial⟩⟩⟩⟩⟩⟩
abbrev w_X4_perform_0 (g : PG) (d : Nat) (l0 : Nat) (h : PH) (Q : Out → PH → Prop) : Prop := hkd h l0 = 12 ∧ C g d m_X4_tries [.ref l0] h (oV (fun h2 => ∀ h5, h5 = setF 31 l0 (0 : Int32) h2 → C g d m_X4_isCommand [.ref l0] h5 (oI (fun v7 h6 => R g d m_X4_perform 14 [.ref l0, .int v7, .null, .null, .null, .null] [] h6 Q) (fun r hx => Q (.inr r) hx))) (fun r hx => Q (.inr r) hx))
theorem v_X4_perform_0 {g : PG} {d : Nat} {l0 : Nat} {h : PH} {Q : Out → PH → Prop} (H : w_X4_perform_0 g d l0 h Q) : R g d m_X4_perform 0 [.ref l0, .null, .null, .null, .null, .null] [] h Q := by
  refine r_aload_n dX4_perform_0 rfl rfl ?_
  obtain ⟨k1, H⟩ := H
  refine r_invV (y := m_X4_tries) dX4_perform_1 rfl (lw_V q3307 q3309 qp67 q122 q3310) py_X4_tries (Nat.le_of_ble_eq_true rfl) (args := []) rfl rfl (Nat.le_of_ble_eq_true rfl) k1 (by decide) rfl (C.monoE H (fun o h2 _ x4 K => cont_V K (fun H => ?_) (fun r HX => XR_nc rfl HX)))
  refine r_aload_n dX4_perform_4 rfl rfl ?_
  refine r_iconst dX4_perform_5 rfl ?_
  replace H := H _ rfl
  refine r_putF fw_X4_188_12 (by decide) dX4_perform_6 (x4.kd k1 (by decide)) (by decide) rfl rfl ?_
  refine r_aload_n dX4_perform_9 rfl rfl ?_
  refine r_invV (y := m_X4_isCommand) dX4_perform_10 rfl (lw_V q3552 q3554 qp99 q122 q3555) py_X4_isCommand (Nat.le_of_ble_eq_true rfl) (args := []) rfl rfl (Nat.le_of_ble_eq_true rfl) (x4.kd k1 (by decide)) (by decide) rfl (C.monoE H (fun o h6 _ x8 K => cont_I K (fun v7 H => ?_) (fun r HX => XR_nc rfl HX)))
  refine r_istore_n dX4_perform_13 rfl (Nat.le_of_ble_eq_true rfl) rfl (slS sl0) ?_
  exact H
theorem c_X4_perform_0 {g : PG} {d : Nat} {l0 : Nat} {h : PH} {Q : Out → PH → Prop} (H : w_X4_perform_0 g d l0 h Q) : C g (d + 1) m_X4_perform [.ref l0] h Q := C_of_R rfl rfl (Nat.le_of_ble_eq_true rfl) rfl (v_X4_perform_0 H)
abbrev w_X4_isCommand_139 (g : PG) (d : Nat) (l0 : Nat) (l2 : Int32) (h : PH) (Q : Out → PH → Prop) : Prop := (l2 = 0 → hkd h l0 = 12 ∧ C g d m_X4_digits [.ref l0, .int 0, .int 1] h (oI (fun v4 h3 => ((v4 = 0) → Q (.inl (some (.int 0))) h3) ∧ ((¬ v4 = 0) → C g d m_X4_takes [.ref l0, .int 64] h3 (oI (fun v8 h7 => ((v8 = 0) → Q (.inl (some (.int 0))) h7) ∧ ((¬ v8 = 0) → C g d m_X4_digits [.ref l0, .int 1, .int 2] h7 (oI (fun v12 h11 => ((v12 = 0) → Q (.inl (some (.int 0))) h11) ∧ ((¬ v12 = 0) → C g d m_X4_takes [.ref l0, .int 32] h11 (oI (fun v16 h15 => ((v16 = 0) → Q (.inl (some (.int 0))) h15) ∧ ((¬ v16 = 0) → C g d m_X4_digits [.ref l0, .int 2, .int 2] h15 (oI (fun v20 h19 => ((v20 = 0) → Q (.inl (some (.int 0))) h19) ∧ ((¬ v20 = 0) → Q (.inl (some (.int 1))) h19)) (fun r hx => Q (.inr r) hx)))) (fun r hx => Q (.inr r) hx)))) (fun r hx => Q (.inr r) hx)))) (fun r hx => Q (.inr r) hx)))) (fun r hx => Q (.inr r) hx))) ∧ (l2 = 1 → hkd h l0 = 12 ∧ C g d m_X4_digits [.ref l0, .int 0, .int 1] h (oI (fun v26 h25 => ((v26 = 0) → Q (.inl (some (.int 0))) h25) ∧ ((¬ v26 = 0) → C g d m_X4_takes [.ref l0, .int 32] h25 (oI (fun v30 h29 => ((v30 = 0) → Q (.inl (some (.int 0))) h29) ∧ ((¬ v30 = 0) → C g d m_X4_digits [.ref l0, .int 1, .int 1] h29 (oI (fun v34 h33 => ((v34 = 0) → Q (.inl (some (.int 0))) h33) ∧ ((¬ v34 = 0) → Q (.inl (some (.int 1))) h33)) (fun r hx => Q (.inr r) hx)))) (fun r hx => Q (.inr r) hx)))) (fun r hx => Q (.inr r) hx))) ∧ (l2 = 2 → hkd h l0 = 12 ∧ C g d m_X4_digits [.ref l0, .int 0, .int 1] h (oI (fun v40 h39 => ((v40 = 0) → Q (.inl (some (.int 0))) h39) ∧ ((¬ v40 = 0) → C g d m_X4_takes [.ref l0, .int 62] h39 (oI (fun v44 h43 => ((v44 = 0) → Q (.inl (some (.int 0))) h43) ∧ ((¬ v44 = 0) → C g d m_X4_digits [.ref l0, .int 1, .int 1] h43 (oI (fun v48 h47 => ((v48 = 0) → Q (.inl (some (.int 0))) h47) ∧ ((¬ v48 = 0) → Q (.inl (some (.int 1))) h47)) (fun r hx => Q (.inr r) hx)))) (fun r hx => Q (.inr r) hx)))) (fun r hx => Q (.inr r) hx))) ∧ (l2 = 3 → hkd h l0 = 12 ∧ C g d m_X4_digits [.ref l0, .int 0, .int 2] h (oI (fun v54 h53 => ((v54 = 0) → Q (.inl (some (.int 0))) h53) ∧ ((¬ v54 = 0) → C g d m_X4_takes [.ref l0, .int 61] h53 (oI (fun v58 h57 => ((v58 = 0) → Q (.inl (some (.int 0))) h57) ∧ ((¬ v58 = 0) → C g d m_X4_isDegree [.ref l0] h57 (oI (fun v62 h61 => ((v62 = 0) → Q (.inl (some (.int 0))) h61) ∧ ((¬ v62 = 0) → Q (.inl (some (.int 1))) h61)) (fun r hx => Q (.inr r) hx)))) (fun r hx => Q (.inr r) hx)))) (fun r hx => Q (.inr r) hx))) ∧ (l2 = 4 → hkd h l0 = 12 ∧ C g d m_X4_isHours [.ref l0] h (oI (fun v68 h67 => narrow .boolean (.int v68) = .int v68 ∧ Q (.inl (some (.int v68))) h67) (fun r hx => Q (.inr r) hx))) ∧ (¬ l2 = 0 → ¬ l2 = 1 → ¬ l2 = 2 → ¬ l2 = 3 → ¬ l2 = 4 → hkd h l0 = 12 ∧ C g d m_X4_digits [.ref l0, .int 0, .int 1] h (oI (fun v72 h71 => narrow .boolean (.int v72) = .int v72 ∧ Q (.inl (some (.int v72))) h71) (fun r hx => Q (.inr r) hx)))
theorem v_X4_isCommand_139 {g : PG} {d : Nat} {l0 : Nat} {l2 : Int32} {h : PH} {Q : Out → PH → Prop} (H : w_X4_isCommand_139 g d l0 l2 h Q) : R g d m_X4_isCommand 139 [.ref l0, .null, .int l2] [] h Q := by
  refine r_iload_n dX4_isCommand_139 rfl rfl ?_
  refine R.tri (k9 := 0) (fun b1 => ?_) (fun b1 => ?_)
  · replace H := H.1 b1
    refine r_tableIn (tgt := 176) dX4_isCommand_140 (by rw [b1]; decide) (by rw [b1]; decide) (by rw [b1]; first | done | rfl) rfl ?_
    refine r_aload_n dX4_isCommand_176 rfl rfl ?_
    refine r_iconst dX4_isCommand_177 rfl ?_
    refine r_iconst dX4_isCommand_178 rfl ?_
    obtain ⟨k2, H⟩ := H
    refine r_invV (y := m_X4_digits) dX4_isCommand_179 rfl (lw_V q3633 q3635 qp101 q122 q3636) py_X4_digits (Nat.le_of_ble_eq_true rfl) (args := [_, _]) rfl rfl (Nat.le_of_ble_eq_true rfl) k2 (by decide) rfl (C.monoE H (fun o h3 _ x5 K => cont_I K (fun v4 H => ?_) (fun r HX => XR_nc rfl HX)))
    refine r_if_eq (tgt := 225) dX4_isCommand_182 rfl (fun b6 => ?_) (fun b6 => ?_)
    · replace H := H.1 b6
      refine r_iconst dX4_isCommand_225 rfl ?_
      exact r_zret dX4_isCommand_226 rfl rfl H
    · replace H := H.2 b6
      refine r_aload_n dX4_isCommand_185 rfl rfl ?_
      refine r_bipush dX4_isCommand_186 rfl ?_
      refine r_invV (y := m_X4_takes) dX4_isCommand_188 rfl (lw_V q3637 q3639 qp102 q122 q3640) py_X4_takes (Nat.le_of_ble_eq_true rfl) (args := [_]) rfl rfl (Nat.le_of_ble_eq_true rfl) (x5.kd k2 (by decide)) (by decide) rfl (C.monoE H (fun o h7 _ x9 K => cont_I K (fun v8 H => ?_) (fun r HX => XR_nc rfl HX)))
      refine r_if_eq (tgt := 225) dX4_isCommand_191 rfl (fun b10 => ?_) (fun b10 => ?_)
      · replace H := H.1 b10
        refine r_iconst dX4_isCommand_225 rfl ?_
        exact r_zret dX4_isCommand_226 rfl rfl H
      · replace H := H.2 b10
        refine r_aload_n dX4_isCommand_194 rfl rfl ?_
        refine r_iconst dX4_isCommand_195 rfl ?_
        refine r_iconst dX4_isCommand_196 rfl ?_
        refine r_invV (y := m_X4_digits) dX4_isCommand_197 rfl (lw_V q3633 q3635 qp101 q122 q3636) py_X4_digits (Nat.le_of_ble_eq_true rfl) (args := [_, _]) rfl rfl (Nat.le_of_ble_eq_true rfl) (x9.kd (x5.kd k2 (by decide)) (by decide)) (by decide) rfl (C.monoE H (fun o h11 _ x13 K => cont_I K (fun v12 H => ?_) (fun r HX => XR_nc rfl HX)))
        refine r_if_eq (tgt := 225) dX4_isCommand_200 rfl (fun b14 => ?_) (fun b14 => ?_)
        · replace H := H.1 b14
          refine r_iconst dX4_isCommand_225 rfl ?_
          exact r_zret dX4_isCommand_226 rfl rfl H
        · replace H := H.2 b14
          refine r_aload_n dX4_isCommand_203 rfl rfl ?_
          refine r_bipush dX4_isCommand_204 rfl ?_
          refine r_invV (y := m_X4_takes) dX4_isCommand_206 rfl (lw_V q3637 q3639 qp102 q122 q3640) py_X4_takes (Nat.le_of_ble_eq_true rfl) (args := [_]) rfl rfl (Nat.le_of_ble_eq_true rfl) (x13.kd (x9.kd (x5.kd k2 (by decide)) (by decide)) (by decide)) (by decide) rfl (C.monoE H (fun o h15 _ x17 K => cont_I K (fun v16 H => ?_) (fun r HX => XR_nc rfl HX)))
          refine r_if_eq (tgt := 225) dX4_isCommand_209 rfl (fun b18 => ?_) (fun b18 => ?_)
          · replace H := H.1 b18
            refine r_iconst dX4_isCommand_225 rfl ?_
            exact r_zret dX4_isCommand_226 rfl rfl H
          · replace H := H.2 b18
            refine r_aload_n dX4_isCommand_212 rfl rfl ?_
            refine r_iconst dX4_isCommand_213 rfl ?_
            refine r_iconst dX4_isCommand_214 rfl ?_
            refine r_invV (y := m_X4_digits) dX4_isCommand_215 rfl (lw_V q3633 q3635 qp101 q122 q3636) py_X4_digits (Nat.le_of_ble_eq_true rfl) (args := [_, _]) rfl rfl (Nat.le_of_ble_eq_true rfl) (x17.kd (x13.kd (x9.kd (x5.kd k2 (by decide)) (by decide)) (by decide)) (by decide)) (by decide) rfl (C.monoE H (fun o h19 _ x21 K => cont_I K (fun v20 H => ?_) (fun r HX => XR_nc rfl HX)))
            refine r_if_eq (tgt := 225) dX4_isCommand_218 rfl (fun b22 => ?_) (fun b22 => ?_)
            · replace H := H.1 b22
              refine r_iconst dX4_isCommand_225 rfl ?_
              exact r_zret dX4_isCommand_226 rfl rfl H
            · replace H := H.2 b22
              refine r_iconst dX4_isCommand_221 rfl ?_
              refine r_goto (tgt := 226) dX4_isCommand_222 rfl ?_
              exact r_zret dX4_isCommand_226 rfl rfl H
  replace H := H.2
  refine R.tri (k9 := 1) (fun b23 => ?_) (fun b23 => ?_)
  · replace H := H.1 b23
    refine r_tableIn (tgt := 227) dX4_isCommand_140 (by rw [b23]; decide) (by rw [b23]; decide) (by rw [b23]; first | done | rfl) rfl ?_
    refine r_aload_n dX4_isCommand_227 rfl rfl ?_
    refine r_iconst dX4_isCommand_228 rfl ?_
    refine r_iconst dX4_isCommand_229 rfl ?_
    obtain ⟨k24, H⟩ := H
    refine r_invV (y := m_X4_digits) dX4_isCommand_230 rfl (lw_V q3633 q3635 qp101 q122 q3636) py_X4_digits (Nat.le_of_ble_eq_true rfl) (args := [_, _]) rfl rfl (Nat.le_of_ble_eq_true rfl) k24 (by decide) rfl (C.monoE H (fun o h25 _ x27 K => cont_I K (fun v26 H => ?_) (fun r HX => XR_nc rfl HX)))
    refine r_if_eq (tgt := 258) dX4_isCommand_233 rfl (fun b28 => ?_) (fun b28 => ?_)
    · replace H := H.1 b28
      refine r_iconst dX4_isCommand_258 rfl ?_
      exact r_zret dX4_isCommand_259 rfl rfl H
    · replace H := H.2 b28
      refine r_aload_n dX4_isCommand_236 rfl rfl ?_
      refine r_bipush dX4_isCommand_237 rfl ?_
      refine r_invV (y := m_X4_takes) dX4_isCommand_239 rfl (lw_V q3637 q3639 qp102 q122 q3640) py_X4_takes (Nat.le_of_ble_eq_true rfl) (args := [_]) rfl rfl (Nat.le_of_ble_eq_true rfl) (x27.kd k24 (by decide)) (by decide) rfl (C.monoE H (fun o h29 _ x31 K => cont_I K (fun v30 H => ?_) (fun r HX => XR_nc rfl HX)))
      refine r_if_eq (tgt := 258) dX4_isCommand_242 rfl (fun b32 => ?_) (fun b32 => ?_)
      · replace H := H.1 b32
        refine r_iconst dX4_isCommand_258 rfl ?_
        exact r_zret dX4_isCommand_259 rfl rfl H
      · replace H := H.2 b32
        refine r_aload_n dX4_isCommand_245 rfl rfl ?_
        refine r_iconst dX4_isCommand_246 rfl ?_
        refine r_iconst dX4_isCommand_247 rfl ?_
        refine r_invV (y := m_X4_digits) dX4_isCommand_248 rfl (lw_V q3633 q3635 qp101 q122 q3636) py_X4_digits (Nat.le_of_ble_eq_true rfl) (args := [_, _]) rfl rfl (Nat.le_of_ble_eq_true rfl) (x31.kd (x27.kd k24 (by decide)) (by decide)) (by decide) rfl (C.monoE H (fun o h33 _ x35 K => cont_I K (fun v34 H => ?_) (fun r HX => XR_nc rfl HX)))
        refine r_if_eq (tgt := 258) dX4_isCommand_251 rfl (fun b36 => ?_) (fun b36 => ?_)
        · replace H := H.1 b36
          refine r_iconst dX4_isCommand_258 rfl ?_
          exact r_zret dX4_isCommand_259 rfl rfl H
        · replace H := H.2 b36
          refine r_iconst dX4_isCommand_254 rfl ?_
          refine r_goto (tgt := 259) dX4_isCommand_255 rfl ?_
          exact r_zret dX4_isCommand_259 rfl rfl H
  replace H := H.2
  refine R.tri (k9 := 2) (fun b37 => ?_) (fun b37 => ?_)
  · replace H := H.1 b37
    refine r_tableIn (tgt := 260) dX4_isCommand_140 (by rw [b37]; decide) (by rw [b37]; decide) (by rw [b37]; first | done | rfl) rfl ?_
    refine r_aload_n dX4_isCommand_260 rfl rfl ?_
    refine r_iconst dX4_isCommand_261 rfl ?_
    refine r_iconst dX4_isCommand_262 rfl ?_
    obtain ⟨k38, H⟩ := H
    refine r_invV (y := m_X4_digits) dX4_isCommand_263 rfl (lw_V q3633 q3635 qp101 q122 q3636) py_X4_digits (Nat.le_of_ble_eq_true rfl) (args := [_, _]) rfl rfl (Nat.le_of_ble_eq_true rfl) k38 (by decide) rfl (C.monoE H (fun o h39 _ x41 K => cont_I K (fun v40 H => ?_) (fun r HX => XR_nc rfl HX)))
    refine r_if_eq (tgt := 291) dX4_isCommand_266 rfl (fun b42 => ?_) (fun b42 => ?_)
    · replace H := H.1 b42
      refine r_iconst dX4_isCommand_291 rfl ?_
      exact r_zret dX4_isCommand_292 rfl rfl H
    · replace H := H.2 b42
      refine r_aload_n dX4_isCommand_269 rfl rfl ?_
      refine r_bipush dX4_isCommand_270 rfl ?_
      refine r_invV (y := m_X4_takes) dX4_isCommand_272 rfl (lw_V q3637 q3639 qp102 q122 q3640) py_X4_takes (Nat.le_of_ble_eq_true rfl) (args := [_]) rfl rfl (Nat.le_of_ble_eq_true rfl) (x41.kd k38 (by decide)) (by decide) rfl (C.monoE H (fun o h43 _ x45 K => cont_I K (fun v44 H => ?_) (fun r HX => XR_nc rfl HX)))
      refine r_if_eq (tgt := 291) dX4_isCommand_275 rfl (fun b46 => ?_) (fun b46 => ?_)
      · replace H := H.1 b46
        refine r_iconst dX4_isCommand_291 rfl ?_
        exact r_zret dX4_isCommand_292 rfl rfl H
      · replace H := H.2 b46
        refine r_aload_n dX4_isCommand_278 rfl rfl ?_
        refine r_iconst dX4_isCommand_279 rfl ?_
        refine r_iconst dX4_isCommand_280 rfl ?_
        refine r_invV (y := m_X4_digits) dX4_isCommand_281 rfl (lw_V q3633 q3635 qp101 q122 q3636) py_X4_digits (Nat.le_of_ble_eq_true rfl) (args := [_, _]) rfl rfl (Nat.le_of_ble_eq_true rfl) (x45.kd (x41.kd k38 (by decide)) (by decide)) (by decide) rfl (C.monoE H (fun o h47 _ x49 K => cont_I K (fun v48 H => ?_) (fun r HX => XR_nc rfl HX)))
        refine r_if_eq (tgt := 291) dX4_isCommand_284 rfl (fun b50 => ?_) (fun b50 => ?_)
        · replace H := H.1 b50
          refine r_iconst dX4_isCommand_291 rfl ?_
          exact r_zret dX4_isCommand_292 rfl rfl H
        · replace H := H.2 b50
          refine r_iconst dX4_isCommand_287 rfl ?_
          refine r_goto (tgt := 292) dX4_isCommand_288 rfl ?_
          exact r_zret dX4_isCommand_292 rfl rfl H
  replace H := H.2
  refine R.tri (k9 := 3) (fun b51 => ?_) (fun b51 => ?_)
  · replace H := H.1 b51
    refine r_tableIn (tgt := 293) dX4_isCommand_140 (by rw [b51]; decide) (by rw [b51]; decide) (by rw [b51]; first | done | rfl) rfl ?_
    refine r_aload_n dX4_isCommand_293 rfl rfl ?_
    refine r_iconst dX4_isCommand_294 rfl ?_
    refine r_iconst dX4_isCommand_295 rfl ?_
    obtain ⟨k52, H⟩ := H
    refine r_invV (y := m_X4_digits) dX4_isCommand_296 rfl (lw_V q3633 q3635 qp101 q122 q3636) py_X4_digits (Nat.le_of_ble_eq_true rfl) (args := [_, _]) rfl rfl (Nat.le_of_ble_eq_true rfl) k52 (by decide) rfl (C.monoE H (fun o h53 _ x55 K => cont_I K (fun v54 H => ?_) (fun r HX => XR_nc rfl HX)))
    refine r_if_eq (tgt := 322) dX4_isCommand_299 rfl (fun b56 => ?_) (fun b56 => ?_)
    · replace H := H.1 b56
      refine r_iconst dX4_isCommand_322 rfl ?_
      exact r_zret dX4_isCommand_323 rfl rfl H
    · replace H := H.2 b56
      refine r_aload_n dX4_isCommand_302 rfl rfl ?_
      refine r_bipush dX4_isCommand_303 rfl ?_
      refine r_invV (y := m_X4_takes) dX4_isCommand_305 rfl (lw_V q3637 q3639 qp102 q122 q3640) py_X4_takes (Nat.le_of_ble_eq_true rfl) (args := [_]) rfl rfl (Nat.le_of_ble_eq_true rfl) (x55.kd k52 (by decide)) (by decide) rfl (C.monoE H (fun o h57 _ x59 K => cont_I K (fun v58 H => ?_) (fun r HX => XR_nc rfl HX)))
      refine r_if_eq (tgt := 322) dX4_isCommand_308 rfl (fun b60 => ?_) (fun b60 => ?_)
      · replace H := H.1 b60
        refine r_iconst dX4_isCommand_322 rfl ?_
        exact r_zret dX4_isCommand_323 rfl rfl H
      · replace H := H.2 b60
        refine r_aload_n dX4_isCommand_311 rfl rfl ?_
        refine r_invV (y := m_X4_isDegree) dX4_isCommand_312 rfl (lw_V q3641 q3643 qp103 q122 q3644) py_X4_isDegree (Nat.le_of_ble_eq_true rfl) (args := []) rfl rfl (Nat.le_of_ble_eq_true rfl) (x59.kd (x55.kd k52 (by decide)) (by decide)) (by decide) rfl (C.monoE H (fun o h61 _ x63 K => cont_I K (fun v62 H => ?_) (fun r HX => XR_nc rfl HX)))
        refine r_if_eq (tgt := 322) dX4_isCommand_315 rfl (fun b64 => ?_) (fun b64 => ?_)
        · replace H := H.1 b64
          refine r_iconst dX4_isCommand_322 rfl ?_
          exact r_zret dX4_isCommand_323 rfl rfl H
        · replace H := H.2 b64
          refine r_iconst dX4_isCommand_318 rfl ?_
          refine r_goto (tgt := 323) dX4_isCommand_319 rfl ?_
          exact r_zret dX4_isCommand_323 rfl rfl H
  replace H := H.2
  refine R.tri (k9 := 4) (fun b65 => ?_) (fun b65 => ?_)
  · replace H := H.1 b65
    refine r_tableIn (tgt := 324) dX4_isCommand_140 (by rw [b65]; decide) (by rw [b65]; decide) (by rw [b65]; first | done | rfl) rfl ?_
    refine r_aload_n dX4_isCommand_324 rfl rfl ?_
    obtain ⟨k66, H⟩ := H
    refine r_invV (y := m_X4_isHours) dX4_isCommand_325 rfl (lw_V q3645 q3647 qp104 q122 q3648) py_X4_isHours (Nat.le_of_ble_eq_true rfl) (args := []) rfl rfl (Nat.le_of_ble_eq_true rfl) k66 (by decide) rfl (C.monoE H (fun o h67 _ x69 K => cont_I K (fun v68 H => ?_) (fun r HX => XR_nc rfl HX)))
    exact r_zret dX4_isCommand_328 rfl H.1 H.2
  replace H := H.2
  replace H := H b1 b23 b37 b51 b65
  refine r_tableOut (tgt := 329) dX4_isCommand_140 (tabOut (lo := 0) (n := 5) rfl (fun i hi => match i, hi with | 0, _ => b1 | 1, _ => b23 | 2, _ => b37 | 3, _ => b51 | 4, _ => b65 | k + 5, hi => absurd hi (by omega))) rfl ?_
  refine r_aload_n dX4_isCommand_329 rfl rfl ?_
  refine r_iconst dX4_isCommand_330 rfl ?_
  refine r_iconst dX4_isCommand_331 rfl ?_
  obtain ⟨k70, H⟩ := H
  refine r_invV (y := m_X4_digits) dX4_isCommand_332 rfl (lw_V q3633 q3635 qp101 q122 q3636) py_X4_digits (Nat.le_of_ble_eq_true rfl) (args := [_, _]) rfl rfl (Nat.le_of_ble_eq_true rfl) k70 (by decide) rfl (C.monoE H (fun o h71 _ x73 K => cont_I K (fun v72 H => ?_) (fun r HX => XR_nc rfl HX)))
  exact r_zret dX4_isCommand_335 rfl H.1 H.2
abbrev w_X4_isCommand_0 (g : PG) (d : Nat) (l0 : Nat) (h : PH) (Q : Out → PH → Prop) : Prop := hkd h l0 = 12 ∧ C g d m_X4_isOneOf [.ref l0, .ref (gSr g 42 + 1)] h (oI (fun v3 h2 => ((¬ v3 = 0) → ko h2 (hG h2 528 l0) 29 ∧ C g d m_J10_hashCode [.ref (hG h2 528 l0)] h2 (oI (fun v9 h8 => (v9 = 3208676 → C g d m_J10_equals [.ref (hG h2 528 l0), .ref (gSr g 49 + 1)] h8 (oI (fun v14 h13 => ((v14 = 0) → w_X4_isCommand_139 g d l0 (-1 : Int32) h13 Q) ∧ ((¬ v14 = 0) → w_X4_isCommand_139 g d l0 (4 : Int32) h13 Q)) (fun r hx => Q (.inr r) hx))) ∧ (v9 = 3512053 → C g d m_J10_equals [.ref (hG h2 528 l0), .ref (gSr g 46 + 1)] h8 (oI (fun v20 h19 => ((v20 = 0) → w_X4_isCommand_139 g d l0 (-1 : Int32) h19 Q) ∧ ((¬ v20 = 0) → w_X4_isCommand_139 g d l0 (1 : Int32) h19 Q)) (fun r hx => Q (.inr r) hx))) ∧ (v9 = 94843292 → C g d m_J10_equals [.ref (hG h2 528 l0), .ref (gSr g 45 + 1)] h8 (oI (fun v26 h25 => ((v26 = 0) → w_X4_isCommand_139 g d l0 (-1 : Int32) h25 Q) ∧ ((¬ v26 = 0) → w_X4_isCommand_139 g d l0 (0 : Int32) h25 Q)) (fun r hx => Q (.inr r) hx))) ∧ (v9 = 106438191 → C g d m_J10_equals [.ref (hG h2 528 l0), .ref (gSr g 47 + 1)] h8 (oI (fun v32 h31 => ((v32 = 0) → w_X4_isCommand_139 g d l0 (-1 : Int32) h31 Q) ∧ ((¬ v32 = 0) → w_X4_isCommand_139 g d l0 (2 : Int32) h31 Q)) (fun r hx => Q (.inr r) hx))) ∧ (v9 = 112901691 → C g d m_J10_equals [.ref (hG h2 528 l0), .ref (gSr g 48 + 1)] h8 (oI (fun v38 h37 => ((v38 = 0) → w_X4_isCommand_139 g d l0 (-1 : Int32) h37 Q) ∧ ((¬ v38 = 0) → w_X4_isCommand_139 g d l0 (3 : Int32) h37 Q)) (fun r hx => Q (.inr r) hx))) ∧ (¬ v9 = 3208676 → ¬ v9 = 3512053 → ¬ v9 = 94843292 → ¬ v9 = 106438191 → ¬ v9 = 112901691 → w_X4_isCommand_139 g d l0 (-1 : Int32) h8 Q)) (fun r hx => Q (.inr r) hx))) ∧ ((v3 = 0) → Q (.inl (some (.int 0))) h2)) (fun r hx => Q (.inr r) hx))
theorem v_X4_isCommand_0 {g : PG} {d : Nat} {l0 : Nat} {h : PH} {Q : Out → PH → Prop} (H : w_X4_isCommand_0 g d l0 h Q) : R g d m_X4_isCommand 0 [.ref l0, .null, .null] [] h Q := by
  refine r_aload_n dX4_isCommand_0 rfl rfl ?_
  refine r_ldcS (n := 42) dX4_isCommand_1 rfl ?_
  obtain ⟨k1, H⟩ := H
  refine r_invV (y := m_X4_isOneOf) dX4_isCommand_3 rfl (lw_V q3557 q3559 qp100 q122 q3560) py_X4_isOneOf (Nat.le_of_ble_eq_true rfl) (args := [_]) rfl rfl (Nat.le_of_ble_eq_true rfl) k1 (by decide) rfl (C.monoE H (fun o h2 _ x4 K => cont_I K (fun v3 H => ?_) (fun r HX => XR_nc rfl HX)))
  refine r_if_ne (tgt := 11) dX4_isCommand_6 rfl (fun b5 => ?_) (fun b5 => ?_)
  · replace H := H.1 b5
    refine r_aload_n dX4_isCommand_11 rfl rfl ?_
    refine r_getG fr_X4_34_12 (by decide) dX4_isCommand_12 (x4.kd k1 (by decide)) (by decide) ?_
    refine r_astore_n dX4_isCommand_15 rfl (Nat.le_of_ble_eq_true rfl) rfl (slS sl0) ?_
    refine r_iconst dX4_isCommand_16 rfl ?_
    refine r_istore_n dX4_isCommand_17 rfl (Nat.le_of_ble_eq_true rfl) rfl (slS (slS sl0)) ?_
    refine r_aload_n dX4_isCommand_18 rfl rfl ?_
    obtain ⟨k6, H⟩ := H
    obtain ⟨_, k7, k7a, k7b⟩ := ko_use (by decide) k6
    refine r_invV (y := m_J10_hashCode) dX4_isCommand_19 rfl (lw_V q3626 q2325 q2326 q120 q2327) py_J10_hashCode (Nat.le_of_ble_eq_true rfl) (args := []) rfl rfl (Nat.le_of_ble_eq_true rfl) k7 k7a (k7b.trans rfl) (C.monoE H (fun o h8 _ x10 K => cont_I K (fun v9 H => ?_) (fun r HX => XR_nc rfl HX)))
    refine R.tri (k9 := 3208676) (fun b11 => ?_) (fun b11 => ?_)
    · replace H := H.1 b11
      refine r_lookup (tgt := 128) dX4_isCommand_22 (by decide) (by rw [b11]; first | done | rfl) rfl ?_
      refine r_aload_n dX4_isCommand_128 rfl rfl ?_
      refine r_ldcS (n := 49) dX4_isCommand_129 rfl ?_
      obtain ⟨_, k12, k12a, k12b⟩ := ko_use (by decide) (koE x10 (by decide) k6)
      refine r_invV (y := m_J10_equals) dX4_isCommand_131 rfl (lw_V q3628 q2192 q3693 q120 q2193) py_J10_equals (Nat.le_of_ble_eq_true rfl) (args := [_]) rfl rfl (Nat.le_of_ble_eq_true rfl) k12 k12a (k12b.trans rfl) (C.monoE H (fun o h13 _ x15 K => cont_I K (fun v14 H => ?_) (fun r HX => XR_nc rfl HX)))
      refine r_if_eq (tgt := 139) dX4_isCommand_134 rfl (fun b16 => ?_) (fun b16 => ?_)
      · replace H := H.1 b16
        exact R.forget (v_X4_isCommand_139 H) ⟨Or.inl rfl, ⟨Or.inr rfl, ⟨Or.inl rfl, trivial⟩⟩⟩
      · replace H := H.2 b16
        refine r_iconst dX4_isCommand_137 rfl ?_
        refine r_istore_n dX4_isCommand_138 rfl (Nat.le_of_ble_eq_true rfl) rfl (slS (slS sl0)) ?_
        exact R.forget (v_X4_isCommand_139 H) ⟨Or.inl rfl, ⟨Or.inr rfl, ⟨Or.inl rfl, trivial⟩⟩⟩
    replace H := H.2
    refine R.tri (k9 := 3512053) (fun b17 => ?_) (fun b17 => ?_)
    · replace H := H.1 b17
      refine r_lookup (tgt := 86) dX4_isCommand_22 (by decide) (by rw [b17]; first | done | rfl) rfl ?_
      refine r_aload_n dX4_isCommand_86 rfl rfl ?_
      refine r_ldcS (n := 46) dX4_isCommand_87 rfl ?_
      obtain ⟨_, k18, k18a, k18b⟩ := ko_use (by decide) (koE x10 (by decide) k6)
      refine r_invV (y := m_J10_equals) dX4_isCommand_89 rfl (lw_V q3628 q2192 q3693 q120 q2193) py_J10_equals (Nat.le_of_ble_eq_true rfl) (args := [_]) rfl rfl (Nat.le_of_ble_eq_true rfl) k18 k18a (k18b.trans rfl) (C.monoE H (fun o h19 _ x21 K => cont_I K (fun v20 H => ?_) (fun r HX => XR_nc rfl HX)))
      refine r_if_eq (tgt := 139) dX4_isCommand_92 rfl (fun b22 => ?_) (fun b22 => ?_)
      · replace H := H.1 b22
        exact R.forget (v_X4_isCommand_139 H) ⟨Or.inl rfl, ⟨Or.inr rfl, ⟨Or.inl rfl, trivial⟩⟩⟩
      · replace H := H.2 b22
        refine r_iconst dX4_isCommand_95 rfl ?_
        refine r_istore_n dX4_isCommand_96 rfl (Nat.le_of_ble_eq_true rfl) rfl (slS (slS sl0)) ?_
        refine r_goto (tgt := 139) dX4_isCommand_97 rfl ?_
        exact R.forget (v_X4_isCommand_139 H) ⟨Or.inl rfl, ⟨Or.inr rfl, ⟨Or.inl rfl, trivial⟩⟩⟩
    replace H := H.2
    refine R.tri (k9 := 94843292) (fun b23 => ?_) (fun b23 => ?_)
    · replace H := H.1 b23
      refine r_lookup (tgt := 72) dX4_isCommand_22 (by decide) (by rw [b23]; first | done | rfl) rfl ?_
      refine r_aload_n dX4_isCommand_72 rfl rfl ?_
      refine r_ldcS (n := 45) dX4_isCommand_73 rfl ?_
      obtain ⟨_, k24, k24a, k24b⟩ := ko_use (by decide) (koE x10 (by decide) k6)
      refine r_invV (y := m_J10_equals) dX4_isCommand_75 rfl (lw_V q3628 q2192 q3693 q120 q2193) py_J10_equals (Nat.le_of_ble_eq_true rfl) (args := [_]) rfl rfl (Nat.le_of_ble_eq_true rfl) k24 k24a (k24b.trans rfl) (C.monoE H (fun o h25 _ x27 K => cont_I K (fun v26 H => ?_) (fun r HX => XR_nc rfl HX)))
      refine r_if_eq (tgt := 139) dX4_isCommand_78 rfl (fun b28 => ?_) (fun b28 => ?_)
      · replace H := H.1 b28
        exact R.forget (v_X4_isCommand_139 H) ⟨Or.inl rfl, ⟨Or.inr rfl, ⟨Or.inl rfl, trivial⟩⟩⟩
      · replace H := H.2 b28
        refine r_iconst dX4_isCommand_81 rfl ?_
        refine r_istore_n dX4_isCommand_82 rfl (Nat.le_of_ble_eq_true rfl) rfl (slS (slS sl0)) ?_
        refine r_goto (tgt := 139) dX4_isCommand_83 rfl ?_
        exact R.forget (v_X4_isCommand_139 H) ⟨Or.inl rfl, ⟨Or.inr rfl, ⟨Or.inl rfl, trivial⟩⟩⟩
    replace H := H.2
    refine R.tri (k9 := 106438191) (fun b29 => ?_) (fun b29 => ?_)
    · replace H := H.1 b29
      refine r_lookup (tgt := 100) dX4_isCommand_22 (by decide) (by rw [b29]; first | done | rfl) rfl ?_
      refine r_aload_n dX4_isCommand_100 rfl rfl ?_
      refine r_ldcS (n := 47) dX4_isCommand_101 rfl ?_
      obtain ⟨_, k30, k30a, k30b⟩ := ko_use (by decide) (koE x10 (by decide) k6)
      refine r_invV (y := m_J10_equals) dX4_isCommand_103 rfl (lw_V q3628 q2192 q3693 q120 q2193) py_J10_equals (Nat.le_of_ble_eq_true rfl) (args := [_]) rfl rfl (Nat.le_of_ble_eq_true rfl) k30 k30a (k30b.trans rfl) (C.monoE H (fun o h31 _ x33 K => cont_I K (fun v32 H => ?_) (fun r HX => XR_nc rfl HX)))
      refine r_if_eq (tgt := 139) dX4_isCommand_106 rfl (fun b34 => ?_) (fun b34 => ?_)
      · replace H := H.1 b34
        exact R.forget (v_X4_isCommand_139 H) ⟨Or.inl rfl, ⟨Or.inr rfl, ⟨Or.inl rfl, trivial⟩⟩⟩
      · replace H := H.2 b34
        refine r_iconst dX4_isCommand_109 rfl ?_
        refine r_istore_n dX4_isCommand_110 rfl (Nat.le_of_ble_eq_true rfl) rfl (slS (slS sl0)) ?_
        refine r_goto (tgt := 139) dX4_isCommand_111 rfl ?_
        exact R.forget (v_X4_isCommand_139 H) ⟨Or.inl rfl, ⟨Or.inr rfl, ⟨Or.inl rfl, trivial⟩⟩⟩
    replace H := H.2
    refine R.tri (k9 := 112901691) (fun b35 => ?_) (fun b35 => ?_)
    · replace H := H.1 b35
      refine r_lookup (tgt := 114) dX4_isCommand_22 (by decide) (by rw [b35]; first | done | rfl) rfl ?_
      refine r_aload_n dX4_isCommand_114 rfl rfl ?_
      refine r_ldcS (n := 48) dX4_isCommand_115 rfl ?_
      obtain ⟨_, k36, k36a, k36b⟩ := ko_use (by decide) (koE x10 (by decide) k6)
      refine r_invV (y := m_J10_equals) dX4_isCommand_117 rfl (lw_V q3628 q2192 q3693 q120 q2193) py_J10_equals (Nat.le_of_ble_eq_true rfl) (args := [_]) rfl rfl (Nat.le_of_ble_eq_true rfl) k36 k36a (k36b.trans rfl) (C.monoE H (fun o h37 _ x39 K => cont_I K (fun v38 H => ?_) (fun r HX => XR_nc rfl HX)))
      refine r_if_eq (tgt := 139) dX4_isCommand_120 rfl (fun b40 => ?_) (fun b40 => ?_)
      · replace H := H.1 b40
        exact R.forget (v_X4_isCommand_139 H) ⟨Or.inl rfl, ⟨Or.inr rfl, ⟨Or.inl rfl, trivial⟩⟩⟩
      · replace H := H.2 b40
        refine r_iconst dX4_isCommand_123 rfl ?_
        refine r_istore_n dX4_isCommand_124 rfl (Nat.le_of_ble_eq_true rfl) rfl (slS (slS sl0)) ?_
        refine r_goto (tgt := 139) dX4_isCommand_125 rfl ?_
        exact R.forget (v_X4_isCommand_139 H) ⟨Or.inl rfl, ⟨Or.inr rfl, ⟨Or.inl rfl, trivial⟩⟩⟩
    replace H := H.2
    replace H := H b11 b17 b23 b29 b35
    refine r_lookup (tgt := 139) (off := 117) dX4_isCommand_22 (by decide) (lookDef (List.forall_mem_cons.mpr ⟨b11, (List.forall_mem_cons.mpr ⟨b17, (List.forall_mem_cons.mpr ⟨b23, (List.forall_mem_cons.mpr ⟨b29, (List.forall_mem_cons.mpr ⟨b35, (fun _ h => absurd h List.not_mem_nil)⟩)⟩)⟩)⟩)⟩)) rfl ?_
    exact R.forget (v_X4_isCommand_139 H) ⟨Or.inl rfl, ⟨Or.inr rfl, ⟨Or.inl rfl, trivial⟩⟩⟩
  · replace H := H.2 b5
    refine r_iconst dX4_isCommand_9 rfl ?_
    exact r_zret dX4_isCommand_10 rfl rfl H
theorem c_X4_isCommand_0 {g : PG} {d : Nat} {l0 : Nat} {h : PH} {Q : Out → PH → Prop} (H : w_X4_isCommand_0 g d l0 h Q) : C g (d + 1) m_X4_isCommand [.ref l0] h Q := C_of_R rfl rfl (Nat.le_of_ble_eq_true rfl) rfl (v_X4_isCommand_0 H)
abbrev w_X4_isOneOf_76 (g : PG) (d : Nat) (l0 : Nat) (l1 : Nat) (l2 : Int32) (l3 : Int32) (l4 : Int32) (l5 : Int32) (h : PH) (Q : Out → PH → Prop) : Prop := ((¬ l5 = (l4 - l3)) → R g d m_X4_isOneOf 4 [.ref l0, .ref l1, .int (i32max l2 l5), .int (l4 + (1 : Int32)), .null, .null] [] h Q) ∧ ((l5 = (l4 - l3)) → ko h l1 29 ∧ C g d m_J10_substring [.ref l1, .int l3, .int l4] h (oR (fun v5 h4 => hkd h4 l0 = 12 ∧ ∀ h8, h8 = setG 528 l0 v5 h4 → ∀ h9, h9 = setF 31 l0 ((hF h8 31 l0) + l5) h8 → Q (.inl (some (.int 1))) h9) (fun r hx => Q (.inr r) hx)))
theorem v_X4_isOneOf_76 {g : PG} {d : Nat} {l0 : Nat} {l1 : Nat} {l2 : Int32} {l3 : Int32} {l4 : Int32} {l5 : Int32} {h : PH} {Q : Out → PH → Prop} (H : w_X4_isOneOf_76 g d l0 l1 l2 l3 l4 l5 h Q) : R g d m_X4_isOneOf 76 [.ref l0, .ref l1, .int l2, .int l3, .int l4, .int l5] [] h Q := by
  refine r_iload dX4_isOneOf_76 rfl ?_
  refine r_iload dX4_isOneOf_78 rfl ?_
  refine r_iload_n dX4_isOneOf_80 rfl rfl ?_
  refine r_isub dX4_isOneOf_81 ?_
  refine r_icmp_ne (tgt := 109) dX4_isOneOf_82 rfl (fun b1 => ?_) (fun b1 => ?_)
  · replace H := H.1 b1
    refine r_iload_n dX4_isOneOf_109 rfl rfl ?_
    refine r_iload dX4_isOneOf_110 rfl ?_
    refine r_mmax dX4_isOneOf_112 q3428 q467 q134 q468 (Nat.le_of_ble_eq_true rfl) ?_
    refine r_istore_n dX4_isOneOf_115 rfl (Nat.le_of_ble_eq_true rfl) rfl (slS (slS sl0)) ?_
    refine r_iload dX4_isOneOf_116 rfl ?_
    refine r_iconst dX4_isOneOf_118 rfl ?_
    refine r_iadd dX4_isOneOf_119 ?_
    refine r_istore_n dX4_isOneOf_120 rfl (Nat.le_of_ble_eq_true rfl) rfl (slS (slS (slS sl0))) ?_
    refine r_goto (tgt := 4) dX4_isOneOf_121 rfl ?_
    exact R.forget H ⟨Or.inl rfl, ⟨Or.inl rfl, ⟨Or.inl rfl, ⟨Or.inl rfl, ⟨Or.inr rfl, ⟨Or.inr rfl, trivial⟩⟩⟩⟩⟩⟩
  · replace H := H.2 b1
    refine r_aload_n dX4_isOneOf_85 rfl rfl ?_
    refine r_aload_n dX4_isOneOf_86 rfl rfl ?_
    refine r_iload_n dX4_isOneOf_87 rfl rfl ?_
    refine r_iload dX4_isOneOf_88 rfl ?_
    obtain ⟨k2, H⟩ := H
    obtain ⟨_, k3, k3a, k3b⟩ := ko_use (by decide) k2
    refine r_invV (y := m_J10_substring) dX4_isOneOf_90 rfl (lw_V q3603 q3604 q3605 q120 q3606) py_J10_substring (Nat.le_of_ble_eq_true rfl) (args := [_, _]) rfl rfl (Nat.le_of_ble_eq_true rfl) k3 k3a (k3b.trans rfl) (C.monoE H (fun o h4 _ x6 K => cont_R K (fun v5 H => ?_) (fun r HX => XR_nc rfl HX)))
    obtain ⟨k7, H⟩ := H
    replace H := H _ rfl
    refine r_putG fw_X4_34_12 (by decide) dX4_isOneOf_93 k7 (by decide) rfl ?_
    refine r_aload_n dX4_isOneOf_96 rfl rfl ?_
    refine r_dup dX4_isOneOf_97 rfl ?_
    refine r_getF fr_X4_188_12 (by decide) dX4_isOneOf_98 k7 (by decide) ?_
    refine r_iload dX4_isOneOf_101 rfl ?_
    refine r_iadd dX4_isOneOf_103 ?_
    replace H := H _ rfl
    refine r_putF fw_X4_188_12 (by decide) dX4_isOneOf_104 k7 (by decide) rfl rfl ?_
    refine r_iconst dX4_isOneOf_107 rfl ?_
    exact r_zret dX4_isOneOf_108 rfl rfl H
abbrev w_X4_isOneOf_24 (g : PG) (d : Nat) (l0 : Nat) (l1 : Nat) (l2 : Int32) (l3 : Int32) (l4 : Int32) (l5 : Int32) (h : PH) (Q : Out → PH → Prop) : Prop := (((l4 - l3) ≤ l5) → w_X4_isOneOf_76 g d l0 l1 l2 l3 l4 l5 h Q) ∧ ((¬ (l4 - l3) ≤ l5) → hkd h l0 = 12 ∧ (((hF h 30 l0) ≤ ((hF h 31 l0) + l5)) → w_X4_isOneOf_76 g d l0 l1 l2 l3 l4 l5 h Q) ∧ ((¬ (hF h 30 l0) ≤ ((hF h 31 l0) + l5)) → hkd h (hG h 527 l0) / 100 = 2 ∧ vp_in ((hF h 31 l0) + l5) (hln h (hG h 527 l0)) ∧ ko h l1 29 ∧ C g d m_J10_charAt [.ref l1, .int (l3 + l5)] h (oI (fun v9 h8 => ((¬ (hA h (hG h 527 l0) ((hF h 31 l0) + l5).toNatClampNeg) = v9) → w_X4_isOneOf_76 g d l0 l1 l2 l3 l4 l5 h8 Q) ∧ (((hA h (hG h 527 l0) ((hF h 31 l0) + l5).toNatClampNeg) = v9) → R g d m_X4_isOneOf 24 [.ref l0, .ref l1, .int l2, .int l3, .int l4, .int (l5 + 1)] [] h8 Q)) (fun r hx => Q (.inr r) hx))))
theorem v_X4_isOneOf_24 {g : PG} {d : Nat} {l0 : Nat} {l1 : Nat} {l2 : Int32} {l3 : Int32} {l4 : Int32} {l5 : Int32} {h : PH} {Q : Out → PH → Prop} (H : w_X4_isOneOf_24 g d l0 l1 l2 l3 l4 l5 h Q) : R g d m_X4_isOneOf 24 [.ref l0, .ref l1, .int l2, .int l3, .int l4, .int l5] [] h Q := by
  refine r_iload dX4_isOneOf_24 rfl ?_
  refine r_iload dX4_isOneOf_26 rfl ?_
  refine r_iload_n dX4_isOneOf_28 rfl rfl ?_
  refine r_isub dX4_isOneOf_29 ?_
  refine r_icmp_ge (tgt := 76) dX4_isOneOf_30 rfl (fun b1 => ?_) (fun b1 => ?_)
  · replace H := H.1 b1
    exact v_X4_isOneOf_76 H
  · replace H := H.2 b1
    refine r_aload_n dX4_isOneOf_33 rfl rfl ?_
    obtain ⟨k2, H⟩ := H
    refine r_getF fr_X4_188_12 (by decide) dX4_isOneOf_34 k2 (by decide) ?_
    refine r_iload dX4_isOneOf_37 rfl ?_
    refine r_iadd dX4_isOneOf_39 ?_
    refine r_aload_n dX4_isOneOf_40 rfl rfl ?_
    refine r_getF fr_X4_185_12 (by decide) dX4_isOneOf_41 k2 (by decide) ?_
    refine r_icmp_ge (tgt := 76) dX4_isOneOf_44 rfl (fun b3 => ?_) (fun b3 => ?_)
    · replace H := H.1 b3
      exact v_X4_isOneOf_76 H
    · replace H := H.2 b3
      refine r_aload_n dX4_isOneOf_47 rfl rfl ?_
      refine r_getG fr_X4_29_12 (by decide) dX4_isOneOf_48 k2 (by decide) ?_
      refine r_aload_n dX4_isOneOf_51 rfl rfl ?_
      refine r_getF fr_X4_188_12 (by decide) dX4_isOneOf_52 k2 (by decide) ?_
      refine r_iload dX4_isOneOf_55 rfl ?_
      refine r_iadd dX4_isOneOf_57 ?_
      obtain ⟨k4, H⟩ := H
      obtain ⟨k5, H⟩ := H
      refine r_cald dX4_isOneOf_58 k4 k5 ?_
      refine r_aload_n dX4_isOneOf_59 rfl rfl ?_
      refine r_iload_n dX4_isOneOf_60 rfl rfl ?_
      refine r_iload dX4_isOneOf_61 rfl ?_
      refine r_iadd dX4_isOneOf_63 ?_
      obtain ⟨k6, H⟩ := H
      obtain ⟨_, k7, k7a, k7b⟩ := ko_use (by decide) k6
      refine r_invV (y := m_J10_charAt) dX4_isOneOf_64 rfl (lw_V q3602 q2931 q2932 q120 q2933) py_J10_charAt (Nat.le_of_ble_eq_true rfl) (args := [_]) rfl rfl (Nat.le_of_ble_eq_true rfl) k7 k7a (k7b.trans rfl) (C.monoE H (fun o h8 _ x10 K => cont_I K (fun v9 H => ?_) (fun r HX => XR_nc rfl HX)))
      refine r_icmp_ne (tgt := 76) dX4_isOneOf_67 rfl (fun b11 => ?_) (fun b11 => ?_)
      · replace H := H.1 b11
        exact v_X4_isOneOf_76 H
      · replace H := H.2 b11
        refine r_iinc dX4_isOneOf_70 rfl rfl (Nat.le_of_ble_eq_true rfl) rfl (slS (slS (slS (slS (slS sl0))))) ?_
        refine r_goto (tgt := 24) dX4_isOneOf_73 rfl ?_
        exact H
abbrev w_X4_isOneOf_4 (g : PG) (d : Nat) (l0 : Nat) (l1 : Nat) (l2 : Int32) (l3 : Int32) (h : PH) (Q : Out → PH → Prop) : Prop := ko h l1 29 ∧ C g d m_J10_length [.ref l1] h (oI (fun v4 h3 => ((v4 ≤ l3) → hkd h3 l0 = 12 ∧ ∀ h8, h8 = setF 31 l0 ((hF h3 31 l0) + l2) h3 → Q (.inl (some (.int 0))) h8) ∧ ((¬ v4 ≤ l3) → C g d m_J10_indexOf [.ref l1, .int 95, .int l3] h3 (oI (fun v11 h10 => R g d m_X4_isOneOf 24 [.ref l0, .ref l1, .int l2, .int l3, .int v11, .int 0] [] h10 Q) (fun r hx => Q (.inr r) hx)))) (fun r hx => Q (.inr r) hx))
theorem v_X4_isOneOf_4 {g : PG} {d : Nat} {l0 : Nat} {l1 : Nat} {l2 : Int32} {l3 : Int32} {h : PH} {Q : Out → PH → Prop} (H : w_X4_isOneOf_4 g d l0 l1 l2 l3 h Q) : R g d m_X4_isOneOf 4 [.ref l0, .ref l1, .int l2, .int l3, .null, .null] [] h Q := by
  refine r_iload_n dX4_isOneOf_4 rfl rfl ?_
  refine r_aload_n dX4_isOneOf_5 rfl rfl ?_
  obtain ⟨k1, H⟩ := H
  obtain ⟨_, k2, k2a, k2b⟩ := ko_use (by decide) k1
  refine r_invV (y := m_J10_length) dX4_isOneOf_6 rfl (lw_V q3561 q522 q523 q120 q524) py_J10_length (Nat.le_of_ble_eq_true rfl) (args := []) rfl rfl (Nat.le_of_ble_eq_true rfl) k2 k2a (k2b.trans rfl) (C.monoE H (fun o h3 _ x5 K => cont_I K (fun v4 H => ?_) (fun r HX => XR_nc rfl HX)))
  refine r_icmp_ge (tgt := 124) dX4_isOneOf_9 rfl (fun b6 => ?_) (fun b6 => ?_)
  · replace H := H.1 b6
    refine r_aload_n dX4_isOneOf_124 rfl rfl ?_
    refine r_dup dX4_isOneOf_125 rfl ?_
    obtain ⟨k7, H⟩ := H
    refine r_getF fr_X4_188_12 (by decide) dX4_isOneOf_126 k7 (by decide) ?_
    refine r_iload_n dX4_isOneOf_129 rfl rfl ?_
    refine r_iadd dX4_isOneOf_130 ?_
    replace H := H _ rfl
    refine r_putF fw_X4_188_12 (by decide) dX4_isOneOf_131 k7 (by decide) rfl rfl ?_
    refine r_iconst dX4_isOneOf_134 rfl ?_
    exact r_zret dX4_isOneOf_135 rfl rfl H
  · replace H := H.2 b6
    refine r_aload_n dX4_isOneOf_12 rfl rfl ?_
    refine r_bipush dX4_isOneOf_13 rfl ?_
    refine r_iload_n dX4_isOneOf_15 rfl rfl ?_
    obtain ⟨_, k9, k9a, k9b⟩ := ko_use (by decide) (koE x5 (by decide) k1)
    refine r_invV (y := m_J10_indexOf) dX4_isOneOf_16 rfl (lw_V q3562 q3563 q3564 q120 q3565) py_J10_indexOf (Nat.le_of_ble_eq_true rfl) (args := [_, _]) rfl rfl (Nat.le_of_ble_eq_true rfl) k9 k9a (k9b.trans rfl) (C.monoE H (fun o h10 _ x12 K => cont_I K (fun v11 H => ?_) (fun r HX => XR_nc rfl HX)))
    refine r_istore dX4_isOneOf_19 (Nat.le_of_ble_eq_true rfl) rfl (slS (slS (slS (slS sl0)))) ?_
    refine r_iconst dX4_isOneOf_21 rfl ?_
    refine r_istore dX4_isOneOf_22 (Nat.le_of_ble_eq_true rfl) rfl (slS (slS (slS (slS (slS sl0))))) ?_
    exact H
abbrev w_X4_isOneOf_0 (g : PG) (d : Nat) (l0 : Nat) (l1 : Nat) (h : PH) (Q : Out → PH → Prop) : Prop := R g d m_X4_isOneOf 4 [.ref l0, .ref l1, .int 0, .int 0, .null, .null] [] h Q
theorem v_X4_isOneOf_0 {g : PG} {d : Nat} {l0 : Nat} {l1 : Nat} {h : PH} {Q : Out → PH → Prop} (H : w_X4_isOneOf_0 g d l0 l1 h Q) : R g d m_X4_isOneOf 0 [.ref l0, .ref l1, .null, .null, .null, .null] [] h Q := by
  refine r_iconst dX4_isOneOf_0 rfl ?_
  refine r_istore_n dX4_isOneOf_1 rfl (Nat.le_of_ble_eq_true rfl) rfl (slS (slS sl0)) ?_
  refine r_iconst dX4_isOneOf_2 rfl ?_
  refine r_istore_n dX4_isOneOf_3 rfl (Nat.le_of_ble_eq_true rfl) rfl (slS (slS (slS sl0))) ?_
  exact H
theorem c_X4_isOneOf_0 {g : PG} {d : Nat} {l0 : Nat} {l1 : Nat} {h : PH} {Q : Out → PH → Prop} (H : w_X4_isOneOf_0 g d l0 l1 h Q) : C g (d + 1) m_X4_isOneOf [.ref l0, .ref l1] h Q := C_of_R rfl rfl (Nat.le_of_ble_eq_true rfl) rfl (v_X4_isOneOf_0 H)
abbrev w_X4_digits_85 (g : PG) (d : Nat) (l3 : Int32) (h : PH) (Q : Out → PH → Prop) : Prop := ((l3 ≤ 0) → Q (.inl (some (.int 0))) h) ∧ ((¬ l3 ≤ 0) → Q (.inl (some (.int 1))) h)
theorem v_X4_digits_85 {g : PG} {d : Nat} {l3 : Int32} {h : PH} {Q : Out → PH → Prop} (H : w_X4_digits_85 g d l3 h Q) : R g d m_X4_digits 85 [.null, .null, .null, .int l3] [] h Q := by
  refine r_iload_n dX4_digits_85 rfl rfl ?_
  refine r_if_le (tgt := 93) dX4_digits_86 rfl (fun b1 => ?_) (fun b1 => ?_)
  · replace H := H.1 b1
    refine r_iconst dX4_digits_93 rfl ?_
    exact r_zret dX4_digits_94 rfl rfl H
  · replace H := H.2 b1
    refine r_iconst dX4_digits_89 rfl ?_
    refine r_goto (tgt := 94) dX4_digits_90 rfl ?_
    exact r_zret dX4_digits_94 rfl rfl H
abbrev w_X4_digits_9 (g : PG) (d : Nat) (l0 : Nat) (l1 : Int32) (l2 : Int32) (l3 : Int32) (h : PH) (Q : Out → PH → Prop) : Prop := ((l2 ≤ l3) → w_X4_digits_85 g d l3 h Q) ∧ ((¬ l2 ≤ l3) → hkd h l0 = 12 ∧ (((hF h 30 l0) ≤ (hF h 31 l0)) → w_X4_digits_85 g d l3 h Q) ∧ ((¬ (hF h 30 l0) ≤ (hF h 31 l0)) → hkd h (hG h 527 l0) / 100 = 2 ∧ vp_in (hF h 31 l0) (hln h (hG h 527 l0)) ∧ C g d m_X4_in [.int (hA h (hG h 527 l0) (hF h 31 l0).toNatClampNeg), .int 48, .int 57] h (oI (fun v7 h6 => ((v7 = 0) → w_X4_digits_85 g d l3 h6 Q) ∧ ((¬ v7 = 0) → hkd h6 (hG h6 529 l0) / 100 = 1 ∧ vp_in l1 (hln h6 (hG h6 529 l0)) ∧ ∀ h12, h12 = setF 31 l0 ((hF h6 31 l0) + (1 : Int32)) h6 → hkd h12 (hG h6 527 l0) / 100 = 2 ∧ vp_in (hF h6 31 l0) (hln h12 (hG h6 527 l0)) ∧ hkd h12 (hG h6 529 l0) / 100 = 1 ∧ hkd h12 (hG h6 529 l0) % 100 < 50 ∧ vp_in l1 (hln h12 (hG h6 529 l0)) ∧ ∀ h18, h18 = setA (hG h6 529 l0) l1.toNatClampNeg ((((10 : Int32) * (hA h6 (hG h6 529 l0) l1.toNatClampNeg)) + (hA h12 (hG h6 527 l0) (hF h6 31 l0).toNatClampNeg)) - (48 : Int32)) h12 → R g d m_X4_digits 9 [.ref l0, .int l1, .int l2, .int (l3 + 1)] [] h18 Q)) (fun r hx => Q (.inr r) hx))))
theorem v_X4_digits_9 {g : PG} {d : Nat} {l0 : Nat} {l1 : Int32} {l2 : Int32} {l3 : Int32} {h : PH} {Q : Out → PH → Prop} (H : w_X4_digits_9 g d l0 l1 l2 l3 h Q) : R g d m_X4_digits 9 [.ref l0, .int l1, .int l2, .int l3] [] h Q := by
  refine r_iload_n dX4_digits_9 rfl rfl ?_
  refine r_iload_n dX4_digits_10 rfl rfl ?_
  refine r_icmp_ge (tgt := 85) dX4_digits_11 rfl (fun b1 => ?_) (fun b1 => ?_)
  · replace H := H.1 b1
    exact R.forget (v_X4_digits_85 H) ⟨Or.inr rfl, ⟨Or.inr rfl, ⟨Or.inr rfl, ⟨Or.inl rfl, trivial⟩⟩⟩⟩
  · replace H := H.2 b1
    refine r_aload_n dX4_digits_14 rfl rfl ?_
    obtain ⟨k2, H⟩ := H
    refine r_getF fr_X4_188_12 (by decide) dX4_digits_15 k2 (by decide) ?_
    refine r_aload_n dX4_digits_18 rfl rfl ?_
    refine r_getF fr_X4_185_12 (by decide) dX4_digits_19 k2 (by decide) ?_
    refine r_icmp_ge (tgt := 85) dX4_digits_22 rfl (fun b3 => ?_) (fun b3 => ?_)
    · replace H := H.1 b3
      exact R.forget (v_X4_digits_85 H) ⟨Or.inr rfl, ⟨Or.inr rfl, ⟨Or.inr rfl, ⟨Or.inl rfl, trivial⟩⟩⟩⟩
    · replace H := H.2 b3
      refine r_aload_n dX4_digits_25 rfl rfl ?_
      refine r_getG fr_X4_29_12 (by decide) dX4_digits_26 k2 (by decide) ?_
      refine r_aload_n dX4_digits_29 rfl rfl ?_
      refine r_getF fr_X4_188_12 (by decide) dX4_digits_30 k2 (by decide) ?_
      obtain ⟨k4, H⟩ := H
      obtain ⟨k5, H⟩ := H
      refine r_cald dX4_digits_33 k4 k5 ?_
      refine r_bipush dX4_digits_34 rfl ?_
      refine r_bipush dX4_digits_36 rfl ?_
      refine r_invS (y := m_X4_in) dX4_digits_38 rfl (lw_S q3315 q3316 q122 q3317) py_X4_in (Nat.le_of_ble_eq_true rfl) (args := [_, _, _]) rfl rfl (Nat.le_of_ble_eq_true rfl) (C.monoE H (fun o h6 _ x8 K => cont_I K (fun v7 H => ?_) (fun r HX => XR_nc rfl HX)))
      refine r_if_eq (tgt := 85) dX4_digits_41 rfl (fun b9 => ?_) (fun b9 => ?_)
      · replace H := H.1 b9
        exact R.forget (v_X4_digits_85 H) ⟨Or.inr rfl, ⟨Or.inr rfl, ⟨Or.inr rfl, ⟨Or.inl rfl, trivial⟩⟩⟩⟩
      · replace H := H.2 b9
        refine r_aload_n dX4_digits_44 rfl rfl ?_
        refine r_getG fr_X4_38_12 (by decide) dX4_digits_45 (x8.kd k2 (by decide)) (by decide) ?_
        refine r_iload_n dX4_digits_48 rfl rfl ?_
        refine r_bipush dX4_digits_49 rfl ?_
        refine r_aload_n dX4_digits_51 rfl rfl ?_
        refine r_getG fr_X4_38_12 (by decide) dX4_digits_52 (x8.kd k2 (by decide)) (by decide) ?_
        refine r_iload_n dX4_digits_55 rfl rfl ?_
        obtain ⟨k10, H⟩ := H
        obtain ⟨k11, H⟩ := H
        refine r_iald dX4_digits_56 k10 k11 ?_
        refine r_imul dX4_digits_57 ?_
        refine r_aload_n dX4_digits_58 rfl rfl ?_
        refine r_getG fr_X4_29_12 (by decide) dX4_digits_59 (x8.kd k2 (by decide)) (by decide) ?_
        refine r_aload_n dX4_digits_62 rfl rfl ?_
        refine r_dup dX4_digits_63 rfl ?_
        refine r_getF fr_X4_188_12 (by decide) dX4_digits_64 (x8.kd k2 (by decide)) (by decide) ?_
        refine r_dup_x1 dX4_digits_67 rfl rfl ?_
        refine r_iconst dX4_digits_68 rfl ?_
        refine r_iadd dX4_digits_69 ?_
        replace H := H _ rfl
        refine r_putF fw_X4_188_12 (by decide) dX4_digits_70 (x8.kd k2 (by decide)) (by decide) rfl rfl ?_
        obtain ⟨k13, H⟩ := H
        obtain ⟨k14, H⟩ := H
        refine r_cald dX4_digits_73 k13 k14 ?_
        refine r_iadd dX4_digits_74 ?_
        refine r_bipush dX4_digits_75 rfl ?_
        refine r_isub dX4_digits_77 ?_
        obtain ⟨k15, H⟩ := H
        obtain ⟨k16, H⟩ := H
        obtain ⟨k17, H⟩ := H
        replace H := H _ rfl
        refine r_iast dX4_digits_78 k15 k16 k17 ?_
        refine r_iinc dX4_digits_79 rfl rfl (Nat.le_of_ble_eq_true rfl) rfl (slS (slS (slS sl0))) ?_
        refine r_goto (tgt := 9) dX4_digits_82 rfl ?_
        exact H
abbrev w_X4_digits_0 (g : PG) (d : Nat) (l0 : Nat) (l1 : Int32) (l2 : Int32) (h : PH) (Q : Out → PH → Prop) : Prop := hkd h l0 = 12 ∧ hkd h (hG h 529 l0) / 100 = 1 ∧ hkd h (hG h 529 l0) % 100 < 50 ∧ vp_in l1 (hln h (hG h 529 l0)) ∧ ∀ h5, h5 = setA (hG h 529 l0) l1.toNatClampNeg (0 : Int32) h → R g d m_X4_digits 9 [.ref l0, .int l1, .int l2, .int 0] [] h5 Q
theorem v_X4_digits_0 {g : PG} {d : Nat} {l0 : Nat} {l1 : Int32} {l2 : Int32} {h : PH} {Q : Out → PH → Prop} (H : w_X4_digits_0 g d l0 l1 l2 h Q) : R g d m_X4_digits 0 [.ref l0, .int l1, .int l2, .null] [] h Q := by
  refine r_iconst dX4_digits_0 rfl ?_
  refine r_istore_n dX4_digits_1 rfl (Nat.le_of_ble_eq_true rfl) rfl (slS (slS (slS sl0))) ?_
  refine r_aload_n dX4_digits_2 rfl rfl ?_
  obtain ⟨k1, H⟩ := H
  refine r_getG fr_X4_38_12 (by decide) dX4_digits_3 k1 (by decide) ?_
  refine r_iload_n dX4_digits_6 rfl rfl ?_
  refine r_iconst dX4_digits_7 rfl ?_
  obtain ⟨k2, H⟩ := H
  obtain ⟨k3, H⟩ := H
  obtain ⟨k4, H⟩ := H
  replace H := H _ rfl
  refine r_iast dX4_digits_8 k2 k3 k4 ?_
  exact H
theorem c_X4_digits_0 {g : PG} {d : Nat} {l0 : Nat} {l1 : Int32} {l2 : Int32} {h : PH} {Q : Out → PH → Prop} (H : w_X4_digits_0 g d l0 l1 l2 h Q) : C g (d + 1) m_X4_digits [.ref l0, .int l1, .int l2] h Q := C_of_R rfl rfl (Nat.le_of_ble_eq_true rfl) rfl (v_X4_digits_0 H)
abbrev w_X4_takes_0 (g : PG) (d : Nat) (l0 : Nat) (l1 : Int32) (h : PH) (Q : Out → PH → Prop) : Prop := hkd h l0 = 12 ∧ (((hF h 31 l0) = (hF h 30 l0)) → Q (.inl (some (.int 0))) h) ∧ ((¬ (hF h 31 l0) = (hF h 30 l0)) → hkd h (hG h 527 l0) / 100 = 2 ∧ vp_in (hF h 31 l0) (hln h (hG h 527 l0)) ∧ (((hA h (hG h 527 l0) (hF h 31 l0).toNatClampNeg) = l1) → ∀ h6, h6 = setF 31 l0 ((hF h 31 l0) + (1 : Int32)) h → Q (.inl (some (.int 1))) h6) ∧ ((¬ (hA h (hG h 527 l0) (hF h 31 l0).toNatClampNeg) = l1) → Q (.inl (some (.int 0))) h))
theorem v_X4_takes_0 {g : PG} {d : Nat} {l0 : Nat} {l1 : Int32} {h : PH} {Q : Out → PH → Prop} (H : w_X4_takes_0 g d l0 l1 h Q) : R g d m_X4_takes 0 [.ref l0, .int l1] [] h Q := by
  refine r_aload_n dX4_takes_0 rfl rfl ?_
  obtain ⟨k1, H⟩ := H
  refine r_getF fr_X4_188_12 (by decide) dX4_takes_1 k1 (by decide) ?_
  refine r_aload_n dX4_takes_4 rfl rfl ?_
  refine r_getF fr_X4_185_12 (by decide) dX4_takes_5 k1 (by decide) ?_
  refine r_icmp_eq (tgt := 24) dX4_takes_8 rfl (fun b2 => ?_) (fun b2 => ?_)
  · replace H := H.1 b2
    refine r_iconst dX4_takes_24 rfl ?_
    exact r_zret dX4_takes_25 rfl rfl H
  · replace H := H.2 b2
    refine r_aload_n dX4_takes_11 rfl rfl ?_
    refine r_getG fr_X4_29_12 (by decide) dX4_takes_12 k1 (by decide) ?_
    refine r_aload_n dX4_takes_15 rfl rfl ?_
    refine r_getF fr_X4_188_12 (by decide) dX4_takes_16 k1 (by decide) ?_
    obtain ⟨k3, H⟩ := H
    obtain ⟨k4, H⟩ := H
    refine r_cald dX4_takes_19 k3 k4 ?_
    refine r_iload_n dX4_takes_20 rfl rfl ?_
    refine r_icmp_eq (tgt := 26) dX4_takes_21 rfl (fun b5 => ?_) (fun b5 => ?_)
    · replace H := H.1 b5
      refine r_aload_n dX4_takes_26 rfl rfl ?_
      refine r_dup dX4_takes_27 rfl ?_
      refine r_getF fr_X4_188_12 (by decide) dX4_takes_28 k1 (by decide) ?_
      refine r_iconst dX4_takes_31 rfl ?_
      refine r_iadd dX4_takes_32 ?_
      replace H := H _ rfl
      refine r_putF fw_X4_188_12 (by decide) dX4_takes_33 k1 (by decide) rfl rfl ?_
      refine r_iconst dX4_takes_36 rfl ?_
      exact r_zret dX4_takes_37 rfl rfl H
    · replace H := H.2 b5
      refine r_iconst dX4_takes_24 rfl ?_
      exact r_zret dX4_takes_25 rfl rfl H
theorem c_X4_takes_0 {g : PG} {d : Nat} {l0 : Nat} {l1 : Int32} {h : PH} {Q : Out → PH → Prop} (H : w_X4_takes_0 g d l0 l1 h Q) : C g (d + 1) m_X4_takes [.ref l0, .int l1] h Q := C_of_R rfl rfl (Nat.le_of_ble_eq_true rfl) rfl (v_X4_takes_0 H)
abbrev w_X4_isDegree_0 (g : PG) (d : Nat) (l0 : Nat) (h : PH) (Q : Out → PH → Prop) : Prop := hkd h l0 = 12 ∧ C g d m_X4_takes [.ref l0, .int 45] h (oI (fun v3 h2 => C g d m_X4_digits [.ref l0, .int 1, .int 1] h2 (oI (fun v6 h5 => ((¬ v6 = 0) → ((v3 = 0) → Q (.inl (some (.int 1))) h5) ∧ ((¬ v3 = 0) → hkd h5 (hG h5 529 l0) / 100 = 1 ∧ vp_in (1 : Int32) (hln h5 (hG h5 529 l0)) ∧ hkd h5 (hG h5 529 l0) % 100 < 50 ∧ ∀ h15, h15 = setA (hG h5 529 l0) (1 : Int32).toNatClampNeg (-(hA h5 (hG h5 529 l0) (1 : Int32).toNatClampNeg)) h5 → Q (.inl (some (.int 1))) h15)) ∧ ((v6 = 0) → Q (.inl (some (.int 0))) h5)) (fun r hx => Q (.inr r) hx))) (fun r hx => Q (.inr r) hx))
theorem v_X4_isDegree_0 {g : PG} {d : Nat} {l0 : Nat} {h : PH} {Q : Out → PH → Prop} (H : w_X4_isDegree_0 g d l0 h Q) : R g d m_X4_isDegree 0 [.ref l0, .null] [] h Q := by
  refine r_aload_n dX4_isDegree_0 rfl rfl ?_
  refine r_bipush dX4_isDegree_1 rfl ?_
  obtain ⟨k1, H⟩ := H
  refine r_invV (y := m_X4_takes) dX4_isDegree_3 rfl (lw_V q3637 q3639 qp102 q122 q3640) py_X4_takes (Nat.le_of_ble_eq_true rfl) (args := [_]) rfl rfl (Nat.le_of_ble_eq_true rfl) k1 (by decide) rfl (C.monoE H (fun o h2 _ x4 K => cont_I K (fun v3 H => ?_) (fun r HX => XR_nc rfl HX)))
  refine r_istore_n dX4_isDegree_6 rfl (Nat.le_of_ble_eq_true rfl) rfl (slS sl0) ?_
  refine r_aload_n dX4_isDegree_7 rfl rfl ?_
  refine r_iconst dX4_isDegree_8 rfl ?_
  refine r_iconst dX4_isDegree_9 rfl ?_
  refine r_invV (y := m_X4_digits) dX4_isDegree_10 rfl (lw_V q3633 q3635 qp101 q122 q3636) py_X4_digits (Nat.le_of_ble_eq_true rfl) (args := [_, _]) rfl rfl (Nat.le_of_ble_eq_true rfl) (x4.kd k1 (by decide)) (by decide) rfl (C.monoE H (fun o h5 _ x7 K => cont_I K (fun v6 H => ?_) (fun r HX => XR_nc rfl HX)))
  refine r_if_ne (tgt := 18) dX4_isDegree_13 rfl (fun b8 => ?_) (fun b8 => ?_)
  · replace H := H.1 b8
    refine r_iload_n dX4_isDegree_18 rfl rfl ?_
    refine r_if_eq (tgt := 35) dX4_isDegree_19 rfl (fun b9 => ?_) (fun b9 => ?_)
    · replace H := H.1 b9
      refine r_iconst dX4_isDegree_35 rfl ?_
      exact r_zret dX4_isDegree_36 rfl rfl H
    · replace H := H.2 b9
      refine r_aload_n dX4_isDegree_22 rfl rfl ?_
      refine r_getG fr_X4_38_12 (by decide) dX4_isDegree_23 (x7.kd (x4.kd k1 (by decide)) (by decide)) (by decide) ?_
      refine r_iconst dX4_isDegree_26 rfl ?_
      refine r_aload_n dX4_isDegree_27 rfl rfl ?_
      refine r_getG fr_X4_38_12 (by decide) dX4_isDegree_28 (x7.kd (x4.kd k1 (by decide)) (by decide)) (by decide) ?_
      refine r_iconst dX4_isDegree_31 rfl ?_
      obtain ⟨k10, H⟩ := H
      obtain ⟨k11, H⟩ := H
      refine r_iald dX4_isDegree_32 k10 k11 ?_
      refine r_ineg dX4_isDegree_33 ?_
      obtain ⟨k13, H⟩ := H
      replace H := H _ rfl
      refine r_iast dX4_isDegree_34 k10 k13 k11 ?_
      refine r_iconst dX4_isDegree_35 rfl ?_
      exact r_zret dX4_isDegree_36 rfl rfl H
  · replace H := H.2 b8
    refine r_iconst dX4_isDegree_16 rfl ?_
    exact r_zret dX4_isDegree_17 rfl rfl H
theorem c_X4_isDegree_0 {g : PG} {d : Nat} {l0 : Nat} {h : PH} {Q : Out → PH → Prop} (H : w_X4_isDegree_0 g d l0 h Q) : C g (d + 1) m_X4_isDegree [.ref l0] h Q := C_of_R rfl rfl (Nat.le_of_ble_eq_true rfl) rfl (v_X4_isDegree_0 H)
abbrev w_X4_isHours_0 (g : PG) (d : Nat) (l0 : Nat) (h : PH) (Q : Out → PH → Prop) : Prop := hkd h l0 = 12 ∧ hkd h (hG h 529 l0) / 100 = 1 ∧ hkd h (hG h 529 l0) % 100 < 50 ∧ vp_in (0 : Int32) (hln h (hG h 529 l0)) ∧ ∀ h5, h5 = setA (hG h 529 l0) (0 : Int32).toNatClampNeg (1 : Int32) h → C g d m_X4_takes [.ref l0, .int 32] h5 (oI (fun v7 h6 => ((v7 = 0) → Q (.inl (some (.int 1))) h6) ∧ ((¬ v7 = 0) → C g d m_X4_digits [.ref l0, .int 0, .int 2] h6 (oI (fun v11 h10 => ((v11 = 0) → Q (.inl (some (.int 0))) h10) ∧ ((¬ v11 = 0) → Q (.inl (some (.int 1))) h10)) (fun r hx => Q (.inr r) hx)))) (fun r hx => Q (.inr r) hx))
theorem v_X4_isHours_0 {g : PG} {d : Nat} {l0 : Nat} {h : PH} {Q : Out → PH → Prop} (H : w_X4_isHours_0 g d l0 h Q) : R g d m_X4_isHours 0 [.ref l0] [] h Q := by
  refine r_aload_n dX4_isHours_0 rfl rfl ?_
  obtain ⟨k1, H⟩ := H
  refine r_getG fr_X4_38_12 (by decide) dX4_isHours_1 k1 (by decide) ?_
  refine r_iconst dX4_isHours_4 rfl ?_
  refine r_iconst dX4_isHours_5 rfl ?_
  obtain ⟨k2, H⟩ := H
  obtain ⟨k3, H⟩ := H
  obtain ⟨k4, H⟩ := H
  replace H := H _ rfl
  refine r_iast dX4_isHours_6 k2 k3 k4 ?_
  refine r_aload_n dX4_isHours_7 rfl rfl ?_
  refine r_bipush dX4_isHours_8 rfl ?_
  refine r_invV (y := m_X4_takes) dX4_isHours_10 rfl (lw_V q3637 q3639 qp102 q122 q3640) py_X4_takes (Nat.le_of_ble_eq_true rfl) (args := [_]) rfl rfl (Nat.le_of_ble_eq_true rfl) k1 (by decide) rfl (C.monoE H (fun o h6 _ x8 K => cont_I K (fun v7 H => ?_) (fun r HX => XR_nc rfl HX)))
  refine r_if_eq (tgt := 25) dX4_isHours_13 rfl (fun b9 => ?_) (fun b9 => ?_)
  · replace H := H.1 b9
    refine r_iconst dX4_isHours_25 rfl ?_
    refine r_goto (tgt := 30) dX4_isHours_26 rfl ?_
    exact r_zret dX4_isHours_30 rfl rfl H
  · replace H := H.2 b9
    refine r_aload_n dX4_isHours_16 rfl rfl ?_
    refine r_iconst dX4_isHours_17 rfl ?_
    refine r_iconst dX4_isHours_18 rfl ?_
    refine r_invV (y := m_X4_digits) dX4_isHours_19 rfl (lw_V q3633 q3635 qp101 q122 q3636) py_X4_digits (Nat.le_of_ble_eq_true rfl) (args := [_, _]) rfl rfl (Nat.le_of_ble_eq_true rfl) (x8.kd k1 (by decide)) (by decide) rfl (C.monoE H (fun o h10 _ x12 K => cont_I K (fun v11 H => ?_) (fun r HX => XR_nc rfl HX)))
    refine r_if_eq (tgt := 29) dX4_isHours_22 rfl (fun b13 => ?_) (fun b13 => ?_)
    · replace H := H.1 b13
      refine r_iconst dX4_isHours_29 rfl ?_
      exact r_zret dX4_isHours_30 rfl rfl H
    · replace H := H.2 b13
      refine r_iconst dX4_isHours_25 rfl ?_
      refine r_goto (tgt := 30) dX4_isHours_26 rfl ?_
      exact r_zret dX4_isHours_30 rfl rfl H
theorem c_X4_isHours_0 {g : PG} {d : Nat} {l0 : Nat} {h : PH} {Q : Out → PH → Prop} (H : w_X4_isHours_0 g d l0 h Q) : C g (d + 1) m_X4_isHours [.ref l0] h Q := C_of_R rfl rfl (Nat.le_of_ble_eq_true rfl) rfl (v_X4_isHours_0 H)
abbrev w_X4_carries_127 (g : PG) (d : Nat) (l0 : Nat) (l2 : Int32) (h : PH) (Q : Out → PH → Prop) : Prop := (l2 = 0 → hkd h l0 = 12 ∧ hkd h (hG h 529 l0) / 100 = 1 ∧ vp_in (0 : Int32) (hln h (hG h 529 l0)) ∧ vp_in (1 : Int32) (hln h (hG h 529 l0)) ∧ vp_in (2 : Int32) (hln h (hG h 529 l0)) ∧ C g d m_X4_comes [.ref l0, .int (hA h (hG h 529 l0) (0 : Int32).toNatClampNeg), .int (hA h (hG h 529 l0) (1 : Int32).toNatClampNeg), .int (hA h (hG h 529 l0) (2 : Int32).toNatClampNeg)] h (oI (fun v10 h9 => Q (.inl (some (.int v10))) h9) (fun r hx => Q (.inr r) hx))) ∧ (l2 = 1 → hkd h l0 = 12 ∧ hkd h (hG h 529 l0) / 100 = 1 ∧ vp_in (0 : Int32) (hln h (hG h 529 l0)) ∧ vp_in (1 : Int32) (hln h (hG h 529 l0)) ∧ C g d m_X4_runs [.ref l0, .int (hA h (hG h 529 l0) (0 : Int32).toNatClampNeg), .int (hA h (hG h 529 l0) (1 : Int32).toNatClampNeg)] h (oI (fun v19 h18 => Q (.inl (some (.int v19))) h18) (fun r hx => Q (.inr r) hx))) ∧ (l2 = 2 → hkd h l0 = 12 ∧ hkd h (hG h 529 l0) / 100 = 1 ∧ vp_in (0 : Int32) (hln h (hG h 529 l0)) ∧ vp_in (1 : Int32) (hln h (hG h 529 l0)) ∧ C g d m_X4_gives [.ref l0, .int (hA h (hG h 529 l0) (0 : Int32).toNatClampNeg), .int (hA h (hG h 529 l0) (1 : Int32).toNatClampNeg)] h (oI (fun v28 h27 => Q (.inl (some (.int v28))) h27) (fun r hx => Q (.inr r) hx))) ∧ (l2 = 3 → hkd h l0 = 12 ∧ hkd h (hG h 529 l0) / 100 = 1 ∧ vp_in (0 : Int32) (hln h (hG h 529 l0)) ∧ vp_in (1 : Int32) (hln h (hG h 529 l0)) ∧ C g d m_X4_warms [.ref l0, .int (hA h (hG h 529 l0) (0 : Int32).toNatClampNeg), .int (hA h (hG h 529 l0) (1 : Int32).toNatClampNeg)] h (oI (fun v37 h36 => Q (.inl (some (.int v37))) h36) (fun r hx => Q (.inr r) hx))) ∧ (l2 = 4 → hkd h l0 = 12 ∧ hkd h (hG h 529 l0) / 100 = 1 ∧ vp_in (0 : Int32) (hln h (hG h 529 l0)) ∧ C g d m_X4_passes [.ref l0, .int (hA h (hG h 529 l0) (0 : Int32).toNatClampNeg)] h (oI (fun v44 h43 => Q (.inl (some (.int v44))) h43) (fun r hx => Q (.inr r) hx))) ∧ (¬ l2 = 0 → ¬ l2 = 1 → ¬ l2 = 2 → ¬ l2 = 3 → ¬ l2 = 4 → hkd h l0 = 12 ∧ hkd h (hG h 529 l0) / 100 = 1 ∧ vp_in (0 : Int32) (hln h (hG h 529 l0)) ∧ C g d m_X4_picks [.ref l0, .int (hA h (hG h 529 l0) (0 : Int32).toNatClampNeg)] h (oI (fun v50 h49 => Q (.inl (some (.int v50))) h49) (fun r hx => Q (.inr r) hx)))
theorem v_X4_carries_127 {g : PG} {d : Nat} {l0 : Nat} {l2 : Int32} {h : PH} {Q : Out → PH → Prop} (H : w_X4_carries_127 g d l0 l2 h Q) : R g d m_X4_carries 127 [.ref l0, .null, .int l2] [] h Q := by
  refine r_iload_n dX4_carries_127 rfl rfl ?_
  refine R.tri (k9 := 0) (fun b1 => ?_) (fun b1 => ?_)
  · replace H := H.1 b1
    refine r_tableIn (tgt := 164) dX4_carries_128 (by rw [b1]; decide) (by rw [b1]; decide) (by rw [b1]; first | done | rfl) rfl ?_
    refine r_aload_n dX4_carries_164 rfl rfl ?_
    refine r_aload_n dX4_carries_165 rfl rfl ?_
    obtain ⟨k2, H⟩ := H
    refine r_getG fr_X4_38_12 (by decide) dX4_carries_166 k2 (by decide) ?_
    refine r_iconst dX4_carries_169 rfl ?_
    obtain ⟨k3, H⟩ := H
    obtain ⟨k4, H⟩ := H
    refine r_iald dX4_carries_170 k3 k4 ?_
    refine r_aload_n dX4_carries_171 rfl rfl ?_
    refine r_getG fr_X4_38_12 (by decide) dX4_carries_172 k2 (by decide) ?_
    refine r_iconst dX4_carries_175 rfl ?_
    obtain ⟨k6, H⟩ := H
    refine r_iald dX4_carries_176 k3 k6 ?_
    refine r_aload_n dX4_carries_177 rfl rfl ?_
    refine r_getG fr_X4_38_12 (by decide) dX4_carries_178 k2 (by decide) ?_
    refine r_iconst dX4_carries_181 rfl ?_
    obtain ⟨k8, H⟩ := H
    refine r_iald dX4_carries_182 k3 k8 ?_
    refine r_invV (y := m_X4_comes) dX4_carries_183 rfl (lw_V q3311 q3313 qp68 q122 q3314) py_X4_comes (Nat.le_of_ble_eq_true rfl) (args := [_, _, _]) rfl rfl (Nat.le_of_ble_eq_true rfl) k2 (by decide) rfl (C.monoE H (fun o h9 _ x11 K => cont_I K (fun v10 H => ?_) (fun r HX => XR_nc rfl HX)))
    exact r_iret dX4_carries_186 rfl H
  replace H := H.2
  refine R.tri (k9 := 1) (fun b12 => ?_) (fun b12 => ?_)
  · replace H := H.1 b12
    refine r_tableIn (tgt := 187) dX4_carries_128 (by rw [b12]; decide) (by rw [b12]; decide) (by rw [b12]; first | done | rfl) rfl ?_
    refine r_aload_n dX4_carries_187 rfl rfl ?_
    refine r_aload_n dX4_carries_188 rfl rfl ?_
    obtain ⟨k13, H⟩ := H
    refine r_getG fr_X4_38_12 (by decide) dX4_carries_189 k13 (by decide) ?_
    refine r_iconst dX4_carries_192 rfl ?_
    obtain ⟨k14, H⟩ := H
    obtain ⟨k15, H⟩ := H
    refine r_iald dX4_carries_193 k14 k15 ?_
    refine r_aload_n dX4_carries_194 rfl rfl ?_
    refine r_getG fr_X4_38_12 (by decide) dX4_carries_195 k13 (by decide) ?_
    refine r_iconst dX4_carries_198 rfl ?_
    obtain ⟨k17, H⟩ := H
    refine r_iald dX4_carries_199 k14 k17 ?_
    refine r_invV (y := m_X4_runs) dX4_carries_200 rfl (lw_V q3354 q3356 qp77 q122 q3357) py_X4_runs (Nat.le_of_ble_eq_true rfl) (args := [_, _]) rfl rfl (Nat.le_of_ble_eq_true rfl) k13 (by decide) rfl (C.monoE H (fun o h18 _ x20 K => cont_I K (fun v19 H => ?_) (fun r HX => XR_nc rfl HX)))
    exact r_iret dX4_carries_203 rfl H
  replace H := H.2
  refine R.tri (k9 := 2) (fun b21 => ?_) (fun b21 => ?_)
  · replace H := H.1 b21
    refine r_tableIn (tgt := 204) dX4_carries_128 (by rw [b21]; decide) (by rw [b21]; decide) (by rw [b21]; first | done | rfl) rfl ?_
    refine r_aload_n dX4_carries_204 rfl rfl ?_
    refine r_aload_n dX4_carries_205 rfl rfl ?_
    obtain ⟨k22, H⟩ := H
    refine r_getG fr_X4_38_12 (by decide) dX4_carries_206 k22 (by decide) ?_
    refine r_iconst dX4_carries_209 rfl ?_
    obtain ⟨k23, H⟩ := H
    obtain ⟨k24, H⟩ := H
    refine r_iald dX4_carries_210 k23 k24 ?_
    refine r_aload_n dX4_carries_211 rfl rfl ?_
    refine r_getG fr_X4_38_12 (by decide) dX4_carries_212 k22 (by decide) ?_
    refine r_iconst dX4_carries_215 rfl ?_
    obtain ⟨k26, H⟩ := H
    refine r_iald dX4_carries_216 k23 k26 ?_
    refine r_invV (y := m_X4_gives) dX4_carries_217 rfl (lw_V q3387 q3389 qp84 q122 q3390) py_X4_gives (Nat.le_of_ble_eq_true rfl) (args := [_, _]) rfl rfl (Nat.le_of_ble_eq_true rfl) k22 (by decide) rfl (C.monoE H (fun o h27 _ x29 K => cont_I K (fun v28 H => ?_) (fun r HX => XR_nc rfl HX)))
    exact r_iret dX4_carries_220 rfl H
  replace H := H.2
  refine R.tri (k9 := 3) (fun b30 => ?_) (fun b30 => ?_)
  · replace H := H.1 b30
    refine r_tableIn (tgt := 221) dX4_carries_128 (by rw [b30]; decide) (by rw [b30]; decide) (by rw [b30]; first | done | rfl) rfl ?_
    refine r_aload_n dX4_carries_221 rfl rfl ?_
    refine r_aload_n dX4_carries_222 rfl rfl ?_
    obtain ⟨k31, H⟩ := H
    refine r_getG fr_X4_38_12 (by decide) dX4_carries_223 k31 (by decide) ?_
    refine r_iconst dX4_carries_226 rfl ?_
    obtain ⟨k32, H⟩ := H
    obtain ⟨k33, H⟩ := H
    refine r_iald dX4_carries_227 k32 k33 ?_
    refine r_aload_n dX4_carries_228 rfl rfl ?_
    refine r_getG fr_X4_38_12 (by decide) dX4_carries_229 k31 (by decide) ?_
    refine r_iconst dX4_carries_232 rfl ?_
    obtain ⟨k35, H⟩ := H
    refine r_iald dX4_carries_233 k32 k35 ?_
    refine r_invV (y := m_X4_warms) dX4_carries_234 rfl (lw_V q3412 q3414 qp88 q122 q3415) py_X4_warms (Nat.le_of_ble_eq_true rfl) (args := [_, _]) rfl rfl (Nat.le_of_ble_eq_true rfl) k31 (by decide) rfl (C.monoE H (fun o h36 _ x38 K => cont_I K (fun v37 H => ?_) (fun r HX => XR_nc rfl HX)))
    exact r_iret dX4_carries_237 rfl H
  replace H := H.2
  refine R.tri (k9 := 4) (fun b39 => ?_) (fun b39 => ?_)
  · replace H := H.1 b39
    refine r_tableIn (tgt := 238) dX4_carries_128 (by rw [b39]; decide) (by rw [b39]; decide) (by rw [b39]; first | done | rfl) rfl ?_
    refine r_aload_n dX4_carries_238 rfl rfl ?_
    refine r_aload_n dX4_carries_239 rfl rfl ?_
    obtain ⟨k40, H⟩ := H
    refine r_getG fr_X4_38_12 (by decide) dX4_carries_240 k40 (by decide) ?_
    refine r_iconst dX4_carries_243 rfl ?_
    obtain ⟨k41, H⟩ := H
    obtain ⟨k42, H⟩ := H
    refine r_iald dX4_carries_244 k41 k42 ?_
    refine r_invV (y := m_X4_passes) dX4_carries_245 rfl (lw_V q3420 q3422 qp89 q122 q3423) py_X4_passes (Nat.le_of_ble_eq_true rfl) (args := [_]) rfl rfl (Nat.le_of_ble_eq_true rfl) k40 (by decide) rfl (C.monoE H (fun o h43 _ x45 K => cont_I K (fun v44 H => ?_) (fun r HX => XR_nc rfl HX)))
    exact r_iret dX4_carries_248 rfl H
  replace H := H.2
  replace H := H b1 b12 b21 b30 b39
  refine r_tableOut (tgt := 249) dX4_carries_128 (tabOut (lo := 0) (n := 5) rfl (fun i hi => match i, hi with | 0, _ => b1 | 1, _ => b12 | 2, _ => b21 | 3, _ => b30 | 4, _ => b39 | k + 5, hi => absurd hi (by omega))) rfl ?_
  refine r_aload_n dX4_carries_249 rfl rfl ?_
  refine r_aload_n dX4_carries_250 rfl rfl ?_
  obtain ⟨k46, H⟩ := H
  refine r_getG fr_X4_38_12 (by decide) dX4_carries_251 k46 (by decide) ?_
  refine r_iconst dX4_carries_254 rfl ?_
  obtain ⟨k47, H⟩ := H
  obtain ⟨k48, H⟩ := H
  refine r_iald dX4_carries_255 k47 k48 ?_
  refine r_invV (y := m_X4_picks) dX4_carries_256 rfl (lw_V q3396 q3398 qp85 q122 q3399) py_X4_picks (Nat.le_of_ble_eq_true rfl) (args := [_]) rfl rfl (Nat.le_of_ble_eq_true rfl) k46 (by decide) rfl (C.monoE H (fun o h49 _ x51 K => cont_I K (fun v50 H => ?_) (fun r HX => XR_nc rfl HX)))
  exact r_iret dX4_carries_259 rfl H
abbrev w_X4_carries_0 (g : PG) (d : Nat) (l0 : Nat) (h : PH) (Q : Out → PH → Prop) : Prop := hkd h l0 = 12 ∧ ko h (hG h 528 l0) 29 ∧ C g d m_J10_hashCode [.ref (hG h 528 l0)] h (oI (fun v5 h4 => (v5 = 3208676 → C g d m_J10_equals [.ref (hG h 528 l0), .ref (gSr g 49 + 1)] h4 (oI (fun v10 h9 => ((v10 = 0) → w_X4_carries_127 g d l0 (-1 : Int32) h9 Q) ∧ ((¬ v10 = 0) → w_X4_carries_127 g d l0 (4 : Int32) h9 Q)) (fun r hx => Q (.inr r) hx))) ∧ (v5 = 3512053 → C g d m_J10_equals [.ref (hG h 528 l0), .ref (gSr g 46 + 1)] h4 (oI (fun v16 h15 => ((v16 = 0) → w_X4_carries_127 g d l0 (-1 : Int32) h15 Q) ∧ ((¬ v16 = 0) → w_X4_carries_127 g d l0 (1 : Int32) h15 Q)) (fun r hx => Q (.inr r) hx))) ∧ (v5 = 94843292 → C g d m_J10_equals [.ref (hG h 528 l0), .ref (gSr g 45 + 1)] h4 (oI (fun v22 h21 => ((v22 = 0) → w_X4_carries_127 g d l0 (-1 : Int32) h21 Q) ∧ ((¬ v22 = 0) → w_X4_carries_127 g d l0 (0 : Int32) h21 Q)) (fun r hx => Q (.inr r) hx))) ∧ (v5 = 106438191 → C g d m_J10_equals [.ref (hG h 528 l0), .ref (gSr g 47 + 1)] h4 (oI (fun v28 h27 => ((v28 = 0) → w_X4_carries_127 g d l0 (-1 : Int32) h27 Q) ∧ ((¬ v28 = 0) → w_X4_carries_127 g d l0 (2 : Int32) h27 Q)) (fun r hx => Q (.inr r) hx))) ∧ (v5 = 112901691 → C g d m_J10_equals [.ref (hG h 528 l0), .ref (gSr g 48 + 1)] h4 (oI (fun v34 h33 => ((v34 = 0) → w_X4_carries_127 g d l0 (-1 : Int32) h33 Q) ∧ ((¬ v34 = 0) → w_X4_carries_127 g d l0 (3 : Int32) h33 Q)) (fun r hx => Q (.inr r) hx))) ∧ (¬ v5 = 3208676 → ¬ v5 = 3512053 → ¬ v5 = 94843292 → ¬ v5 = 106438191 → ¬ v5 = 112901691 → w_X4_carries_127 g d l0 (-1 : Int32) h4 Q)) (fun r hx => Q (.inr r) hx))
theorem v_X4_carries_0 {g : PG} {d : Nat} {l0 : Nat} {h : PH} {Q : Out → PH → Prop} (H : w_X4_carries_0 g d l0 h Q) : R g d m_X4_carries 0 [.ref l0, .null, .null] [] h Q := by
  refine r_aload_n dX4_carries_0 rfl rfl ?_
  obtain ⟨k1, H⟩ := H
  refine r_getG fr_X4_34_12 (by decide) dX4_carries_1 k1 (by decide) ?_
  refine r_astore_n dX4_carries_4 rfl (Nat.le_of_ble_eq_true rfl) rfl (slS sl0) ?_
  refine r_iconst dX4_carries_5 rfl ?_
  refine r_istore_n dX4_carries_6 rfl (Nat.le_of_ble_eq_true rfl) rfl (slS (slS sl0)) ?_
  refine r_aload_n dX4_carries_7 rfl rfl ?_
  obtain ⟨k2, H⟩ := H
  obtain ⟨_, k3, k3a, k3b⟩ := ko_use (by decide) k2
  refine r_invV (y := m_J10_hashCode) dX4_carries_8 rfl (lw_V q3626 q2325 q2326 q120 q2327) py_J10_hashCode (Nat.le_of_ble_eq_true rfl) (args := []) rfl rfl (Nat.le_of_ble_eq_true rfl) k3 k3a (k3b.trans rfl) (C.monoE H (fun o h4 _ x6 K => cont_I K (fun v5 H => ?_) (fun r HX => XR_nc rfl HX)))
  refine R.tri (k9 := 3208676) (fun b7 => ?_) (fun b7 => ?_)
  · replace H := H.1 b7
    refine r_lookup (tgt := 116) dX4_carries_11 (by decide) (by rw [b7]; first | done | rfl) rfl ?_
    refine r_aload_n dX4_carries_116 rfl rfl ?_
    refine r_ldcS (n := 49) dX4_carries_117 rfl ?_
    obtain ⟨_, k8, k8a, k8b⟩ := ko_use (by decide) (koE x6 (by decide) k2)
    refine r_invV (y := m_J10_equals) dX4_carries_119 rfl (lw_V q3628 q2192 q3693 q120 q2193) py_J10_equals (Nat.le_of_ble_eq_true rfl) (args := [_]) rfl rfl (Nat.le_of_ble_eq_true rfl) k8 k8a (k8b.trans rfl) (C.monoE H (fun o h9 _ x11 K => cont_I K (fun v10 H => ?_) (fun r HX => XR_nc rfl HX)))
    refine r_if_eq (tgt := 127) dX4_carries_122 rfl (fun b12 => ?_) (fun b12 => ?_)
    · replace H := H.1 b12
      exact R.forget (v_X4_carries_127 H) ⟨Or.inl rfl, ⟨Or.inr rfl, ⟨Or.inl rfl, trivial⟩⟩⟩
    · replace H := H.2 b12
      refine r_iconst dX4_carries_125 rfl ?_
      refine r_istore_n dX4_carries_126 rfl (Nat.le_of_ble_eq_true rfl) rfl (slS (slS sl0)) ?_
      exact R.forget (v_X4_carries_127 H) ⟨Or.inl rfl, ⟨Or.inr rfl, ⟨Or.inl rfl, trivial⟩⟩⟩
  replace H := H.2
  refine R.tri (k9 := 3512053) (fun b13 => ?_) (fun b13 => ?_)
  · replace H := H.1 b13
    refine r_lookup (tgt := 74) dX4_carries_11 (by decide) (by rw [b13]; first | done | rfl) rfl ?_
    refine r_aload_n dX4_carries_74 rfl rfl ?_
    refine r_ldcS (n := 46) dX4_carries_75 rfl ?_
    obtain ⟨_, k14, k14a, k14b⟩ := ko_use (by decide) (koE x6 (by decide) k2)
    refine r_invV (y := m_J10_equals) dX4_carries_77 rfl (lw_V q3628 q2192 q3693 q120 q2193) py_J10_equals (Nat.le_of_ble_eq_true rfl) (args := [_]) rfl rfl (Nat.le_of_ble_eq_true rfl) k14 k14a (k14b.trans rfl) (C.monoE H (fun o h15 _ x17 K => cont_I K (fun v16 H => ?_) (fun r HX => XR_nc rfl HX)))
    refine r_if_eq (tgt := 127) dX4_carries_80 rfl (fun b18 => ?_) (fun b18 => ?_)
    · replace H := H.1 b18
      exact R.forget (v_X4_carries_127 H) ⟨Or.inl rfl, ⟨Or.inr rfl, ⟨Or.inl rfl, trivial⟩⟩⟩
    · replace H := H.2 b18
      refine r_iconst dX4_carries_83 rfl ?_
      refine r_istore_n dX4_carries_84 rfl (Nat.le_of_ble_eq_true rfl) rfl (slS (slS sl0)) ?_
      refine r_goto (tgt := 127) dX4_carries_85 rfl ?_
      exact R.forget (v_X4_carries_127 H) ⟨Or.inl rfl, ⟨Or.inr rfl, ⟨Or.inl rfl, trivial⟩⟩⟩
  replace H := H.2
  refine R.tri (k9 := 94843292) (fun b19 => ?_) (fun b19 => ?_)
  · replace H := H.1 b19
    refine r_lookup (tgt := 60) dX4_carries_11 (by decide) (by rw [b19]; first | done | rfl) rfl ?_
    refine r_aload_n dX4_carries_60 rfl rfl ?_
    refine r_ldcS (n := 45) dX4_carries_61 rfl ?_
    obtain ⟨_, k20, k20a, k20b⟩ := ko_use (by decide) (koE x6 (by decide) k2)
    refine r_invV (y := m_J10_equals) dX4_carries_63 rfl (lw_V q3628 q2192 q3693 q120 q2193) py_J10_equals (Nat.le_of_ble_eq_true rfl) (args := [_]) rfl rfl (Nat.le_of_ble_eq_true rfl) k20 k20a (k20b.trans rfl) (C.monoE H (fun o h21 _ x23 K => cont_I K (fun v22 H => ?_) (fun r HX => XR_nc rfl HX)))
    refine r_if_eq (tgt := 127) dX4_carries_66 rfl (fun b24 => ?_) (fun b24 => ?_)
    · replace H := H.1 b24
      exact R.forget (v_X4_carries_127 H) ⟨Or.inl rfl, ⟨Or.inr rfl, ⟨Or.inl rfl, trivial⟩⟩⟩
    · replace H := H.2 b24
      refine r_iconst dX4_carries_69 rfl ?_
      refine r_istore_n dX4_carries_70 rfl (Nat.le_of_ble_eq_true rfl) rfl (slS (slS sl0)) ?_
      refine r_goto (tgt := 127) dX4_carries_71 rfl ?_
      exact R.forget (v_X4_carries_127 H) ⟨Or.inl rfl, ⟨Or.inr rfl, ⟨Or.inl rfl, trivial⟩⟩⟩
  replace H := H.2
  refine R.tri (k9 := 106438191) (fun b25 => ?_) (fun b25 => ?_)
  · replace H := H.1 b25
    refine r_lookup (tgt := 88) dX4_carries_11 (by decide) (by rw [b25]; first | done | rfl) rfl ?_
    refine r_aload_n dX4_carries_88 rfl rfl ?_
    refine r_ldcS (n := 47) dX4_carries_89 rfl ?_
    obtain ⟨_, k26, k26a, k26b⟩ := ko_use (by decide) (koE x6 (by decide) k2)
    refine r_invV (y := m_J10_equals) dX4_carries_91 rfl (lw_V q3628 q2192 q3693 q120 q2193) py_J10_equals (Nat.le_of_ble_eq_true rfl) (args := [_]) rfl rfl (Nat.le_of_ble_eq_true rfl) k26 k26a (k26b.trans rfl) (C.monoE H (fun o h27 _ x29 K => cont_I K (fun v28 H => ?_) (fun r HX => XR_nc rfl HX)))
    refine r_if_eq (tgt := 127) dX4_carries_94 rfl (fun b30 => ?_) (fun b30 => ?_)
    · replace H := H.1 b30
      exact R.forget (v_X4_carries_127 H) ⟨Or.inl rfl, ⟨Or.inr rfl, ⟨Or.inl rfl, trivial⟩⟩⟩
    · replace H := H.2 b30
      refine r_iconst dX4_carries_97 rfl ?_
      refine r_istore_n dX4_carries_98 rfl (Nat.le_of_ble_eq_true rfl) rfl (slS (slS sl0)) ?_
      refine r_goto (tgt := 127) dX4_carries_99 rfl ?_
      exact R.forget (v_X4_carries_127 H) ⟨Or.inl rfl, ⟨Or.inr rfl, ⟨Or.inl rfl, trivial⟩⟩⟩
  replace H := H.2
  refine R.tri (k9 := 112901691) (fun b31 => ?_) (fun b31 => ?_)
  · replace H := H.1 b31
    refine r_lookup (tgt := 102) dX4_carries_11 (by decide) (by rw [b31]; first | done | rfl) rfl ?_
    refine r_aload_n dX4_carries_102 rfl rfl ?_
    refine r_ldcS (n := 48) dX4_carries_103 rfl ?_
    obtain ⟨_, k32, k32a, k32b⟩ := ko_use (by decide) (koE x6 (by decide) k2)
    refine r_invV (y := m_J10_equals) dX4_carries_105 rfl (lw_V q3628 q2192 q3693 q120 q2193) py_J10_equals (Nat.le_of_ble_eq_true rfl) (args := [_]) rfl rfl (Nat.le_of_ble_eq_true rfl) k32 k32a (k32b.trans rfl) (C.monoE H (fun o h33 _ x35 K => cont_I K (fun v34 H => ?_) (fun r HX => XR_nc rfl HX)))
    refine r_if_eq (tgt := 127) dX4_carries_108 rfl (fun b36 => ?_) (fun b36 => ?_)
    · replace H := H.1 b36
      exact R.forget (v_X4_carries_127 H) ⟨Or.inl rfl, ⟨Or.inr rfl, ⟨Or.inl rfl, trivial⟩⟩⟩
    · replace H := H.2 b36
      refine r_iconst dX4_carries_111 rfl ?_
      refine r_istore_n dX4_carries_112 rfl (Nat.le_of_ble_eq_true rfl) rfl (slS (slS sl0)) ?_
      refine r_goto (tgt := 127) dX4_carries_113 rfl ?_
      exact R.forget (v_X4_carries_127 H) ⟨Or.inl rfl, ⟨Or.inr rfl, ⟨Or.inl rfl, trivial⟩⟩⟩
  replace H := H.2
  replace H := H b7 b13 b19 b25 b31
  refine r_lookup (tgt := 127) (off := 116) dX4_carries_11 (by decide) (lookDef (List.forall_mem_cons.mpr ⟨b7, (List.forall_mem_cons.mpr ⟨b13, (List.forall_mem_cons.mpr ⟨b19, (List.forall_mem_cons.mpr ⟨b25, (List.forall_mem_cons.mpr ⟨b31, (fun _ h => absurd h List.not_mem_nil)⟩)⟩)⟩)⟩)⟩)) rfl ?_
  exact R.forget (v_X4_carries_127 H) ⟨Or.inl rfl, ⟨Or.inr rfl, ⟨Or.inl rfl, trivial⟩⟩⟩
theorem c_X4_carries_0 {g : PG} {d : Nat} {l0 : Nat} {h : PH} {Q : Out → PH → Prop} (H : w_X4_carries_0 g d l0 h Q) : C g (d + 1) m_X4_carries [.ref l0] h Q := C_of_R rfl rfl (Nat.le_of_ble_eq_true rfl) rfl (v_X4_carries_0 H)
abbrev w_X4_undo_30 (g : PG) (d : Nat) (l0 : Nat) (l1 : Int32) (h : PH) (Q : Out → PH → Prop) : Prop := (((127 : Int32) ≤ l1) → hkd h l0 = 12 ∧ Q (.inl (some (.int (hF h 27 l0)))) h) ∧ ((¬ (127 : Int32) ≤ l1) → hkd h l0 = 12 ∧ hkd h (hG h 524 l0) / 100 = 1 ∧ vp_in (((127 : Int32) * (hF h 27 l0)) + l1) (hln h (hG h 524 l0)) ∧ hkd h (hG h 521 l0) / 100 = 1 ∧ hkd h (hG h 521 l0) % 100 < 50 ∧ vp_in l1 (hln h (hG h 521 l0)) ∧ ∀ h9, h9 = setA (hG h 521 l0) l1.toNatClampNeg (hA h (hG h 524 l0) (((127 : Int32) * (hF h 27 l0)) + l1).toNatClampNeg) h → R g d m_X4_undo 30 [.ref l0, .int (l1 + 1)] [] h9 Q)
theorem v_X4_undo_30 {g : PG} {d : Nat} {l0 : Nat} {l1 : Int32} {h : PH} {Q : Out → PH → Prop} (H : w_X4_undo_30 g d l0 l1 h Q) : R g d m_X4_undo 30 [.ref l0, .int l1] [] h Q := by
  refine r_iload_n dX4_undo_30 rfl rfl ?_
  refine r_bipush dX4_undo_31 rfl ?_
  refine r_icmp_ge (tgt := 62) dX4_undo_33 rfl (fun b1 => ?_) (fun b1 => ?_)
  · replace H := H.1 b1
    refine r_aload_n dX4_undo_62 rfl rfl ?_
    obtain ⟨k2, H⟩ := H
    refine r_getF fr_X4_48_12 (by decide) dX4_undo_63 k2 (by decide) ?_
    exact r_iret dX4_undo_66 rfl H
  · replace H := H.2 b1
    refine r_aload_n dX4_undo_36 rfl rfl ?_
    obtain ⟨k3, H⟩ := H
    refine r_getG fr_X4_9_12 (by decide) dX4_undo_37 k3 (by decide) ?_
    refine r_iload_n dX4_undo_40 rfl rfl ?_
    refine r_aload_n dX4_undo_41 rfl rfl ?_
    refine r_getG fr_X4_19_12 (by decide) dX4_undo_42 k3 (by decide) ?_
    refine r_bipush dX4_undo_45 rfl ?_
    refine r_aload_n dX4_undo_47 rfl rfl ?_
    refine r_getF fr_X4_48_12 (by decide) dX4_undo_48 k3 (by decide) ?_
    refine r_imul dX4_undo_51 ?_
    refine r_iload_n dX4_undo_52 rfl rfl ?_
    refine r_iadd dX4_undo_53 ?_
    obtain ⟨k4, H⟩ := H
    obtain ⟨k5, H⟩ := H
    refine r_iald dX4_undo_54 k4 k5 ?_
    obtain ⟨k6, H⟩ := H
    obtain ⟨k7, H⟩ := H
    obtain ⟨k8, H⟩ := H
    replace H := H _ rfl
    refine r_iast dX4_undo_55 k6 k7 k8 ?_
    refine r_iinc dX4_undo_56 rfl rfl (Nat.le_of_ble_eq_true rfl) rfl (slS sl0) ?_
    refine r_goto (tgt := 30) dX4_undo_59 rfl ?_
    exact H
abbrev w_X4_undo_0 (g : PG) (d : Nat) (l0 : Nat) (h : PH) (Q : Out → PH → Prop) : Prop := hkd h l0 = 12 ∧ ∀ h2, h2 = setF 33 l0 (0 : Int32) h → ((¬ (hF h2 27 l0) = 0) → ∀ h4, h4 = setF 27 l0 ((hF h2 27 l0) - (1 : Int32)) h2 → R g d m_X4_undo 30 [.ref l0, .int 0] [] h4 Q) ∧ (((hF h2 27 l0) = 0) → C g d m_X4_raises [.ref l0, .int 1] h2 (oI (fun v6 h5 => Q (.inl (some (.int v6))) h5) (fun r hx => Q (.inr r) hx)))
theorem v_X4_undo_0 {g : PG} {d : Nat} {l0 : Nat} {h : PH} {Q : Out → PH → Prop} (H : w_X4_undo_0 g d l0 h Q) : R g d m_X4_undo 0 [.ref l0, .null] [] h Q := by
  refine r_aload_n dX4_undo_0 rfl rfl ?_
  refine r_iconst dX4_undo_1 rfl ?_
  obtain ⟨k1, H⟩ := H
  replace H := H _ rfl
  refine r_putF fw_X4_44_12 (by decide) dX4_undo_2 k1 (by decide) rfl rfl ?_
  refine r_aload_n dX4_undo_5 rfl rfl ?_
  refine r_getF fr_X4_48_12 (by decide) dX4_undo_6 k1 (by decide) ?_
  refine r_if_ne (tgt := 18) dX4_undo_9 rfl (fun b3 => ?_) (fun b3 => ?_)
  · replace H := H.1 b3
    refine r_aload_n dX4_undo_18 rfl rfl ?_
    refine r_dup dX4_undo_19 rfl ?_
    refine r_getF fr_X4_48_12 (by decide) dX4_undo_20 k1 (by decide) ?_
    refine r_iconst dX4_undo_23 rfl ?_
    refine r_isub dX4_undo_24 ?_
    replace H := H _ rfl
    refine r_putF fw_X4_48_12 (by decide) dX4_undo_25 k1 (by decide) rfl rfl ?_
    refine r_iconst dX4_undo_28 rfl ?_
    refine r_istore_n dX4_undo_29 rfl (Nat.le_of_ble_eq_true rfl) rfl (slS sl0) ?_
    exact H
  · replace H := H.2 b3
    refine r_aload_n dX4_undo_12 rfl rfl ?_
    refine r_iconst dX4_undo_13 rfl ?_
    refine r_invV (y := m_X4_raises) dX4_undo_14 rfl (lw_V q3346 q3348 qp76 q122 q3349) py_X4_raises (Nat.le_of_ble_eq_true rfl) (args := [_]) rfl rfl (Nat.le_of_ble_eq_true rfl) k1 (by decide) rfl (C.monoE H (fun o h5 _ x7 K => cont_I K (fun v6 H => ?_) (fun r HX => XR_nc rfl HX)))
    exact r_iret dX4_undo_17 rfl H
theorem c_X4_undo_0 {g : PG} {d : Nat} {l0 : Nat} {h : PH} {Q : Out → PH → Prop} (H : w_X4_undo_0 g d l0 h Q) : C g (d + 1) m_X4_undo [.ref l0] h Q := C_of_R rfl rfl (Nat.le_of_ble_eq_true rfl) rfl (v_X4_undo_0 H)
abbrev w_X4_save_12 (g : PG) (d : Nat) (l0 : Nat) (l1 : Int32) (h : PH) (Q : Out → PH → Prop) : Prop := (((127 : Int32) ≤ l1) → hkd h l0 = 12 ∧ hkd h (hG h 521 l0) / 100 = 1 ∧ vp_in (0 : Int32) (hln h (hG h 521 l0)) ∧ Q (.inl (some (.int (hA h (hG h 521 l0) (0 : Int32).toNatClampNeg)))) h) ∧ ((¬ (127 : Int32) ≤ l1) → hkd h l0 = 12 ∧ hkd h (hG h 521 l0) / 100 = 1 ∧ vp_in l1 (hln h (hG h 521 l0)) ∧ hkd h (hG h 525 l0) / 100 = 1 ∧ hkd h (hG h 525 l0) % 100 < 50 ∧ vp_in l1 (hln h (hG h 525 l0)) ∧ ∀ h11, h11 = setA (hG h 525 l0) l1.toNatClampNeg (hA h (hG h 521 l0) l1.toNatClampNeg) h → R g d m_X4_save 12 [.ref l0, .int (l1 + 1)] [] h11 Q)
theorem v_X4_save_12 {g : PG} {d : Nat} {l0 : Nat} {l1 : Int32} {h : PH} {Q : Out → PH → Prop} (H : w_X4_save_12 g d l0 l1 h Q) : R g d m_X4_save 12 [.ref l0, .int l1] [] h Q := by
  refine r_iload_n dX4_save_12 rfl rfl ?_
  refine r_bipush dX4_save_13 rfl ?_
  refine r_icmp_ge (tgt := 36) dX4_save_15 rfl (fun b1 => ?_) (fun b1 => ?_)
  · replace H := H.1 b1
    refine r_aload_n dX4_save_36 rfl rfl ?_
    obtain ⟨k2, H⟩ := H
    refine r_getG fr_X4_9_12 (by decide) dX4_save_37 k2 (by decide) ?_
    refine r_iconst dX4_save_40 rfl ?_
    obtain ⟨k3, H⟩ := H
    obtain ⟨k4, H⟩ := H
    refine r_iald dX4_save_41 k3 k4 ?_
    exact r_iret dX4_save_42 rfl H
  · replace H := H.2 b1
    refine r_aload_n dX4_save_18 rfl rfl ?_
    obtain ⟨k5, H⟩ := H
    refine r_getG fr_X4_22_12 (by decide) dX4_save_19 k5 (by decide) ?_
    refine r_iload_n dX4_save_22 rfl rfl ?_
    refine r_aload_n dX4_save_23 rfl rfl ?_
    refine r_getG fr_X4_9_12 (by decide) dX4_save_24 k5 (by decide) ?_
    refine r_iload_n dX4_save_27 rfl rfl ?_
    obtain ⟨k6, H⟩ := H
    obtain ⟨k7, H⟩ := H
    refine r_iald dX4_save_28 k6 k7 ?_
    obtain ⟨k8, H⟩ := H
    obtain ⟨k9, H⟩ := H
    obtain ⟨k10, H⟩ := H
    replace H := H _ rfl
    refine r_iast dX4_save_29 k8 k9 k10 ?_
    refine r_iinc dX4_save_30 rfl rfl (Nat.le_of_ble_eq_true rfl) rfl (slS sl0) ?_
    refine r_goto (tgt := 12) dX4_save_33 rfl ?_
    exact H
abbrev w_X4_save_0 (g : PG) (d : Nat) (l0 : Nat) (h : PH) (Q : Out → PH → Prop) : Prop := hkd h l0 = 12 ∧ ∀ h2, h2 = setF 33 l0 (0 : Int32) h → ∀ h3, h3 = setF 28 l0 (1 : Int32) h2 → R g d m_X4_save 12 [.ref l0, .int 0] [] h3 Q
theorem v_X4_save_0 {g : PG} {d : Nat} {l0 : Nat} {h : PH} {Q : Out → PH → Prop} (H : w_X4_save_0 g d l0 h Q) : R g d m_X4_save 0 [.ref l0, .null] [] h Q := by
  refine r_aload_n dX4_save_0 rfl rfl ?_
  refine r_iconst dX4_save_1 rfl ?_
  obtain ⟨k1, H⟩ := H
  replace H := H _ rfl
  refine r_putF fw_X4_44_12 (by decide) dX4_save_2 k1 (by decide) rfl rfl ?_
  refine r_aload_n dX4_save_5 rfl rfl ?_
  refine r_iconst dX4_save_6 rfl ?_
  replace H := H _ rfl
  refine r_putF fw_X4_249_12 (by decide) dX4_save_7 k1 (by decide) rfl rfl ?_
  refine r_iconst dX4_save_10 rfl ?_
  refine r_istore_n dX4_save_11 rfl (Nat.le_of_ble_eq_true rfl) rfl (slS sl0) ?_
  exact H
theorem c_X4_save_0 {g : PG} {d : Nat} {l0 : Nat} {h : PH} {Q : Out → PH → Prop} (H : w_X4_save_0 g d l0 h Q) : C g (d + 1) m_X4_save [.ref l0] h Q := C_of_R rfl rfl (Nat.le_of_ble_eq_true rfl) rfl (v_X4_save_0 H)
abbrev w_X4_restore_20 (g : PG) (d : Nat) (l0 : Nat) (l1 : Int32) (h : PH) (Q : Out → PH → Prop) : Prop := (((127 : Int32) ≤ l1) → hkd h l0 = 12 ∧ ∀ h3, h3 = setF 27 l0 (0 : Int32) h → hkd h3 (hG h3 521 l0) / 100 = 1 ∧ vp_in (0 : Int32) (hln h3 (hG h3 521 l0)) ∧ Q (.inl (some (.int (hA h3 (hG h3 521 l0) (0 : Int32).toNatClampNeg)))) h3) ∧ ((¬ (127 : Int32) ≤ l1) → hkd h l0 = 12 ∧ hkd h (hG h 525 l0) / 100 = 1 ∧ vp_in l1 (hln h (hG h 525 l0)) ∧ hkd h (hG h 521 l0) / 100 = 1 ∧ hkd h (hG h 521 l0) % 100 < 50 ∧ vp_in l1 (hln h (hG h 521 l0)) ∧ ∀ h12, h12 = setA (hG h 521 l0) l1.toNatClampNeg (hA h (hG h 525 l0) l1.toNatClampNeg) h → R g d m_X4_restore 20 [.ref l0, .int (l1 + 1)] [] h12 Q)
theorem v_X4_restore_20 {g : PG} {d : Nat} {l0 : Nat} {l1 : Int32} {h : PH} {Q : Out → PH → Prop} (H : w_X4_restore_20 g d l0 l1 h Q) : R g d m_X4_restore 20 [.ref l0, .int l1] [] h Q := by
  refine r_iload_n dX4_restore_20 rfl rfl ?_
  refine r_bipush dX4_restore_21 rfl ?_
  refine r_icmp_ge (tgt := 44) dX4_restore_23 rfl (fun b1 => ?_) (fun b1 => ?_)
  · replace H := H.1 b1
    refine r_aload_n dX4_restore_44 rfl rfl ?_
    refine r_iconst dX4_restore_45 rfl ?_
    obtain ⟨k2, H⟩ := H
    replace H := H _ rfl
    refine r_putF fw_X4_48_12 (by decide) dX4_restore_46 k2 (by decide) rfl rfl ?_
    refine r_aload_n dX4_restore_49 rfl rfl ?_
    refine r_getG fr_X4_9_12 (by decide) dX4_restore_50 k2 (by decide) ?_
    refine r_iconst dX4_restore_53 rfl ?_
    obtain ⟨k4, H⟩ := H
    obtain ⟨k5, H⟩ := H
    refine r_iald dX4_restore_54 k4 k5 ?_
    exact r_iret dX4_restore_55 rfl H
  · replace H := H.2 b1
    refine r_aload_n dX4_restore_26 rfl rfl ?_
    obtain ⟨k6, H⟩ := H
    refine r_getG fr_X4_9_12 (by decide) dX4_restore_27 k6 (by decide) ?_
    refine r_iload_n dX4_restore_30 rfl rfl ?_
    refine r_aload_n dX4_restore_31 rfl rfl ?_
    refine r_getG fr_X4_22_12 (by decide) dX4_restore_32 k6 (by decide) ?_
    refine r_iload_n dX4_restore_35 rfl rfl ?_
    obtain ⟨k7, H⟩ := H
    obtain ⟨k8, H⟩ := H
    refine r_iald dX4_restore_36 k7 k8 ?_
    obtain ⟨k9, H⟩ := H
    obtain ⟨k10, H⟩ := H
    obtain ⟨k11, H⟩ := H
    replace H := H _ rfl
    refine r_iast dX4_restore_37 k9 k10 k11 ?_
    refine r_iinc dX4_restore_38 rfl rfl (Nat.le_of_ble_eq_true rfl) rfl (slS sl0) ?_
    refine r_goto (tgt := 20) dX4_restore_41 rfl ?_
    exact H
abbrev w_X4_restore_0 (g : PG) (d : Nat) (l0 : Nat) (h : PH) (Q : Out → PH → Prop) : Prop := hkd h l0 = 12 ∧ ∀ h2, h2 = setF 33 l0 (0 : Int32) h → ((¬ (hF h2 28 l0) = 0) → R g d m_X4_restore 20 [.ref l0, .int 0] [] h2 Q) ∧ (((hF h2 28 l0) = 0) → C g d m_X4_raises [.ref l0, .int 1] h2 (oI (fun v5 h4 => Q (.inl (some (.int v5))) h4) (fun r hx => Q (.inr r) hx)))
theorem v_X4_restore_0 {g : PG} {d : Nat} {l0 : Nat} {h : PH} {Q : Out → PH → Prop} (H : w_X4_restore_0 g d l0 h Q) : R g d m_X4_restore 0 [.ref l0, .null] [] h Q := by
  refine r_aload_n dX4_restore_0 rfl rfl ?_
  refine r_iconst dX4_restore_1 rfl ?_
  obtain ⟨k1, H⟩ := H
  replace H := H _ rfl
  refine r_putF fw_X4_44_12 (by decide) dX4_restore_2 k1 (by decide) rfl rfl ?_
  refine r_aload_n dX4_restore_5 rfl rfl ?_
  refine r_getF fr_X4_249_12 (by decide) dX4_restore_6 k1 (by decide) ?_
  refine r_if_ne (tgt := 18) dX4_restore_9 rfl (fun b3 => ?_) (fun b3 => ?_)
  · replace H := H.1 b3
    refine r_iconst dX4_restore_18 rfl ?_
    refine r_istore_n dX4_restore_19 rfl (Nat.le_of_ble_eq_true rfl) rfl (slS sl0) ?_
    exact H
  · replace H := H.2 b3
    refine r_aload_n dX4_restore_12 rfl rfl ?_
    refine r_iconst dX4_restore_13 rfl ?_
    refine r_invV (y := m_X4_raises) dX4_restore_14 rfl (lw_V q3346 q3348 qp76 q122 q3349) py_X4_raises (Nat.le_of_ble_eq_true rfl) (args := [_]) rfl rfl (Nat.le_of_ble_eq_true rfl) k1 (by decide) rfl (C.monoE H (fun o h4 _ x6 K => cont_I K (fun v5 H => ?_) (fun r HX => XR_nc rfl HX)))
    exact r_iret dX4_restore_17 rfl H
theorem c_X4_restore_0 {g : PG} {d : Nat} {l0 : Nat} {h : PH} {Q : Out → PH → Prop} (H : w_X4_restore_0 g d l0 h Q) : C g (d + 1) m_X4_restore [.ref l0] h Q := C_of_R rfl rfl (Nat.le_of_ble_eq_true rfl) rfl (v_X4_restore_0 H)
