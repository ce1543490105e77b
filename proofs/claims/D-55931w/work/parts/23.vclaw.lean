/-! ===== VC lemmas (printed by gen/mk_vc.py) ===== -/
set_option maxRecDepth 100000
abbrev w_X0_come_23 (g : PG) (d : Nat) (s0 : Nat) (h : PH) (Q : Out → PH → Prop) : Prop := Q (.inl (some (.int 3))) h
theorem v_X0_come_23 {g : PG} {d : Nat} {s0 : Nat} {h : PH} {Q : Out → PH → Prop} (H : w_X0_come_23 g d s0 h Q) : R g d m_X0_come 23 [.null, .null, .null, .null, .null, .null] [.ref s0] h Q := by
  refine r_astore dX0_come_23 (Nat.le_of_ble_eq_true rfl) rfl (slS (slS (slS (slS (slS sl0))))) ?_
  refine r_iconst dX0_come_25 rfl ?_
  exact r_iret dX0_come_26 rfl H
abbrev w_X0_come_19 (g : PG) (d : Nat) (s0 : Nat) (h : PH) (Q : Out → PH → Prop) : Prop := Q (.inl (some (.int 2))) h
theorem v_X0_come_19 {g : PG} {d : Nat} {s0 : Nat} {h : PH} {Q : Out → PH → Prop} (H : w_X0_come_19 g d s0 h Q) : R g d m_X0_come 19 [.null, .null, .null, .null, .null, .null] [.ref s0] h Q := by
  refine r_astore dX0_come_19 (Nat.le_of_ble_eq_true rfl) rfl (slS (slS (slS (slS (slS sl0))))) ?_
  refine r_iconst dX0_come_21 rfl ?_
  exact r_iret dX0_come_22 rfl H
abbrev w_X0_come_15 (g : PG) (d : Nat) (s0 : Nat) (h : PH) (Q : Out → PH → Prop) : Prop := Q (.inl (some (.int 1))) h
theorem v_X0_come_15 {g : PG} {d : Nat} {s0 : Nat} {h : PH} {Q : Out → PH → Prop} (H : w_X0_come_15 g d s0 h Q) : R g d m_X0_come 15 [.null, .null, .null, .null, .null, .null] [.ref s0] h Q := by
  refine r_astore dX0_come_15 (Nat.le_of_ble_eq_true rfl) rfl (slS (slS (slS (slS (slS sl0))))) ?_
  refine r_iconst dX0_come_17 rfl ?_
  exact r_iret dX0_come_18 rfl H
abbrev w_X0_come_0 (g : PG) (d : Nat) (l0 : Nat) (l1 : Int32) (l2 : Int32) (l3 : Int32) (l4 : Nat) (h : PH) (Q : Out → PH → Prop) : Prop := hkd h l0 = 1 ∧ C g d m_X1_come [.ref l0, .int l1, .int l2, .int l3] h (oI (fun v3 h2 => hkd h2 l4 / 100 = 4 ∧ hkd h2 l4 % 100 < 50 ∧ vp_in (0 : Int32) (hln h2 l4) ∧ ∀ h8, h8 = setL l4 (0 : Int32).toNatClampNeg v3.toInt64 h2 → Q (.inl (some (.int 0))) h8) (fun r hx => XR g d m_X0_come 7 [.ref l0, .int l1, .int l2, .int l3, .ref l4, .null] r hx Q))
theorem v_X0_come_0 {g : PG} {d : Nat} {l0 : Nat} {l1 : Int32} {l2 : Int32} {l3 : Int32} {l4 : Nat} {h : PH} {Q : Out → PH → Prop} (H : w_X0_come_0 g d l0 l1 l2 l3 l4 h Q) : R g d m_X0_come 0 [.ref l0, .int l1, .int l2, .int l3, .ref l4, .null] [] h Q := by
  refine r_aload dX0_come_0 rfl ?_
  refine r_iconst dX0_come_2 rfl ?_
  refine r_aload_n dX0_come_3 rfl rfl ?_
  refine r_iload_n dX0_come_4 rfl rfl ?_
  refine r_iload_n dX0_come_5 rfl rfl ?_
  refine r_iload_n dX0_come_6 rfl rfl ?_
  obtain ⟨k1, H⟩ := H
  refine r_invV (y := m_X1_come) dX0_come_7 rfl (lw_V q2288 q2289 q2290 q107 q2291) py_X1_come (Nat.le_of_ble_eq_true rfl) (args := [_, _, _]) rfl rfl (Nat.le_of_ble_eq_true rfl) k1 (by decide) rfl (C.monoE H (fun o h2 _ x4 K => cont_I K (fun v3 H => ?_) (fun r HX => HX)))
  refine r_i2l dX0_come_10 ?_
  obtain ⟨k5, H⟩ := H
  obtain ⟨k6, H⟩ := H
  obtain ⟨k7, H⟩ := H
  replace H := H _ rfl
  refine r_last dX0_come_11 k5 k6 k7 ?_
  refine r_goto (tgt := 27) dX0_come_12 rfl ?_
  refine r_iconst dX0_come_27 rfl ?_
  exact r_iret dX0_come_28 rfl H
theorem c_X0_come_0 {g : PG} {d : Nat} {l0 : Nat} {l1 : Int32} {l2 : Int32} {l3 : Int32} {l4 : Nat} {h : PH} {Q : Out → PH → Prop} (H : w_X0_come_0 g d l0 l1 l2 l3 l4 h Q) : C g (d + 1) m_X0_come [.ref l0, .int l1, .int l2, .int l3, .ref l4] h Q := C_of_R rfl rfl (Nat.le_of_ble_eq_true rfl) rfl (v_X0_come_0 H)
abbrev w_X0_run_17 (g : PG) (d : Nat) (s0 : Nat) (h : PH) (Q : Out → PH → Prop) : Prop := Q (.inl (some (.int 2))) h
theorem v_X0_run_17 {g : PG} {d : Nat} {s0 : Nat} {h : PH} {Q : Out → PH → Prop} (H : w_X0_run_17 g d s0 h Q) : R g d m_X0_run 17 [.null, .null, .null, .null, .null] [.ref s0] h Q := by
  refine r_astore dX0_run_17 (Nat.le_of_ble_eq_true rfl) rfl (slS (slS (slS (slS sl0)))) ?_
  refine r_iconst dX0_run_19 rfl ?_
  exact r_iret dX0_run_20 rfl H
abbrev w_X0_run_13 (g : PG) (d : Nat) (s0 : Nat) (h : PH) (Q : Out → PH → Prop) : Prop := Q (.inl (some (.int 1))) h
theorem v_X0_run_13 {g : PG} {d : Nat} {s0 : Nat} {h : PH} {Q : Out → PH → Prop} (H : w_X0_run_13 g d s0 h Q) : R g d m_X0_run 13 [.null, .null, .null, .null, .null] [.ref s0] h Q := by
  refine r_astore dX0_run_13 (Nat.le_of_ble_eq_true rfl) rfl (slS (slS (slS (slS sl0)))) ?_
  refine r_iconst dX0_run_15 rfl ?_
  exact r_iret dX0_run_16 rfl H
abbrev w_X0_run_0 (g : PG) (d : Nat) (l0 : Nat) (l1 : Int32) (l2 : Int32) (l3 : Nat) (h : PH) (Q : Out → PH → Prop) : Prop := hkd h l0 = 1 ∧ C g d m_X1_run [.ref l0, .int l1, .int l2] h (oI (fun v3 h2 => hkd h2 l3 / 100 = 4 ∧ hkd h2 l3 % 100 < 50 ∧ vp_in (0 : Int32) (hln h2 l3) ∧ ∀ h8, h8 = setL l3 (0 : Int32).toNatClampNeg v3.toInt64 h2 → Q (.inl (some (.int 0))) h8) (fun r hx => XR g d m_X0_run 5 [.ref l0, .int l1, .int l2, .ref l3, .null] r hx Q))
theorem v_X0_run_0 {g : PG} {d : Nat} {l0 : Nat} {l1 : Int32} {l2 : Int32} {l3 : Nat} {h : PH} {Q : Out → PH → Prop} (H : w_X0_run_0 g d l0 l1 l2 l3 h Q) : R g d m_X0_run 0 [.ref l0, .int l1, .int l2, .ref l3, .null] [] h Q := by
  refine r_aload_n dX0_run_0 rfl rfl ?_
  refine r_iconst dX0_run_1 rfl ?_
  refine r_aload_n dX0_run_2 rfl rfl ?_
  refine r_iload_n dX0_run_3 rfl rfl ?_
  refine r_iload_n dX0_run_4 rfl rfl ?_
  obtain ⟨k1, H⟩ := H
  refine r_invV (y := m_X1_run) dX0_run_5 rfl (lw_V q2637 q2638 q2639 q107 q2640) py_X1_run (Nat.le_of_ble_eq_true rfl) (args := [_, _]) rfl rfl (Nat.le_of_ble_eq_true rfl) k1 (by decide) rfl (C.monoE H (fun o h2 _ x4 K => cont_I K (fun v3 H => ?_) (fun r HX => HX)))
  refine r_i2l dX0_run_8 ?_
  obtain ⟨k5, H⟩ := H
  obtain ⟨k6, H⟩ := H
  obtain ⟨k7, H⟩ := H
  replace H := H _ rfl
  refine r_last dX0_run_9 k5 k6 k7 ?_
  refine r_goto (tgt := 21) dX0_run_10 rfl ?_
  refine r_iconst dX0_run_21 rfl ?_
  exact r_iret dX0_run_22 rfl H
theorem c_X0_run_0 {g : PG} {d : Nat} {l0 : Nat} {l1 : Int32} {l2 : Int32} {l3 : Nat} {h : PH} {Q : Out → PH → Prop} (H : w_X0_run_0 g d l0 l1 l2 l3 h Q) : C g (d + 1) m_X0_run [.ref l0, .int l1, .int l2, .ref l3] h Q := C_of_R rfl rfl (Nat.le_of_ble_eq_true rfl) rfl (v_X0_run_0 H)
abbrev w_X0_pass_13 (g : PG) (d : Nat) (s0 : Nat) (h : PH) (Q : Out → PH → Prop) : Prop := Q (.inl (some (.int 1))) h
theorem v_X0_pass_13 {g : PG} {d : Nat} {s0 : Nat} {h : PH} {Q : Out → PH → Prop} (H : w_X0_pass_13 g d s0 h Q) : R g d m_X0_pass 13 [.null, .null, .null, .null, .null] [.ref s0] h Q := by
  refine r_astore dX0_pass_13 (Nat.le_of_ble_eq_true rfl) rfl (slS (slS (slS (slS sl0)))) ?_
  refine r_iconst dX0_pass_15 rfl ?_
  exact r_iret dX0_pass_16 rfl H
abbrev w_X0_pass_0 (g : PG) (d : Nat) (l0 : Nat) (l1 : Int32) (l2 : Int32) (l3 : Nat) (h : PH) (Q : Out → PH → Prop) : Prop := hkd h l0 = 1 ∧ C g d m_X1_pass [.ref l0, .int l1, .int l2] h (oI (fun v3 h2 => hkd h2 l3 / 100 = 4 ∧ hkd h2 l3 % 100 < 50 ∧ vp_in (0 : Int32) (hln h2 l3) ∧ ∀ h8, h8 = setL l3 (0 : Int32).toNatClampNeg v3.toInt64 h2 → Q (.inl (some (.int 0))) h8) (fun r hx => XR g d m_X0_pass 5 [.ref l0, .int l1, .int l2, .ref l3, .null] r hx Q))
theorem v_X0_pass_0 {g : PG} {d : Nat} {l0 : Nat} {l1 : Int32} {l2 : Int32} {l3 : Nat} {h : PH} {Q : Out → PH → Prop} (H : w_X0_pass_0 g d l0 l1 l2 l3 h Q) : R g d m_X0_pass 0 [.ref l0, .int l1, .int l2, .ref l3, .null] [] h Q := by
  refine r_aload_n dX0_pass_0 rfl rfl ?_
  refine r_iconst dX0_pass_1 rfl ?_
  refine r_aload_n dX0_pass_2 rfl rfl ?_
  refine r_iload_n dX0_pass_3 rfl rfl ?_
  refine r_iload_n dX0_pass_4 rfl rfl ?_
  obtain ⟨k1, H⟩ := H
  refine r_invV (y := m_X1_pass) dX0_pass_5 rfl (lw_V q2649 q2650 q2651 q107 q2652) py_X1_pass (Nat.le_of_ble_eq_true rfl) (args := [_, _]) rfl rfl (Nat.le_of_ble_eq_true rfl) k1 (by decide) rfl (C.monoE H (fun o h2 _ x4 K => cont_I K (fun v3 H => ?_) (fun r HX => HX)))
  refine r_i2l dX0_pass_8 ?_
  obtain ⟨k5, H⟩ := H
  obtain ⟨k6, H⟩ := H
  obtain ⟨k7, H⟩ := H
  replace H := H _ rfl
  refine r_last dX0_pass_9 k5 k6 k7 ?_
  refine r_goto (tgt := 17) dX0_pass_10 rfl ?_
  refine r_iconst dX0_pass_17 rfl ?_
  exact r_iret dX0_pass_18 rfl H
theorem c_X0_pass_0 {g : PG} {d : Nat} {l0 : Nat} {l1 : Int32} {l2 : Int32} {l3 : Nat} {h : PH} {Q : Out → PH → Prop} (H : w_X0_pass_0 g d l0 l1 l2 l3 h Q) : C g (d + 1) m_X0_pass [.ref l0, .int l1, .int l2, .ref l3] h Q := C_of_R rfl rfl (Nat.le_of_ble_eq_true rfl) rfl (v_X0_pass_0 H)
abbrev w_X0_pick_12 (g : PG) (d : Nat) (s0 : Nat) (h : PH) (Q : Out → PH → Prop) : Prop := Q (.inl (some (.int 1))) h
theorem v_X0_pick_12 {g : PG} {d : Nat} {s0 : Nat} {h : PH} {Q : Out → PH → Prop} (H : w_X0_pick_12 g d s0 h Q) : R g d m_X0_pick 12 [.null, .null, .null, .null] [.ref s0] h Q := by
  refine r_astore_n dX0_pick_12 rfl (Nat.le_of_ble_eq_true rfl) rfl (slS (slS (slS sl0))) ?_
  refine r_iconst dX0_pick_13 rfl ?_
  exact r_iret dX0_pick_14 rfl H
abbrev w_X0_pick_0 (g : PG) (d : Nat) (l0 : Nat) (l1 : Int32) (l2 : Nat) (h : PH) (Q : Out → PH → Prop) : Prop := hkd h l0 = 1 ∧ C g d m_X1_pick [.ref l0, .int l1] h (oI (fun v3 h2 => hkd h2 l2 / 100 = 4 ∧ hkd h2 l2 % 100 < 50 ∧ vp_in (0 : Int32) (hln h2 l2) ∧ ∀ h8, h8 = setL l2 (0 : Int32).toNatClampNeg v3.toInt64 h2 → Q (.inl (some (.int 0))) h8) (fun r hx => XR g d m_X0_pick 4 [.ref l0, .int l1, .ref l2, .null] r hx Q))
theorem v_X0_pick_0 {g : PG} {d : Nat} {l0 : Nat} {l1 : Int32} {l2 : Nat} {h : PH} {Q : Out → PH → Prop} (H : w_X0_pick_0 g d l0 l1 l2 h Q) : R g d m_X0_pick 0 [.ref l0, .int l1, .ref l2, .null] [] h Q := by
  refine r_aload_n dX0_pick_0 rfl rfl ?_
  refine r_iconst dX0_pick_1 rfl ?_
  refine r_aload_n dX0_pick_2 rfl rfl ?_
  refine r_iload_n dX0_pick_3 rfl rfl ?_
  obtain ⟨k1, H⟩ := H
  refine r_invV (y := m_X1_pick) dX0_pick_4 rfl (lw_V q2657 q2658 q2659 q107 q2660) py_X1_pick (Nat.le_of_ble_eq_true rfl) (args := [_]) rfl rfl (Nat.le_of_ble_eq_true rfl) k1 (by decide) rfl (C.monoE H (fun o h2 _ x4 K => cont_I K (fun v3 H => ?_) (fun r HX => HX)))
  refine r_i2l dX0_pick_7 ?_
  obtain ⟨k5, H⟩ := H
  obtain ⟨k6, H⟩ := H
  obtain ⟨k7, H⟩ := H
  replace H := H _ rfl
  refine r_last dX0_pick_8 k5 k6 k7 ?_
  refine r_goto (tgt := 15) dX0_pick_9 rfl ?_
  refine r_iconst dX0_pick_15 rfl ?_
  exact r_iret dX0_pick_16 rfl H
theorem c_X0_pick_0 {g : PG} {d : Nat} {l0 : Nat} {l1 : Int32} {l2 : Nat} {h : PH} {Q : Out → PH → Prop} (H : w_X0_pick_0 g d l0 l1 l2 h Q) : C g (d + 1) m_X0_pick [.ref l0, .int l1, .ref l2] h Q := C_of_R rfl rfl (Nat.le_of_ble_eq_true rfl) rfl (v_X0_pick_0 H)
abbrev w_X0_warm_21 (g : PG) (d : Nat) (s0 : Nat) (h : PH) (Q : Out → PH → Prop) : Prop := Q (.inl (some (.int 3))) h
theorem v_X0_warm_21 {g : PG} {d : Nat} {s0 : Nat} {h : PH} {Q : Out → PH → Prop} (H : w_X0_warm_21 g d s0 h Q) : R g d m_X0_warm 21 [.null, .null, .null, .null, .null] [.ref s0] h Q := by
  refine r_astore dX0_warm_21 (Nat.le_of_ble_eq_true rfl) rfl (slS (slS (slS (slS sl0)))) ?_
  refine r_iconst dX0_warm_23 rfl ?_
  exact r_iret dX0_warm_24 rfl H
abbrev w_X0_warm_17 (g : PG) (d : Nat) (s0 : Nat) (h : PH) (Q : Out → PH → Prop) : Prop := Q (.inl (some (.int 2))) h
theorem v_X0_warm_17 {g : PG} {d : Nat} {s0 : Nat} {h : PH} {Q : Out → PH → Prop} (H : w_X0_warm_17 g d s0 h Q) : R g d m_X0_warm 17 [.null, .null, .null, .null, .null] [.ref s0] h Q := by
  refine r_astore dX0_warm_17 (Nat.le_of_ble_eq_true rfl) rfl (slS (slS (slS (slS sl0)))) ?_
  refine r_iconst dX0_warm_19 rfl ?_
  exact r_iret dX0_warm_20 rfl H
abbrev w_X0_warm_13 (g : PG) (d : Nat) (s0 : Nat) (h : PH) (Q : Out → PH → Prop) : Prop := Q (.inl (some (.int 1))) h
theorem v_X0_warm_13 {g : PG} {d : Nat} {s0 : Nat} {h : PH} {Q : Out → PH → Prop} (H : w_X0_warm_13 g d s0 h Q) : R g d m_X0_warm 13 [.null, .null, .null, .null, .null] [.ref s0] h Q := by
  refine r_astore dX0_warm_13 (Nat.le_of_ble_eq_true rfl) rfl (slS (slS (slS (slS sl0)))) ?_
  refine r_iconst dX0_warm_15 rfl ?_
  exact r_iret dX0_warm_16 rfl H
abbrev w_X0_warm_0 (g : PG) (d : Nat) (l0 : Nat) (l1 : Int32) (l2 : Int32) (l3 : Nat) (h : PH) (Q : Out → PH → Prop) : Prop := hkd h l0 = 1 ∧ C g d m_X1_warm [.ref l0, .int l1, .int l2] h (oI (fun v3 h2 => hkd h2 l3 / 100 = 4 ∧ hkd h2 l3 % 100 < 50 ∧ vp_in (0 : Int32) (hln h2 l3) ∧ ∀ h8, h8 = setL l3 (0 : Int32).toNatClampNeg v3.toInt64 h2 → Q (.inl (some (.int 0))) h8) (fun r hx => XR g d m_X0_warm 5 [.ref l0, .int l1, .int l2, .ref l3, .null] r hx Q))
theorem v_X0_warm_0 {g : PG} {d : Nat} {l0 : Nat} {l1 : Int32} {l2 : Int32} {l3 : Nat} {h : PH} {Q : Out → PH → Prop} (H : w_X0_warm_0 g d l0 l1 l2 l3 h Q) : R g d m_X0_warm 0 [.ref l0, .int l1, .int l2, .ref l3, .null] [] h Q := by
  refine r_aload_n dX0_warm_0 rfl rfl ?_
  refine r_iconst dX0_warm_1 rfl ?_
  refine r_aload_n dX0_warm_2 rfl rfl ?_
  refine r_iload_n dX0_warm_3 rfl rfl ?_
  refine r_iload_n dX0_warm_4 rfl rfl ?_
  obtain ⟨k1, H⟩ := H
  refine r_invV (y := m_X1_warm) dX0_warm_5 rfl (lw_V q2665 q2666 q2667 q107 q2668) py_X1_warm (Nat.le_of_ble_eq_true rfl) (args := [_, _]) rfl rfl (Nat.le_of_ble_eq_true rfl) k1 (by decide) rfl (C.monoE H (fun o h2 _ x4 K => cont_I K (fun v3 H => ?_) (fun r HX => HX)))
  refine r_i2l dX0_warm_8 ?_
  obtain ⟨k5, H⟩ := H
  obtain ⟨k6, H⟩ := H
  obtain ⟨k7, H⟩ := H
  replace H := H _ rfl
  refine r_last dX0_warm_9 k5 k6 k7 ?_
  refine r_goto (tgt := 25) dX0_warm_10 rfl ?_
  refine r_iconst dX0_warm_25 rfl ?_
  exact r_iret dX0_warm_26 rfl H
theorem c_X0_warm_0 {g : PG} {d : Nat} {l0 : Nat} {l1 : Int32} {l2 : Int32} {l3 : Nat} {h : PH} {Q : Out → PH → Prop} (H : w_X0_warm_0 g d l0 l1 l2 l3 h Q) : C g (d + 1) m_X0_warm [.ref l0, .int l1, .int l2, .ref l3] h Q := C_of_R rfl rfl (Nat.le_of_ble_eq_true rfl) rfl (v_X0_warm_0 H)
abbrev w_X0_hour_12 (g : PG) (d : Nat) (s0 : Nat) (h : PH) (Q : Out → PH → Prop) : Prop := Q (.inl (some (.int 1))) h
theorem v_X0_hour_12 {g : PG} {d : Nat} {s0 : Nat} {h : PH} {Q : Out → PH → Prop} (H : w_X0_hour_12 g d s0 h Q) : R g d m_X0_hour 12 [.null, .null, .null, .null] [.ref s0] h Q := by
  refine r_astore_n dX0_hour_12 rfl (Nat.le_of_ble_eq_true rfl) rfl (slS (slS (slS sl0))) ?_
  refine r_iconst dX0_hour_13 rfl ?_
  exact r_iret dX0_hour_14 rfl H
abbrev w_X0_hour_0 (g : PG) (d : Nat) (l0 : Nat) (l1 : Int32) (l2 : Nat) (h : PH) (Q : Out → PH → Prop) : Prop := hkd h l0 = 1 ∧ C g d m_X1_hour [.ref l0, .int l1] h (oI (fun v3 h2 => hkd h2 l2 / 100 = 4 ∧ hkd h2 l2 % 100 < 50 ∧ vp_in (0 : Int32) (hln h2 l2) ∧ ∀ h8, h8 = setL l2 (0 : Int32).toNatClampNeg v3.toInt64 h2 → Q (.inl (some (.int 0))) h8) (fun r hx => XR g d m_X0_hour 4 [.ref l0, .int l1, .ref l2, .null] r hx Q))
theorem v_X0_hour_0 {g : PG} {d : Nat} {l0 : Nat} {l1 : Int32} {l2 : Nat} {h : PH} {Q : Out → PH → Prop} (H : w_X0_hour_0 g d l0 l1 l2 h Q) : R g d m_X0_hour 0 [.ref l0, .int l1, .ref l2, .null] [] h Q := by
  refine r_aload_n dX0_hour_0 rfl rfl ?_
  refine r_iconst dX0_hour_1 rfl ?_
  refine r_aload_n dX0_hour_2 rfl rfl ?_
  refine r_iload_n dX0_hour_3 rfl rfl ?_
  obtain ⟨k1, H⟩ := H
  refine r_invV (y := m_X1_hour) dX0_hour_4 rfl (lw_V q2673 q2674 q2675 q107 q2676) py_X1_hour (Nat.le_of_ble_eq_true rfl) (args := [_]) rfl rfl (Nat.le_of_ble_eq_true rfl) k1 (by decide) rfl (C.monoE H (fun o h2 _ x4 K => cont_I K (fun v3 H => ?_) (fun r HX => HX)))
  refine r_i2l dX0_hour_7 ?_
  obtain ⟨k5, H⟩ := H
  obtain ⟨k6, H⟩ := H
  obtain ⟨k7, H⟩ := H
  replace H := H _ rfl
  refine r_last dX0_hour_8 k5 k6 k7 ?_
  refine r_goto (tgt := 15) dX0_hour_9 rfl ?_
  refine r_iconst dX0_hour_15 rfl ?_
  exact r_iret dX0_hour_16 rfl H
theorem c_X0_hour_0 {g : PG} {d : Nat} {l0 : Nat} {l1 : Int32} {l2 : Nat} {h : PH} {Q : Out → PH → Prop} (H : w_X0_hour_0 g d l0 l1 l2 h Q) : C g (d + 1) m_X0_hour [.ref l0, .int l1, .ref l2] h Q := C_of_R rfl rfl (Nat.le_of_ble_eq_true rfl) rfl (v_X0_hour_0 H)
abbrev w_X0_plankOf_17 (g : PG) (d : Nat) (s0 : Nat) (h : PH) (Q : Out → PH → Prop) : Prop := Q (.inl (some (.int 2))) h
theorem v_X0_plankOf_17 {g : PG} {d : Nat} {s0 : Nat} {h : PH} {Q : Out → PH → Prop} (H : w_X0_plankOf_17 g d s0 h Q) : R g d m_X0_plankOf 17 [.null, .null, .null, .null, .null] [.ref s0] h Q := by
  refine r_astore dX0_plankOf_17 (Nat.le_of_ble_eq_true rfl) rfl (slS (slS (slS (slS sl0)))) ?_
  refine r_iconst dX0_plankOf_19 rfl ?_
  exact r_iret dX0_plankOf_20 rfl H
abbrev w_X0_plankOf_13 (g : PG) (d : Nat) (s0 : Nat) (h : PH) (Q : Out → PH → Prop) : Prop := Q (.inl (some (.int 1))) h
theorem v_X0_plankOf_13 {g : PG} {d : Nat} {s0 : Nat} {h : PH} {Q : Out → PH → Prop} (H : w_X0_plankOf_13 g d s0 h Q) : R g d m_X0_plankOf 13 [.null, .null, .null, .null, .null] [.ref s0] h Q := by
  refine r_astore dX0_plankOf_13 (Nat.le_of_ble_eq_true rfl) rfl (slS (slS (slS (slS sl0)))) ?_
  refine r_iconst dX0_plankOf_15 rfl ?_
  exact r_iret dX0_plankOf_16 rfl H
abbrev w_X0_plankOf_0 (g : PG) (d : Nat) (l0 : Nat) (l1 : Int32) (l2 : Int32) (l3 : Nat) (h : PH) (Q : Out → PH → Prop) : Prop := hkd h l0 = 1 ∧ C g d m_X1_plankOf [.ref l0, .int l1, .int l2] h (oI (fun v3 h2 => hkd h2 l3 / 100 = 4 ∧ hkd h2 l3 % 100 < 50 ∧ vp_in (0 : Int32) (hln h2 l3) ∧ ∀ h8, h8 = setL l3 (0 : Int32).toNatClampNeg v3.toInt64 h2 → Q (.inl (some (.int 0))) h8) (fun r hx => XR g d m_X0_plankOf 5 [.ref l0, .int l1, .int l2, .ref l3, .null] r hx Q))
theorem v_X0_plankOf_0 {g : PG} {d : Nat} {l0 : Nat} {l1 : Int32} {l2 : Int32} {l3 : Nat} {h : PH} {Q : Out → PH → Prop} (H : w_X0_plankOf_0 g d l0 l1 l2 l3 h Q) : R g d m_X0_plankOf 0 [.ref l0, .int l1, .int l2, .ref l3, .null] [] h Q := by
  refine r_aload_n dX0_plankOf_0 rfl rfl ?_
  refine r_iconst dX0_plankOf_1 rfl ?_
  refine r_aload_n dX0_plankOf_2 rfl rfl ?_
  refine r_iload_n dX0_plankOf_3 rfl rfl ?_
  refine r_iload_n dX0_plankOf_4 rfl rfl ?_
  obtain ⟨k1, H⟩ := H
  refine r_invV (y := m_X1_plankOf) dX0_plankOf_5 rfl (lw_V q2681 q2682 q2683 q107 q2684) py_X1_plankOf (Nat.le_of_ble_eq_true rfl) (args := [_, _]) rfl rfl (Nat.le_of_ble_eq_true rfl) k1 (by decide) rfl (C.monoE H (fun o h2 _ x4 K => cont_I K (fun v3 H => ?_) (fun r HX => HX)))
  refine r_i2l dX0_plankOf_8 ?_
  obtain ⟨k5, H⟩ := H
  obtain ⟨k6, H⟩ := H
  obtain ⟨k7, H⟩ := H
  replace H := H _ rfl
  refine r_last dX0_plankOf_9 k5 k6 k7 ?_
  refine r_goto (tgt := 21) dX0_plankOf_10 rfl ?_
  refine r_iconst dX0_plankOf_21 rfl ?_
  exact r_iret dX0_plankOf_22 rfl H
theorem c_X0_plankOf_0 {g : PG} {d : Nat} {l0 : Nat} {l1 : Int32} {l2 : Int32} {l3 : Nat} {h : PH} {Q : Out → PH → Prop} (H : w_X0_plankOf_0 g d l0 l1 l2 l3 h Q) : C g (d + 1) m_X0_plankOf [.ref l0, .int l1, .int l2, .ref l3] h Q := C_of_R rfl rfl (Nat.le_of_ble_eq_true rfl) rfl (v_X0_plankOf_0 H)
abbrev w_X0_snowmanOf_17 (g : PG) (d : Nat) (s0 : Nat) (h : PH) (Q : Out → PH → Prop) : Prop := Q (.inl (some (.int 2))) h
theorem v_X0_snowmanOf_17 {g : PG} {d : Nat} {s0 : Nat} {h : PH} {Q : Out → PH → Prop} (H : w_X0_snowmanOf_17 g d s0 h Q) : R g d m_X0_snowmanOf 17 [.null, .null, .null, .null, .null] [.ref s0] h Q := by
  refine r_astore dX0_snowmanOf_17 (Nat.le_of_ble_eq_true rfl) rfl (slS (slS (slS (slS sl0)))) ?_
  refine r_iconst dX0_snowmanOf_19 rfl ?_
  exact r_iret dX0_snowmanOf_20 rfl H
abbrev w_X0_snowmanOf_13 (g : PG) (d : Nat) (s0 : Nat) (h : PH) (Q : Out → PH → Prop) : Prop := Q (.inl (some (.int 1))) h
theorem v_X0_snowmanOf_13 {g : PG} {d : Nat} {s0 : Nat} {h : PH} {Q : Out → PH → Prop} (H : w_X0_snowmanOf_13 g d s0 h Q) : R g d m_X0_snowmanOf 13 [.null, .null, .null, .null, .null] [.ref s0] h Q := by
  refine r_astore dX0_snowmanOf_13 (Nat.le_of_ble_eq_true rfl) rfl (slS (slS (slS (slS sl0)))) ?_
  refine r_iconst dX0_snowmanOf_15 rfl ?_
  exact r_iret dX0_snowmanOf_16 rfl H
abbrev w_X0_snowmanOf_0 (g : PG) (d : Nat) (l0 : Nat) (l1 : Int32) (l2 : Int32) (l3 : Nat) (h : PH) (Q : Out → PH → Prop) : Prop := hkd h l0 = 1 ∧ C g d m_X1_snowmanOf [.ref l0, .int l1, .int l2] h (oI (fun v3 h2 => hkd h2 l3 / 100 = 4 ∧ hkd h2 l3 % 100 < 50 ∧ vp_in (0 : Int32) (hln h2 l3) ∧ ∀ h8, h8 = setL l3 (0 : Int32).toNatClampNeg v3.toInt64 h2 → Q (.inl (some (.int 0))) h8) (fun r hx => XR g d m_X0_snowmanOf 5 [.ref l0, .int l1, .int l2, .ref l3, .null] r hx Q))
theorem v_X0_snowmanOf_0 {g : PG} {d : Nat} {l0 : Nat} {l1 : Int32} {l2 : Int32} {l3 : Nat} {h : PH} {Q : Out → PH → Prop} (H : w_X0_snowmanOf_0 g d l0 l1 l2 l3 h Q) : R g d m_X0_snowmanOf 0 [.ref l0, .int l1, .int l2, .ref l3, .null] [] h Q := by
  refine r_aload_n dX0_snowmanOf_0 rfl rfl ?_
  refine r_iconst dX0_snowmanOf_1 rfl ?_
  refine r_aload_n dX0_snowmanOf_2 rfl rfl ?_
  refine r_iload_n dX0_snowmanOf_3 rfl rfl ?_
  refine r_iload_n dX0_snowmanOf_4 rfl rfl ?_
  obtain ⟨k1, H⟩ := H
  refine r_invV (y := m_X1_snowmanOf) dX0_snowmanOf_5 rfl (lw_V q2694 q2695 q2696 q107 q2697) py_X1_snowmanOf (Nat.le_of_ble_eq_true rfl) (args := [_, _]) rfl rfl (Nat.le_of_ble_eq_true rfl) k1 (by decide) rfl (C.monoE H (fun o h2 _ x4 K => cont_I K (fun v3 H => ?_) (fun r HX => HX)))
  refine r_i2l dX0_snowmanOf_8 ?_
  obtain ⟨k5, H⟩ := H
  obtain ⟨k6, H⟩ := H
  obtain ⟨k7, H⟩ := H
  replace H := H _ rfl
  refine r_last dX0_snowmanOf_9 k5 k6 k7 ?_
  refine r_goto (tgt := 21) dX0_snowmanOf_10 rfl ?_
  refine r_iconst dX0_snowmanOf_21 rfl ?_
  exact r_iret dX0_snowmanOf_22 rfl H
theorem c_X0_snowmanOf_0 {g : PG} {d : Nat} {l0 : Nat} {l1 : Int32} {l2 : Int32} {l3 : Nat} {h : PH} {Q : Out → PH → Prop} (H : w_X0_snowmanOf_0 g d l0 l1 l2 l3 h Q) : C g (d + 1) m_X0_snowmanOf [.ref l0, .int l1, .int l2, .ref l3] h Q := C_of_R rfl rfl (Nat.le_of_ble_eq_true rfl) rfl (v_X0_snowmanOf_0 H)
abbrev w_X0_teamOf_13 (g : PG) (d : Nat) (s0 : Nat) (h : PH) (Q : Out → PH → Prop) : Prop := Q (.inl (some (.int 1))) h
theorem v_X0_teamOf_13 {g : PG} {d : Nat} {s0 : Nat} {h : PH} {Q : Out → PH → Prop} (H : w_X0_teamOf_13 g d s0 h Q) : R g d m_X0_teamOf 13 [.null, .null, .null, .null, .null] [.ref s0] h Q := by
  refine r_astore dX0_teamOf_13 (Nat.le_of_ble_eq_true rfl) rfl (slS (slS (slS (slS sl0)))) ?_
  refine r_iconst dX0_teamOf_15 rfl ?_
  exact r_iret dX0_teamOf_16 rfl H
abbrev w_X0_teamOf_0 (g : PG) (d : Nat) (l0 : Nat) (l1 : Int32) (l2 : Int32) (l3 : Nat) (h : PH) (Q : Out → PH → Prop) : Prop := hkd h l0 = 1 ∧ C g d m_X1_teamOf [.ref l0, .int l1, .int l2] h (oI (fun v3 h2 => hkd h2 l3 / 100 = 4 ∧ hkd h2 l3 % 100 < 50 ∧ vp_in (0 : Int32) (hln h2 l3) ∧ ∀ h8, h8 = setL l3 (0 : Int32).toNatClampNeg v3.toInt64 h2 → Q (.inl (some (.int 0))) h8) (fun r hx => XR g d m_X0_teamOf 5 [.ref l0, .int l1, .int l2, .ref l3, .null] r hx Q))
theorem v_X0_teamOf_0 {g : PG} {d : Nat} {l0 : Nat} {l1 : Int32} {l2 : Int32} {l3 : Nat} {h : PH} {Q : Out → PH → Prop} (H : w_X0_teamOf_0 g d l0 l1 l2 l3 h Q) : R g d m_X0_teamOf 0 [.ref l0, .int l1, .int l2, .ref l3, .null] [] h Q := by
  refine r_aload_n dX0_teamOf_0 rfl rfl ?_
  refine r_iconst dX0_teamOf_1 rfl ?_
  refine r_aload_n dX0_teamOf_2 rfl rfl ?_
  refine r_iload_n dX0_teamOf_3 rfl rfl ?_
  refine r_iload_n dX0_teamOf_4 rfl rfl ?_
  obtain ⟨k1, H⟩ := H
  refine r_invV (y := m_X1_teamOf) dX0_teamOf_5 rfl (lw_V q2706 q2707 q2708 q107 q2709) py_X1_teamOf (Nat.le_of_ble_eq_true rfl) (args := [_, _]) rfl rfl (Nat.le_of_ble_eq_true rfl) k1 (by decide) rfl (C.monoE H (fun o h2 _ x4 K => cont_I K (fun v3 H => ?_) (fun r HX => HX)))
  refine r_i2l dX0_teamOf_8 ?_
  obtain ⟨k5, H⟩ := H
  obtain ⟨k6, H⟩ := H
  obtain ⟨k7, H⟩ := H
  replace H := H _ rfl
  refine r_last dX0_teamOf_9 k5 k6 k7 ?_
  refine r_goto (tgt := 17) dX0_teamOf_10 rfl ?_
  refine r_iconst dX0_teamOf_17 rfl ?_
  exact r_iret dX0_teamOf_18 rfl H
theorem c_X0_teamOf_0 {g : PG} {d : Nat} {l0 : Nat} {l1 : Int32} {l2 : Int32} {l3 : Nat} {h : PH} {Q : Out → PH → Prop} (H : w_X0_teamOf_0 g d l0 l1 l2 l3 h Q) : C g (d + 1) m_X0_teamOf [.ref l0, .int l1, .int l2, .ref l3] h Q := C_of_R rfl rfl (Nat.le_of_ble_eq_true rfl) rfl (v_X0_teamOf_0 H)
abbrev w_X0_massAt_21 (g : PG) (d : Nat) (s0 : Nat) (h : PH) (Q : Out → PH → Prop) : Prop := Q (.inl (some (.int 3))) h
theorem v_X0_massAt_21 {g : PG} {d : Nat} {s0 : Nat} {h : PH} {Q : Out → PH → Prop} (H : w_X0_massAt_21 g d s0 h Q) : R g d m_X0_massAt 21 [.null, .null, .null, .null, .null] [.ref s0] h Q := by
  refine r_astore dX0_massAt_21 (Nat.le_of_ble_eq_true rfl) rfl (slS (slS (slS (slS sl0)))) ?_
  refine r_iconst dX0_massAt_23 rfl ?_
  exact r_iret dX0_massAt_24 rfl H
abbrev w_X0_massAt_17 (g : PG) (d : Nat) (s0 : Nat) (h : PH) (Q : Out → PH → Prop) : Prop := Q (.inl (some (.int 2))) h
theorem v_X0_massAt_17 {g : PG} {d : Nat} {s0 : Nat} {h : PH} {Q : Out → PH → Prop} (H : w_X0_massAt_17 g d s0 h Q) : R g d m_X0_massAt 17 [.null, .null, .null, .null, .null] [.ref s0] h Q := by
  refine r_astore dX0_massAt_17 (Nat.le_of_ble_eq_true rfl) rfl (slS (slS (slS (slS sl0)))) ?_
  refine r_iconst dX0_massAt_19 rfl ?_
  exact r_iret dX0_massAt_20 rfl H
abbrev w_X0_massAt_13 (g : PG) (d : Nat) (s0 : Nat) (h : PH) (Q : Out → PH → Prop) : Prop := Q (.inl (some (.int 1))) h
theorem v_X0_massAt_13 {g : PG} {d : Nat} {s0 : Nat} {h : PH} {Q : Out → PH → Prop} (H : w_X0_massAt_13 g d s0 h Q) : R g d m_X0_massAt 13 [.null, .null, .null, .null, .null] [.ref s0] h Q := by
  refine r_astore dX0_massAt_13 (Nat.le_of_ble_eq_true rfl) rfl (slS (slS (slS (slS sl0)))) ?_
  refine r_iconst dX0_massAt_15 rfl ?_
  exact r_iret dX0_massAt_16 rfl H
abbrev w_X0_massAt_0 (g : PG) (d : Nat) (l0 : Nat) (l1 : Int32) (l2 : Int32) (l3 : Nat) (h : PH) (Q : Out → PH → Prop) : Prop := hkd h l0 = 1 ∧ C g d m_X1_massAt [.ref l0, .int l1, .int l2] h (oI (fun v3 h2 => hkd h2 l3 / 100 = 4 ∧ hkd h2 l3 % 100 < 50 ∧ vp_in (0 : Int32) (hln h2 l3) ∧ ∀ h8, h8 = setL l3 (0 : Int32).toNatClampNeg v3.toInt64 h2 → Q (.inl (some (.int 0))) h8) (fun r hx => XR g d m_X0_massAt 5 [.ref l0, .int l1, .int l2, .ref l3, .null] r hx Q))
theorem v_X0_massAt_0 {g : PG} {d : Nat} {l0 : Nat} {l1 : Int32} {l2 : Int32} {l3 : Nat} {h : PH} {Q : Out → PH → Prop} (H : w_X0_massAt_0 g d l0 l1 l2 l3 h Q) : R g d m_X0_massAt 0 [.ref l0, .int l1, .int l2, .ref l3, .null] [] h Q := by
  refine r_aload_n dX0_massAt_0 rfl rfl ?_
  refine r_iconst dX0_massAt_1 rfl ?_
  refine r_aload_n dX0_massAt_2 rfl rfl ?_
  refine r_iload_n dX0_massAt_3 rfl rfl ?_
  refine r_iload_n dX0_massAt_4 rfl rfl ?_
  obtain ⟨k1, H⟩ := H
  refine r_invV (y := m_X1_massAt) dX0_massAt_5 rfl (lw_V q2723 q2724 q2725 q107 q2726) py_X1_massAt (Nat.le_of_ble_eq_true rfl) (args := [_, _]) rfl rfl (Nat.le_of_ble_eq_true rfl) k1 (by decide) rfl (C.monoE H (fun o h2 _ x4 K => cont_I K (fun v3 H => ?_) (fun r HX => HX)))
  refine r_i2l dX0_massAt_8 ?_
  obtain ⟨k5, H⟩ := H
  obtain ⟨k6, H⟩ := H
  obtain ⟨k7, H⟩ := H
  replace H := H _ rfl
  refine r_last dX0_massAt_9 k5 k6 k7 ?_
  refine r_goto (tgt := 25) dX0_massAt_10 rfl ?_
  refine r_iconst dX0_massAt_25 rfl ?_
  exact r_iret dX0_massAt_26 rfl H
theorem c_X0_massAt_0 {g : PG} {d : Nat} {l0 : Nat} {l1 : Int32} {l2 : Int32} {l3 : Nat} {h : PH} {Q : Out → PH → Prop} (H : w_X0_massAt_0 g d l0 l1 l2 l3 h Q) : C g (d + 1) m_X0_massAt [.ref l0, .int l1, .int l2, .ref l3] h Q := C_of_R rfl rfl (Nat.le_of_ble_eq_true rfl) rfl (v_X0_massAt_0 H)
abbrev w_X0_massAgain_21 (g : PG) (d : Nat) (s0 : Nat) (h : PH) (Q : Out → PH → Prop) : Prop := Q (.inl (some (.int 3))) h
theorem v_X0_massAgain_21 {g : PG} {d : Nat} {s0 : Nat} {h : PH} {Q : Out → PH → Prop} (H : w_X0_massAgain_21 g d s0 h Q) : R g d m_X0_massAgain 21 [.null, .null, .null, .null, .null] [.ref s0] h Q := by
  refine r_astore dX0_massAgain_21 (Nat.le_of_ble_eq_true rfl) rfl (slS (slS (slS (slS sl0)))) ?_
  refine r_iconst dX0_massAgain_23 rfl ?_
  exact r_iret dX0_massAgain_24 rfl H
abbrev w_X0_massAgain_17 (g : PG) (d : Nat) (s0 : Nat) (h : PH) (Q : Out → PH → Prop) : Prop := Q (.inl (some (.int 2))) h
theorem v_X0_massAgain_17 {g : PG} {d : Nat} {s0 : Nat} {h : PH} {Q : Out → PH → Prop} (H : w_X0_massAgain_17 g d s0 h Q) : R g d m_X0_massAgain 17 [.null, .null, .null, .null, .null] [.ref s0] h Q := by
  refine r_astore dX0_massAgain_17 (Nat.le_of_ble_eq_true rfl) rfl (slS (slS (slS (slS sl0)))) ?_
  refine r_iconst dX0_massAgain_19 rfl ?_
  exact r_iret dX0_massAgain_20 rfl H
abbrev w_X0_massAgain_13 (g : PG) (d : Nat) (s0 : Nat) (h : PH) (Q : Out → PH → Prop) : Prop := Q (.inl (some (.int 1))) h
theorem v_X0_massAgain_13 {g : PG} {d : Nat} {s0 : Nat} {h : PH} {Q : Out → PH → Prop} (H : w_X0_massAgain_13 g d s0 h Q) : R g d m_X0_massAgain 13 [.null, .null, .null, .null, .null] [.ref s0] h Q := by
  refine r_astore dX0_massAgain_13 (Nat.le_of_ble_eq_true rfl) rfl (slS (slS (slS (slS sl0)))) ?_
  refine r_iconst dX0_massAgain_15 rfl ?_
  exact r_iret dX0_massAgain_16 rfl H
abbrev w_X0_massAgain_0 (g : PG) (d : Nat) (l0 : Nat) (l1 : Int32) (l2 : Int32) (l3 : Nat) (h : PH) (Q : Out → PH → Prop) : Prop := hkd h l0 = 1 ∧ C g d m_X1_massAgain [.ref l0, .int l1, .int l2] h (oI (fun v3 h2 => hkd h2 l3 / 100 = 4 ∧ hkd h2 l3 % 100 < 50 ∧ vp_in (0 : Int32) (hln h2 l3) ∧ ∀ h8, h8 = setL l3 (0 : Int32).toNatClampNeg v3.toInt64 h2 → Q (.inl (some (.int 0))) h8) (fun r hx => XR g d m_X0_massAgain 5 [.ref l0, .int l1, .int l2, .ref l3, .null] r hx Q))
theorem v_X0_massAgain_0 {g : PG} {d : Nat} {l0 : Nat} {l1 : Int32} {l2 : Int32} {l3 : Nat} {h : PH} {Q : Out → PH → Prop} (H : w_X0_massAgain_0 g d l0 l1 l2 l3 h Q) : R g d m_X0_massAgain 0 [.ref l0, .int l1, .int l2, .ref l3, .null] [] h Q := by
  refine r_aload_n dX0_massAgain_0 rfl rfl ?_
  refine r_iconst dX0_massAgain_1 rfl ?_
  refine r_aload_n dX0_massAgain_2 rfl rfl ?_
  refine r_iload_n dX0_massAgain_3 rfl rfl ?_
  refine r_iload_n dX0_massAgain_4 rfl rfl ?_
  obtain ⟨k1, H⟩ := H
  refine r_invV (y := m_X1_massAgain) dX0_massAgain_5 rfl (lw_V q2734 q2735 q2736 q107 q2737) py_X1_massAgain (Nat.le_of_ble_eq_true rfl) (args := [_, _]) rfl rfl (Nat.le_of_ble_eq_true rfl) k1 (by decide) rfl (C.monoE H (fun o h2 _ x4 K => cont_I K (fun v3 H => ?_) (fun r HX => HX)))
  refine r_i2l dX0_massAgain_8 ?_
  obtain ⟨k5, H⟩ := H
  obtain ⟨k6, H⟩ := H
  obtain ⟨k7, H⟩ := H
  replace H := H _ rfl
  refine r_last dX0_massAgain_9 k5 k6 k7 ?_
  refine r_goto (tgt := 25) dX0_massAgain_10 rfl ?_
  refine r_iconst dX0_massAgain_25 rfl ?_
  exact r_iret dX0_massAgain_26 rfl H
theorem c_X0_massAgain_0 {g : PG} {d : Nat} {l0 : Nat} {l1 : Int32} {l2 : Int32} {l3 : Nat} {h : PH} {Q : Out → PH → Prop} (H : w_X0_massAgain_0 g d l0 l1 l2 l3 h Q) : C g (d + 1) m_X0_massAgain [.ref l0, .int l1, .int l2, .ref l3] h Q := C_of_R rfl rfl (Nat.le_of_ble_eq_true rfl) rfl (v_X0_massAgain_0 H)
abbrev w_X0_far_12 (g : PG) (d : Nat) (s0 : Nat) (h : PH) (Q : Out → PH → Prop) : Prop := Q (.inl (some (.int 1))) h
theorem v_X0_far_12 {g : PG} {d : Nat} {s0 : Nat} {h : PH} {Q : Out → PH → Prop} (H : w_X0_far_12 g d s0 h Q) : R g d m_X0_far 12 [.null, .null, .null, .null] [.ref s0] h Q := by
  refine r_astore_n dX0_far_12 rfl (Nat.le_of_ble_eq_true rfl) rfl (slS (slS (slS sl0))) ?_
  refine r_iconst dX0_far_13 rfl ?_
  exact r_iret dX0_far_14 rfl H
abbrev w_X0_far_0 (g : PG) (d : Nat) (l0 : Nat) (l1 : Int32) (l2 : Nat) (h : PH) (Q : Out → PH → Prop) : Prop := hkd h l0 = 1 ∧ C g d m_X1_far [.ref l0, .int l1] h (oI (fun v3 h2 => hkd h2 l2 / 100 = 4 ∧ hkd h2 l2 % 100 < 50 ∧ vp_in (0 : Int32) (hln h2 l2) ∧ ∀ h8, h8 = setL l2 (0 : Int32).toNatClampNeg v3.toInt64 h2 → Q (.inl (some (.int 0))) h8) (fun r hx => XR g d m_X0_far 4 [.ref l0, .int l1, .ref l2, .null] r hx Q))
theorem v_X0_far_0 {g : PG} {d : Nat} {l0 : Nat} {l1 : Int32} {l2 : Nat} {h : PH} {Q : Out → PH → Prop} (H : w_X0_far_0 g d l0 l1 l2 h Q) : R g d m_X0_far 0 [.ref l0, .int l1, .ref l2, .null] [] h Q := by
  refine r_aload_n dX0_far_0 rfl rfl ?_
  refine r_iconst dX0_far_1 rfl ?_
  refine r_aload_n dX0_far_2 rfl rfl ?_
  refine r_iload_n dX0_far_3 rfl rfl ?_
  obtain ⟨k1, H⟩ := H
  refine r_invV (y := m_X1_far) dX0_far_4 rfl (lw_V q2741 q2742 q2743 q107 q2744) py_X1_far (Nat.le_of_ble_eq_true rfl) (args := [_]) rfl rfl (Nat.le_of_ble_eq_true rfl) k1 (by decide) rfl (C.monoE H (fun o h2 _ x4 K => cont_I K (fun v3 H => ?_) (fun r HX => HX)))
  refine r_i2l dX0_far_7 ?_
  obtain ⟨k5, H⟩ := H
  obtain ⟨k6, H⟩ := H
  obtain ⟨k7, H⟩ := H
  replace H := H _ rfl
  refine r_last dX0_far_8 k5 k6 k7 ?_
  refine r_goto (tgt := 15) dX0_far_9 rfl ?_
  refine r_iconst dX0_far_15 rfl ?_
  exact r_iret dX0_far_16 rfl H
theorem c_X0_far_0 {g : PG} {d : Nat} {l0 : Nat} {l1 : Int32} {l2 : Nat} {h : PH} {Q : Out → PH → Prop} (H : w_X0_far_0 g d l0 l1 l2 h Q) : C g (d + 1) m_X0_far [.ref l0, .int l1, .ref l2] h Q := C_of_R rfl rfl (Nat.le_of_ble_eq_true rfl) rfl (v_X0_far_0 H)
abbrev w_X0_best_15 (g : PG) (d : Nat) (s0 : Nat) (h : PH) (Q : Out → PH → Prop) : Prop := Q (.inl (some (.int 2))) h
theorem v_X0_best_15 {g : PG} {d : Nat} {s0 : Nat} {h : PH} {Q : Out → PH → Prop} (H : w_X0_best_15 g d s0 h Q) : R g d m_X0_best 15 [.null, .null, .null, .null] [.ref s0] h Q := by
  refine r_astore_n dX0_best_15 rfl (Nat.le_of_ble_eq_true rfl) rfl (slS (slS (slS sl0))) ?_
  refine r_iconst dX0_best_16 rfl ?_
  exact r_iret dX0_best_17 rfl H
abbrev w_X0_best_12 (g : PG) (d : Nat) (s0 : Nat) (h : PH) (Q : Out → PH → Prop) : Prop := Q (.inl (some (.int 1))) h
theorem v_X0_best_12 {g : PG} {d : Nat} {s0 : Nat} {h : PH} {Q : Out → PH → Prop} (H : w_X0_best_12 g d s0 h Q) : R g d m_X0_best 12 [.null, .null, .null, .null] [.ref s0] h Q := by
  refine r_astore_n dX0_best_12 rfl (Nat.le_of_ble_eq_true rfl) rfl (slS (slS (slS sl0))) ?_
  refine r_iconst dX0_best_13 rfl ?_
  exact r_iret dX0_best_14 rfl H
abbrev w_X0_best_0 (g : PG) (d : Nat) (l0 : Nat) (l1 : Int32) (l2 : Nat) (h : PH) (Q : Out → PH → Prop) : Prop := hkd h l0 = 1 ∧ C g d m_X1_best [.ref l0, .int l1] h (oI (fun v3 h2 => hkd h2 l2 / 100 = 4 ∧ hkd h2 l2 % 100 < 50 ∧ vp_in (0 : Int32) (hln h2 l2) ∧ ∀ h8, h8 = setL l2 (0 : Int32).toNatClampNeg v3.toInt64 h2 → Q (.inl (some (.int 0))) h8) (fun r hx => XR g d m_X0_best 4 [.ref l0, .int l1, .ref l2, .null] r hx Q))
theorem v_X0_best_0 {g : PG} {d : Nat} {l0 : Nat} {l1 : Int32} {l2 : Nat} {h : PH} {Q : Out → PH → Prop} (H : w_X0_best_0 g d l0 l1 l2 h Q) : R g d m_X0_best 0 [.ref l0, .int l1, .ref l2, .null] [] h Q := by
  refine r_aload_n dX0_best_0 rfl rfl ?_
  refine r_iconst dX0_best_1 rfl ?_
  refine r_aload_n dX0_best_2 rfl rfl ?_
  refine r_iload_n dX0_best_3 rfl rfl ?_
  obtain ⟨k1, H⟩ := H
  refine r_invV (y := m_X1_best) dX0_best_4 rfl (lw_V q2749 q2750 q2751 q107 q2752) py_X1_best (Nat.le_of_ble_eq_true rfl) (args := [_]) rfl rfl (Nat.le_of_ble_eq_true rfl) k1 (by decide) rfl (C.monoE H (fun o h2 _ x4 K => cont_I K (fun v3 H => ?_) (fun r HX => HX)))
  refine r_i2l dX0_best_7 ?_
  obtain ⟨k5, H⟩ := H
  obtain ⟨k6, H⟩ := H
  obtain ⟨k7, H⟩ := H
  replace H := H _ rfl
  refine r_last dX0_best_8 k5 k6 k7 ?_
  refine r_goto (tgt := 18) dX0_best_9 rfl ?_
  refine r_iconst dX0_best_18 rfl ?_
  exact r_iret dX0_best_19 rfl H
theorem c_X0_best_0 {g : PG} {d : Nat} {l0 : Nat} {l1 : Int32} {l2 : Nat} {h : PH} {Q : Out → PH → Prop} (H : w_X0_best_0 g d l0 l1 l2 h Q) : C g (d + 1) m_X0_best [.ref l0, .int l1, .ref l2] h Q := C_of_R rfl rfl (Nat.le_of_ble_eq_true rfl) rfl (v_X0_best_0 H)
abbrev w_X0_meltsIn_15 (g : PG) (d : Nat) (s0 : Nat) (h : PH) (Q : Out → PH → Prop) : Prop := Q (.inl (some (.int 2))) h
theorem v_X0_meltsIn_15 {g : PG} {d : Nat} {s0 : Nat} {h : PH} {Q : Out → PH → Prop} (H : w_X0_meltsIn_15 g d s0 h Q) : R g d m_X0_meltsIn 15 [.null, .null, .null, .null] [.ref s0] h Q := by
  refine r_astore_n dX0_meltsIn_15 rfl (Nat.le_of_ble_eq_true rfl) rfl (slS (slS (slS sl0))) ?_
  refine r_iconst dX0_meltsIn_16 rfl ?_
  exact r_iret dX0_meltsIn_17 rfl H
abbrev w_X0_meltsIn_12 (g : PG) (d : Nat) (s0 : Nat) (h : PH) (Q : Out → PH → Prop) : Prop := Q (.inl (some (.int 1))) h
theorem v_X0_meltsIn_12 {g : PG} {d : Nat} {s0 : Nat} {h : PH} {Q : Out → PH → Prop} (H : w_X0_meltsIn_12 g d s0 h Q) : R g d m_X0_meltsIn 12 [.null, .null, .null, .null] [.ref s0] h Q := by
  refine r_astore_n dX0_meltsIn_12 rfl (Nat.le_of_ble_eq_true rfl) rfl (slS (slS (slS sl0))) ?_
  refine r_iconst dX0_meltsIn_13 rfl ?_
  exact r_iret dX0_meltsIn_14 rfl H
abbrev w_X0_meltsIn_0 (g : PG) (d : Nat) (l0 : Nat) (l1 : Int32) (l2 : Nat) (h : PH) (Q : Out → PH → Prop) : Prop := hkd h l0 = 1 ∧ C g d m_X1_meltsIn [.ref l0, .int l1] h (oI (fun v3 h2 => hkd h2 l2 / 100 = 4 ∧ hkd h2 l2 % 100 < 50 ∧ vp_in (0 : Int32) (hln h2 l2) ∧ ∀ h8, h8 = setL l2 (0 : Int32).toNatClampNeg v3.toInt64 h2 → Q (.inl (some (.int 0))) h8) (fun r hx => XR g d m_X0_meltsIn 4 [.ref l0, .int l1, .ref l2, .null] r hx Q))
theorem v_X0_meltsIn_0 {g : PG} {d : Nat} {l0 : Nat} {l1 : Int32} {l2 : Nat} {h : PH} {Q : Out → PH → Prop} (H : w_X0_meltsIn_0 g d l0 l1 l2 h Q) : R g d m_X0_meltsIn 0 [.ref l0, .int l1, .ref l2, .null] [] h Q := by
  refine r_aload_n dX0_meltsIn_0 rfl rfl ?_
  refine r_iconst dX0_meltsIn_1 rfl ?_
  refine r_aload_n dX0_meltsIn_2 rfl rfl ?_
  refine r_iload_n dX0_meltsIn_3 rfl rfl ?_
  obtain ⟨k1, H⟩ := H
  refine r_invV (y := m_X1_meltsIn) dX0_meltsIn_4 rfl (lw_V q2835 q2836 q2837 q107 q2838) py_X1_meltsIn (Nat.le_of_ble_eq_true rfl) (args := [_]) rfl rfl (Nat.le_of_ble_eq_true rfl) k1 (by decide) rfl (C.monoE H (fun o h2 _ x4 K => cont_I K (fun v3 H => ?_) (fun r HX => HX)))
  refine r_i2l dX0_meltsIn_7 ?_
  obtain ⟨k5, H⟩ := H
  obtain ⟨k6, H⟩ := H
  obtain ⟨k7, H⟩ := H
  replace H := H _ rfl
  refine r_last dX0_meltsIn_8 k5 k6 k7 ?_
  refine r_goto (tgt := 18) dX0_meltsIn_9 rfl ?_
  refine r_iconst dX0_meltsIn_18 rfl ?_
  exact r_iret dX0_meltsIn_19 rfl H
theorem c_X0_meltsIn_0 {g : PG} {d : Nat} {l0 : Nat} {l1 : Int32} {l2 : Nat} {h : PH} {Q : Out → PH → Prop} (H : w_X0_meltsIn_0 g d l0 l1 l2 h Q) : C g (d + 1) m_X0_meltsIn [.ref l0, .int l1, .ref l2] h Q := C_of_R rfl rfl (Nat.le_of_ble_eq_true rfl) rfl (v_X0_meltsIn_0 H)
abbrev w_X0_standing_12 (g : PG) (d : Nat) (s0 : Nat) (h : PH) (Q : Out → PH → Prop) : Prop := Q (.inl (some (.int 1))) h
theorem v_X0_standing_12 {g : PG} {d : Nat} {s0 : Nat} {h : PH} {Q : Out → PH → Prop} (H : w_X0_standing_12 g d s0 h Q) : R g d m_X0_standing 12 [.null, .null, .null, .null] [.ref s0] h Q := by
  refine r_astore_n dX0_standing_12 rfl (Nat.le_of_ble_eq_true rfl) rfl (slS (slS (slS sl0))) ?_
  refine r_iconst dX0_standing_13 rfl ?_
  exact r_iret dX0_standing_14 rfl H
abbrev w_X0_standing_0 (g : PG) (d : Nat) (l0 : Nat) (l1 : Int32) (l2 : Nat) (h : PH) (Q : Out → PH → Prop) : Prop := hkd h l0 = 1 ∧ C g d m_X1_standing [.ref l0, .int l1] h (oI (fun v3 h2 => hkd h2 l2 / 100 = 4 ∧ hkd h2 l2 % 100 < 50 ∧ vp_in (0 : Int32) (hln h2 l2) ∧ ∀ h8, h8 = setL l2 (0 : Int32).toNatClampNeg v3.toInt64 h2 → Q (.inl (some (.int 0))) h8) (fun r hx => XR g d m_X0_standing 4 [.ref l0, .int l1, .ref l2, .null] r hx Q))
theorem v_X0_standing_0 {g : PG} {d : Nat} {l0 : Nat} {l1 : Int32} {l2 : Nat} {h : PH} {Q : Out → PH → Prop} (H : w_X0_standing_0 g d l0 l1 l2 h Q) : R g d m_X0_standing 0 [.ref l0, .int l1, .ref l2, .null] [] h Q := by
  refine r_aload_n dX0_standing_0 rfl rfl ?_
  refine r_iconst dX0_standing_1 rfl ?_
  refine r_aload_n dX0_standing_2 rfl rfl ?_
  refine r_iload_n dX0_standing_3 rfl rfl ?_
  obtain ⟨k1, H⟩ := H
  refine r_invV (y := m_X1_standing) dX0_standing_4 rfl (lw_V q2845 q1607 q1608 q107 q1609) py_X1_standing (Nat.le_of_ble_eq_true rfl) (args := [_]) rfl rfl (Nat.le_of_ble_eq_true rfl) k1 (by decide) rfl (C.monoE H (fun o h2 _ x4 K => cont_I K (fun v3 H => ?_) (fun r HX => HX)))
  refine r_i2l dX0_standing_7 ?_
  obtain ⟨k5, H⟩ := H
  obtain ⟨k6, H⟩ := H
  obtain ⟨k7, H⟩ := H
  replace H := H _ rfl
  refine r_last dX0_standing_8 k5 k6 k7 ?_
  refine r_goto (tgt := 15) dX0_standing_9 rfl ?_
  refine r_iconst dX0_standing_15 rfl ?_
  exact r_iret dX0_standing_16 rfl H
theorem c_X0_standing_0 {g : PG} {d : Nat} {l0 : Nat} {l1 : Int32} {l2 : Nat} {h : PH} {Q : Out → PH → Prop} (H : w_X0_standing_0 g d l0 l1 l2 h Q) : C g (d + 1) m_X0_standing [.ref l0, .int l1, .ref l2] h Q := C_of_R rfl rfl (Nat.le_of_ble_eq_true rfl) rfl (v_X0_standing_0 H)
abbrev w_X0_standingAgain_12 (g : PG) (d : Nat) (s0 : Nat) (h : PH) (Q : Out → PH → Prop) : Prop := Q (.inl (some (.int 1))) h
theorem v_X0_standingAgain_12 {g : PG} {d : Nat} {s0 : Nat} {h : PH} {Q : Out → PH → Prop} (H : w_X0_standingAgain_12 g d s0 h Q) : R g d m_X0_standingAgain 12 [.null, .null, .null, .null] [.ref s0] h Q := by
  refine r_astore_n dX0_standingAgain_12 rfl (Nat.le_of_ble_eq_true rfl) rfl (slS (slS (slS sl0))) ?_
  refine r_iconst dX0_standingAgain_13 rfl ?_
  exact r_iret dX0_standingAgain_14 rfl H
abbrev w_X0_standingAgain_0 (g : PG) (d : Nat) (l0 : Nat) (l1 : Int32) (l2 : Nat) (h : PH) (Q : Out → PH → Prop) : Prop := hkd h l0 = 1 ∧ C g d m_X1_standingAgain [.ref l0, .int l1] h (oI (fun v3 h2 => hkd h2 l2 / 100 = 4 ∧ hkd h2 l2 % 100 < 50 ∧ vp_in (0 : Int32) (hln h2 l2) ∧ ∀ h8, h8 = setL l2 (0 : Int32).toNatClampNeg v3.toInt64 h2 → Q (.inl (some (.int 0))) h8) (fun r hx => XR g d m_X0_standingAgain 4 [.ref l0, .int l1, .ref l2, .null] r hx Q))
theorem v_X0_standingAgain_0 {g : PG} {d : Nat} {l0 : Nat} {l1 : Int32} {l2 : Nat} {h : PH} {Q : Out → PH → Prop} (H : w_X0_standingAgain_0 g d l0 l1 l2 h Q) : R g d m_X0_standingAgain 0 [.ref l0, .int l1, .ref l2, .null] [] h Q := by
  refine r_aload_n dX0_standingAgain_0 rfl rfl ?_
  refine r_iconst dX0_standingAgain_1 rfl ?_
  refine r_aload_n dX0_standingAgain_2 rfl rfl ?_
  refine r_iload_n dX0_standingAgain_3 rfl rfl ?_
  obtain ⟨k1, H⟩ := H
  refine r_invV (y := m_X1_standingAgain) dX0_standingAgain_4 rfl (lw_V q2849 q2048 q2049 q107 q2050) py_X1_standingAgain (Nat.le_of_ble_eq_true rfl) (args := [_]) rfl rfl (Nat.le_of_ble_eq_true rfl) k1 (by decide) rfl (C.monoE H (fun o h2 _ x4 K => cont_I K (fun v3 H => ?_) (fun r HX => HX)))
  refine r_i2l dX0_standingAgain_7 ?_
  obtain ⟨k5, H⟩ := H
  obtain ⟨k6, H⟩ := H
  obtain ⟨k7, H⟩ := H
  replace H := H _ rfl
  refine r_last dX0_standingAgain_8 k5 k6 k7 ?_
  refine r_goto (tgt := 15) dX0_standingAgain_9 rfl ?_
  refine r_iconst dX0_standingAgain_15 rfl ?_
  exact r_iret dX0_standingAgain_16 rfl H
theorem c_X0_standingAgain_0 {g : PG} {d : Nat} {l0 : Nat} {l1 : Int32} {l2 : Nat} {h : PH} {Q : Out → PH → Prop} (H : w_X0_standingAgain_0 g d l0 l1 l2 h Q) : C g (d + 1) m_X0_standingAgain [.ref l0, .int l1, .ref l2] h Q := C_of_R rfl rfl (Nat.le_of_ble_eq_true rfl) rfl (v_X0_standingAgain_0 H)
abbrev w_X0_ranked_12 (g : PG) (d : Nat) (s0 : Nat) (h : PH) (Q : Out → PH → Prop) : Prop := Q (.inl (some (.int 1))) h
theorem v_X0_ranked_12 {g : PG} {d : Nat} {s0 : Nat} {h : PH} {Q : Out → PH → Prop} (H : w_X0_ranked_12 g d s0 h Q) : R g d m_X0_ranked 12 [.null, .null, .null, .null] [.ref s0] h Q := by
  refine r_astore_n dX0_ranked_12 rfl (Nat.le_of_ble_eq_true rfl) rfl (slS (slS (slS sl0))) ?_
  refine r_iconst dX0_ranked_13 rfl ?_
  exact r_iret dX0_ranked_14 rfl H
abbrev w_X0_ranked_0 (g : PG) (d : Nat) (l0 : Nat) (l1 : Int32) (l2 : Nat) (h : PH) (Q : Out → PH → Prop) : Prop := hkd h l0 = 1 ∧ C g d m_X1_ranked [.ref l0, .int l1] h (oI (fun v3 h2 => hkd h2 l2 / 100 = 4 ∧ hkd h2 l2 % 100 < 50 ∧ vp_in (0 : Int32) (hln h2 l2) ∧ ∀ h8, h8 = setL l2 (0 : Int32).toNatClampNeg v3.toInt64 h2 → Q (.inl (some (.int 0))) h8) (fun r hx => XR g d m_X0_ranked 4 [.ref l0, .int l1, .ref l2, .null] r hx Q))
theorem v_X0_ranked_0 {g : PG} {d : Nat} {l0 : Nat} {l1 : Int32} {l2 : Nat} {h : PH} {Q : Out → PH → Prop} (H : w_X0_ranked_0 g d l0 l1 l2 h Q) : R g d m_X0_ranked 0 [.ref l0, .int l1, .ref l2, .null] [] h Q := by
  refine r_aload_n dX0_ranked_0 rfl rfl ?_
  refine r_iconst dX0_ranked_1 rfl ?_
  refine r_aload_n dX0_ranked_2 rfl rfl ?_
  refine r_iload_n dX0_ranked_3 rfl rfl ?_
  obtain ⟨k1, H⟩ := H
  refine r_invV (y := m_X1_ranked) dX0_ranked_4 rfl (lw_V q2853 q2854 q2855 q107 q2856) py_X1_ranked (Nat.le_of_ble_eq_true rfl) (args := [_]) rfl rfl (Nat.le_of_ble_eq_true rfl) k1 (by decide) rfl (C.monoE H (fun o h2 _ x4 K => cont_I K (fun v3 H => ?_) (fun r HX => HX)))
  refine r_i2l dX0_ranked_7 ?_
  obtain ⟨k5, H⟩ := H
  obtain ⟨k6, H⟩ := H
  obtain ⟨k7, H⟩ := H
  replace H := H _ rfl
  refine r_last dX0_ranked_8 k5 k6 k7 ?_
  refine r_goto (tgt := 15) dX0_ranked_9 rfl ?_
  refine r_iconst dX0_ranked_15 rfl ?_
  exact r_iret dX0_ranked_16 rfl H
theorem c_X0_ranked_0 {g : PG} {d : Nat} {l0 : Nat} {l1 : Int32} {l2 : Nat} {h : PH} {Q : Out → PH → Prop} (H : w_X0_ranked_0 g d l0 l1 l2 h Q) : C g (d + 1) m_X0_ranked [.ref l0, .int l1, .ref l2] h Q := C_of_R rfl rfl (Nat.le_of_ble_eq_true rfl) rfl (v_X0_ranked_0 H)
abbrev w_X0_legOf_17 (g : PG) (d : Nat) (s0 : Nat) (h : PH) (Q : Out → PH → Prop) : Prop := Q (.inl (some (.int 2))) h
theorem v_X0_legOf_17 {g : PG} {d : Nat} {s0 : Nat} {h : PH} {Q : Out → PH → Prop} (H : w_X0_legOf_17 g d s0 h Q) : R g d m_X0_legOf 17 [.null, .null, .null, .null, .null] [.ref s0] h Q := by
  refine r_astore dX0_legOf_17 (Nat.le_of_ble_eq_true rfl) rfl (slS (slS (slS (slS sl0)))) ?_
  refine r_iconst dX0_legOf_19 rfl ?_
  exact r_iret dX0_legOf_20 rfl H
abbrev w_X0_legOf_13 (g : PG) (d : Nat) (s0 : Nat) (h : PH) (Q : Out → PH → Prop) : Prop := Q (.inl (some (.int 1))) h
theorem v_X0_legOf_13 {g : PG} {d : Nat} {s0 : Nat} {h : PH} {Q : Out → PH → Prop} (H : w_X0_legOf_13 g d s0 h Q) : R g d m_X0_legOf 13 [.null, .null, .null, .null, .null] [.ref s0] h Q := by
  refine r_astore dX0_legOf_13 (Nat.le_of_ble_eq_true rfl) rfl (slS (slS (slS (slS sl0)))) ?_
  refine r_iconst dX0_legOf_15 rfl ?_
  exact r_iret dX0_legOf_16 rfl H
abbrev w_X0_legOf_0 (g : PG) (d : Nat) (l0 : Nat) (l1 : Int32) (l2 : Int32) (l3 : Nat) (h : PH) (Q : Out → PH → Prop) : Prop := hkd h l0 = 1 ∧ C g d m_X1_legOf [.ref l0, .int l1, .int l2] h (oI (fun v3 h2 => hkd h2 l3 / 100 = 4 ∧ hkd h2 l3 % 100 < 50 ∧ vp_in (0 : Int32) (hln h2 l3) ∧ ∀ h8, h8 = setL l3 (0 : Int32).toNatClampNeg v3.toInt64 h2 → Q (.inl (some (.int 0))) h8) (fun r hx => XR g d m_X0_legOf 5 [.ref l0, .int l1, .int l2, .ref l3, .null] r hx Q))
theorem v_X0_legOf_0 {g : PG} {d : Nat} {l0 : Nat} {l1 : Int32} {l2 : Int32} {l3 : Nat} {h : PH} {Q : Out → PH → Prop} (H : w_X0_legOf_0 g d l0 l1 l2 l3 h Q) : R g d m_X0_legOf 0 [.ref l0, .int l1, .int l2, .ref l3, .null] [] h Q := by
  refine r_aload_n dX0_legOf_0 rfl rfl ?_
  refine r_iconst dX0_legOf_1 rfl ?_
  refine r_aload_n dX0_legOf_2 rfl rfl ?_
  refine r_iload_n dX0_legOf_3 rfl rfl ?_
  refine r_iload_n dX0_legOf_4 rfl rfl ?_
  obtain ⟨k1, H⟩ := H
  refine r_invV (y := m_X1_legOf) dX0_legOf_5 rfl (lw_V q2896 q2897 q2898 q107 q2899) py_X1_legOf (Nat.le_of_ble_eq_true rfl) (args := [_, _]) rfl rfl (Nat.le_of_ble_eq_true rfl) k1 (by decide) rfl (C.monoE H (fun o h2 _ x4 K => cont_I K (fun v3 H => ?_) (fun r HX => HX)))
  refine r_i2l dX0_legOf_8 ?_
  obtain ⟨k5, H⟩ := H
  obtain ⟨k6, H⟩ := H
  obtain ⟨k7, H⟩ := H
  replace H := H _ rfl
  refine r_last dX0_legOf_9 k5 k6 k7 ?_
  refine r_goto (tgt := 21) dX0_legOf_10 rfl ?_
  refine r_iconst dX0_legOf_21 rfl ?_
  exact r_iret dX0_legOf_22 rfl H
theorem c_X0_legOf_0 {g : PG} {d : Nat} {l0 : Nat} {l1 : Int32} {l2 : Int32} {l3 : Nat} {h : PH} {Q : Out → PH → Prop} (H : w_X0_legOf_0 g d l0 l1 l2 l3 h Q) : C g (d + 1) m_X0_legOf [.ref l0, .int l1, .int l2, .ref l3] h Q := C_of_R rfl rfl (Nat.le_of_ble_eq_true rfl) rfl (v_X0_legOf_0 H)
abbrev w_X0_tell_12 (g : PG) (d : Nat) (s0 : Nat) (h : PH) (Q : Out → PH → Prop) : Prop := Q (.inl (some (.int 1))) h
theorem v_X0_tell_12 {g : PG} {d : Nat} {s0 : Nat} {h : PH} {Q : Out → PH → Prop} (H : w_X0_tell_12 g d s0 h Q) : R g d m_X0_tell 12 [.null, .null, .null, .null] [.ref s0] h Q := by
  refine r_astore_n dX0_tell_12 rfl (Nat.le_of_ble_eq_true rfl) rfl (slS (slS (slS sl0))) ?_
  refine r_iconst dX0_tell_13 rfl ?_
  exact r_iret dX0_tell_14 rfl H
abbrev w_X0_tell_0 (g : PG) (d : Nat) (l0 : Nat) (l1 : Int32) (l2 : Nat) (h : PH) (Q : Out → PH → Prop) : Prop := hkd h l0 = 1 ∧ C g d m_X1_tell [.ref l0, .int l1] h (oI (fun v3 h2 => hkd h2 l2 / 100 = 4 ∧ hkd h2 l2 % 100 < 50 ∧ vp_in (0 : Int32) (hln h2 l2) ∧ ∀ h8, h8 = setL l2 (0 : Int32).toNatClampNeg v3.toInt64 h2 → Q (.inl (some (.int 0))) h8) (fun r hx => XR g d m_X0_tell 4 [.ref l0, .int l1, .ref l2, .null] r hx Q))
theorem v_X0_tell_0 {g : PG} {d : Nat} {l0 : Nat} {l1 : Int32} {l2 : Nat} {h : PH} {Q : Out → PH → Prop} (H : w_X0_tell_0 g d l0 l1 l2 h Q) : R g d m_X0_tell 0 [.ref l0, .int l1, .ref l2, .null] [] h Q := by
  refine r_aload_n dX0_tell_0 rfl rfl ?_
  refine r_iconst dX0_tell_1 rfl ?_
  refine r_aload_n dX0_tell_2 rfl rfl ?_
  refine r_iload_n dX0_tell_3 rfl rfl ?_
  obtain ⟨k1, H⟩ := H
  refine r_invV (y := m_X1_tell) dX0_tell_4 rfl (lw_V q2925 q2926 q2927 q107 q2928) py_X1_tell (Nat.le_of_ble_eq_true rfl) (args := [_]) rfl rfl (Nat.le_of_ble_eq_true rfl) k1 (by decide) rfl (C.monoE H (fun o h2 _ x4 K => cont_I K (fun v3 H => ?_) (fun r HX => HX)))
  refine r_i2l dX0_tell_7 ?_
  obtain ⟨k5, H⟩ := H
  obtain ⟨k6, H⟩ := H
  obtain ⟨k7, H⟩ := H
  replace H := H _ rfl
  refine r_last dX0_tell_8 k5 k6 k7 ?_
  refine r_goto (tgt := 15) dX0_tell_9 rfl ?_
  refine r_iconst dX0_tell_15 rfl ?_
  exact r_iret dX0_tell_16 rfl H
theorem c_X0_tell_0 {g : PG} {d : Nat} {l0 : Nat} {l1 : Int32} {l2 : Nat} {h : PH} {Q : Out → PH → Prop} (H : w_X0_tell_0 g d l0 l1 l2 h Q) : C g (d + 1) m_X0_tell [.ref l0, .int l1, .ref l2] h Q := C_of_R rfl rfl (Nat.le_of_ble_eq_true rfl) rfl (v_X0_tell_0 H)
abbrev w_X0_character_12 (g : PG) (d : Nat) (s0 : Nat) (h : PH) (Q : Out → PH → Prop) : Prop := Q (.inl (some (.int 1))) h
theorem v_X0_character_12 {g : PG} {d : Nat} {s0 : Nat} {h : PH} {Q : Out → PH → Prop} (H : w_X0_character_12 g d s0 h Q) : R g d m_X0_character 12 [.null, .null, .null, .null] [.ref s0] h Q := by
  refine r_astore_n dX0_character_12 rfl (Nat.le_of_ble_eq_true rfl) rfl (slS (slS (slS sl0))) ?_
  refine r_iconst dX0_character_13 rfl ?_
  exact r_iret dX0_character_14 rfl H
abbrev w_X0_character_0 (g : PG) (d : Nat) (l0 : Nat) (l1 : Int32) (l2 : Nat) (h : PH) (Q : Out → PH → Prop) : Prop := hkd h l0 = 1 ∧ C g d m_X1_character [.ref l0, .int l1] h (oI (fun v3 h2 => hkd h2 l2 / 100 = 4 ∧ hkd h2 l2 % 100 < 50 ∧ vp_in (0 : Int32) (hln h2 l2) ∧ ∀ h8, h8 = setL l2 (0 : Int32).toNatClampNeg v3.toInt64 h2 → Q (.inl (some (.int 0))) h8) (fun r hx => XR g d m_X0_character 4 [.ref l0, .int l1, .ref l2, .null] r hx Q))
theorem v_X0_character_0 {g : PG} {d : Nat} {l0 : Nat} {l1 : Int32} {l2 : Nat} {h : PH} {Q : Out → PH → Prop} (H : w_X0_character_0 g d l0 l1 l2 h Q) : R g d m_X0_character 0 [.ref l0, .int l1, .ref l2, .null] [] h Q := by
  refine r_aload_n dX0_character_0 rfl rfl ?_
  refine r_iconst dX0_character_1 rfl ?_
  refine r_aload_n dX0_character_2 rfl rfl ?_
  refine r_iload_n dX0_character_3 rfl rfl ?_
  obtain ⟨k1, H⟩ := H
  refine r_invV (y := m_X1_character) dX0_character_4 rfl (lw_V q2946 q2947 q2948 q107 q2949) py_X1_character (Nat.le_of_ble_eq_true rfl) (args := [_]) rfl rfl (Nat.le_of_ble_eq_true rfl) k1 (by decide) rfl (C.monoE H (fun o h2 _ x4 K => cont_I K (fun v3 H => ?_) (fun r HX => HX)))
  refine r_i2l dX0_character_7 ?_
  obtain ⟨k5, H⟩ := H
  obtain ⟨k6, H⟩ := H
  obtain ⟨k7, H⟩ := H
  replace H := H _ rfl
  refine r_last dX0_character_8 k5 k6 k7 ?_
  refine r_goto (tgt := 15) dX0_character_9 rfl ?_
  refine r_iconst dX0_character_15 rfl ?_
  exact r_iret dX0_character_16 rfl H
theorem c_X0_character_0 {g : PG} {d : Nat} {l0 : Nat} {l1 : Int32} {l2 : Nat} {h : PH} {Q : Out → PH → Prop} (H : w_X0_character_0 g d l0 l1 l2 h Q) : C g (d + 1) m_X0_character [.ref l0, .int l1, .ref l2] h Q := C_of_R rfl rfl (Nat.le_of_ble_eq_true rfl) rfl (v_X0_character_0 H)
abbrev w_X0_noseShare_11 (g : PG) (d : Nat) (s0 : Nat) (h : PH) (Q : Out → PH → Prop) : Prop := Q (.inl (some (.int 1))) h
theorem v_X0_noseShare_11 {g : PG} {d : Nat} {s0 : Nat} {h : PH} {Q : Out → PH → Prop} (H : w_X0_noseShare_11 g d s0 h Q) : R g d m_X0_noseShare 11 [.null, .null, .null] [.ref s0] h Q := by
  refine r_astore_n dX0_noseShare_11 rfl (Nat.le_of_ble_eq_true rfl) rfl (slS (slS sl0)) ?_
  refine r_iconst dX0_noseShare_12 rfl ?_
  exact r_iret dX0_noseShare_13 rfl H
abbrev w_X0_noseShare_0 (g : PG) (d : Nat) (l0 : Nat) (l1 : Nat) (h : PH) (Q : Out → PH → Prop) : Prop := hkd h l0 = 1 ∧ C g d m_X1_noseShare [.ref l0] h (oF (fun v3 h2 => vf_n64 (FP.f2d v3) ∧ hkd h2 l1 / 100 = 5 ∧ hkd h2 l1 % 100 < 50 ∧ vp_in (0 : Int32) (hln h2 l1) ∧ ∀ h9, h9 = setD l1 (0 : Int32).toNatClampNeg (FP.f2d v3) h2 → Q (.inl (some (.int 0))) h9) (fun r hx => XR g d m_X0_noseShare 3 [.ref l0, .ref l1, .null] r hx Q))
theorem v_X0_noseShare_0 {g : PG} {d : Nat} {l0 : Nat} {l1 : Nat} {h : PH} {Q : Out → PH → Prop} (H : w_X0_noseShare_0 g d l0 l1 h Q) : R g d m_X0_noseShare 0 [.ref l0, .ref l1, .null] [] h Q := by
  refine r_aload_n dX0_noseShare_0 rfl rfl ?_
  refine r_iconst dX0_noseShare_1 rfl ?_
  refine r_aload_n dX0_noseShare_2 rfl rfl ?_
  obtain ⟨k1, H⟩ := H
  refine r_invV (y := m_X1_noseShare) dX0_noseShare_3 rfl (lw_V q2977 q2978 q2979 q107 q2980) py_X1_noseShare (Nat.le_of_ble_eq_true rfl) (args := []) rfl rfl (Nat.le_of_ble_eq_true rfl) k1 (by decide) rfl (C.monoE H (fun o h2 _ x4 K => cont_F K (fun v3 H => ?_) (fun r HX => HX)))
  obtain ⟨k5, H⟩ := H
  refine r_f2d dX0_noseShare_6 k5 ?_
  obtain ⟨k6, H⟩ := H
  obtain ⟨k7, H⟩ := H
  obtain ⟨k8, H⟩ := H
  replace H := H _ rfl
  refine r_dast dX0_noseShare_7 k6 k7 k8 ?_
  refine r_goto (tgt := 14) dX0_noseShare_8 rfl ?_
  refine r_iconst dX0_noseShare_14 rfl ?_
  exact r_iret dX0_noseShare_15 rfl H
theorem c_X0_noseShare_0 {g : PG} {d : Nat} {l0 : Nat} {l1 : Nat} {h : PH} {Q : Out → PH → Prop} (H : w_X0_noseShare_0 g d l0 l1 h Q) : C g (d + 1) m_X0_noseShare [.ref l0, .ref l1] h Q := C_of_R rfl rfl (Nat.le_of_ble_eq_true rfl) rfl (v_X0_noseShare_0 H)
abbrev w_X0_reason_17 (g : PG) (d : Nat) (s0 : Nat) (h : PH) (Q : Out → PH → Prop) : Prop := Q (.inl (some (.int 2))) h
theorem v_X0_reason_17 {g : PG} {d : Nat} {s0 : Nat} {h : PH} {Q : Out → PH → Prop} (H : w_X0_reason_17 g d s0 h Q) : R g d m_X0_reason 17 [.null, .null, .null, .null, .null] [.ref s0] h Q := by
  refine r_astore dX0_reason_17 (Nat.le_of_ble_eq_true rfl) rfl (slS (slS (slS (slS sl0)))) ?_
  refine r_iconst dX0_reason_19 rfl ?_
  exact r_iret dX0_reason_20 rfl H
abbrev w_X0_reason_13 (g : PG) (d : Nat) (s0 : Nat) (h : PH) (Q : Out → PH → Prop) : Prop := Q (.inl (some (.int 1))) h
theorem v_X0_reason_13 {g : PG} {d : Nat} {s0 : Nat} {h : PH} {Q : Out → PH → Prop} (H : w_X0_reason_13 g d s0 h Q) : R g d m_X0_reason 13 [.null, .null, .null, .null, .null] [.ref s0] h Q := by
  refine r_astore dX0_reason_13 (Nat.le_of_ble_eq_true rfl) rfl (slS (slS (slS (slS sl0)))) ?_
  refine r_iconst dX0_reason_15 rfl ?_
  exact r_iret dX0_reason_16 rfl H
abbrev w_X0_reason_0 (g : PG) (d : Nat) (l0 : Nat) (l1 : Int32) (l2 : Int32) (l3 : Nat) (h : PH) (Q : Out → PH → Prop) : Prop := hkd h l0 = 1 ∧ C g d m_X1_reason [.ref l0, .int l1, .int l2] h (oI (fun v3 h2 => hkd h2 l3 / 100 = 4 ∧ hkd h2 l3 % 100 < 50 ∧ vp_in (0 : Int32) (hln h2 l3) ∧ ∀ h8, h8 = setL l3 (0 : Int32).toNatClampNeg v3.toInt64 h2 → Q (.inl (some (.int 0))) h8) (fun r hx => XR g d m_X0_reason 5 [.ref l0, .int l1, .int l2, .ref l3, .null] r hx Q))
theorem v_X0_reason_0 {g : PG} {d : Nat} {l0 : Nat} {l1 : Int32} {l2 : Int32} {l3 : Nat} {h : PH} {Q : Out → PH → Prop} (H : w_X0_reason_0 g d l0 l1 l2 l3 h Q) : R g d m_X0_reason 0 [.ref l0, .int l1, .int l2, .ref l3, .null] [] h Q := by
  refine r_aload_n dX0_reason_0 rfl rfl ?_
  refine r_iconst dX0_reason_1 rfl ?_
  refine r_aload_n dX0_reason_2 rfl rfl ?_
  refine r_iload_n dX0_reason_3 rfl rfl ?_
  refine r_iload_n dX0_reason_4 rfl rfl ?_
  obtain ⟨k1, H⟩ := H
  refine r_invV (y := m_X1_reason) dX0_reason_5 rfl (lw_V q2993 q2994 q2995 q107 q2996) py_X1_reason (Nat.le_of_ble_eq_true rfl) (args := [_, _]) rfl rfl (Nat.le_of_ble_eq_true rfl) k1 (by decide) rfl (C.monoE H (fun o h2 _ x4 K => cont_I K (fun v3 H => ?_) (fun r HX => HX)))
  refine r_i2l dX0_reason_8 ?_
  obtain ⟨k5, H⟩ := H
  obtain ⟨k6, H⟩ := H
  obtain ⟨k7, H⟩ := H
  replace H := H _ rfl
  refine r_last dX0_reason_9 k5 k6 k7 ?_
  refine r_goto (tgt := 21) dX0_reason_10 rfl ?_
  refine r_iconst dX0_reason_21 rfl ?_
  exact r_iret dX0_reason_22 rfl H
theorem c_X0_reason_0 {g : PG} {d : Nat} {l0 : Nat} {l1 : Int32} {l2 : Int32} {l3 : Nat} {h : PH} {Q : Out → PH → Prop} (H : w_X0_reason_0 g d l0 l1 l2 l3 h Q) : C g (d + 1) m_X0_reason [.ref l0, .int l1, .int l2, .ref l3] h Q := C_of_R rfl rfl (Nat.le_of_ble_eq_true rfl) rfl (v_X0_reason_0 H)
abbrev w_X0_account_12 (g : PG) (d : Nat) (s0 : Nat) (h : PH) (Q : Out → PH → Prop) : Prop := Q (.inl (some (.int 1))) h
theorem v_X0_account_12 {g : PG} {d : Nat} {s0 : Nat} {h : PH} {Q : Out → PH → Prop} (H : w_X0_account_12 g d s0 h Q) : R g d m_X0_account 12 [.null, .null, .null, .null] [.ref s0] h Q := by
  refine r_astore_n dX0_account_12 rfl (Nat.le_of_ble_eq_true rfl) rfl (slS (slS (slS sl0))) ?_
  refine r_iconst dX0_account_13 rfl ?_
  exact r_iret dX0_account_14 rfl H
abbrev w_X0_account_0 (g : PG) (d : Nat) (l0 : Nat) (l1 : Int32) (l2 : Nat) (h : PH) (Q : Out → PH → Prop) : Prop := hkd h l0 = 1 ∧ C g d m_X1_account [.ref l0, .int l1] h (oI (fun v3 h2 => hkd h2 l2 / 100 = 4 ∧ hkd h2 l2 % 100 < 50 ∧ vp_in (0 : Int32) (hln h2 l2) ∧ ∀ h8, h8 = setL l2 (0 : Int32).toNatClampNeg v3.toInt64 h2 → Q (.inl (some (.int 0))) h8) (fun r hx => XR g d m_X0_account 4 [.ref l0, .int l1, .ref l2, .null] r hx Q))
theorem v_X0_account_0 {g : PG} {d : Nat} {l0 : Nat} {l1 : Int32} {l2 : Nat} {h : PH} {Q : Out → PH → Prop} (H : w_X0_account_0 g d l0 l1 l2 h Q) : R g d m_X0_account 0 [.ref l0, .int l1, .ref l2, .null] [] h Q := by
  refine r_aload_n dX0_account_0 rfl rfl ?_
  refine r_iconst dX0_account_1 rfl ?_
  refine r_aload_n dX0_account_2 rfl rfl ?_
  refine r_iload_n dX0_account_3 rfl rfl ?_
  obtain ⟨k1, H⟩ := H
  refine r_invV (y := m_X1_account) dX0_account_4 rfl (lw_V q3014 q3015 q3016 q107 q3017) py_X1_account (Nat.le_of_ble_eq_true rfl) (args := [_]) rfl rfl (Nat.le_of_ble_eq_true rfl) k1 (by decide) rfl (C.monoE H (fun o h2 _ x4 K => cont_I K (fun v3 H => ?_) (fun r HX => HX)))
  refine r_i2l dX0_account_7 ?_
  obtain ⟨k5, H⟩ := H
  obtain ⟨k6, H⟩ := H
  obtain ⟨k7, H⟩ := H
  replace H := H _ rfl
  refine r_last dX0_account_8 k5 k6 k7 ?_
  refine r_goto (tgt := 15) dX0_account_9 rfl ?_
  refine r_iconst dX0_account_15 rfl ?_
  exact r_iret dX0_account_16 rfl H
theorem c_X0_account_0 {g : PG} {d : Nat} {l0 : Nat} {l1 : Int32} {l2 : Nat} {h : PH} {Q : Out → PH → Prop} (H : w_X0_account_0 g d l0 l1 l2 h Q) : C g (d + 1) m_X0_account [.ref l0, .int l1, .ref l2] h Q := C_of_R rfl rfl (Nat.le_of_ble_eq_true rfl) rfl (v_X0_account_0 H)
abbrev w_X0_feed_12 (g : PG) (d : Nat) (s0 : Nat) (h : PH) (Q : Out → PH → Prop) : Prop := Q (.inl (some (.int 1))) h
theorem v_X0_feed_12 {g : PG} {d : Nat} {s0 : Nat} {h : PH} {Q : Out → PH → Prop} (H : w_X0_feed_12 g d s0 h Q) : R g d m_X0_feed 12 [.null, .null, .null, .null] [.ref s0] h Q := by
  refine r_astore_n dX0_feed_12 rfl (Nat.le_of_ble_eq_true rfl) rfl (slS (slS (slS sl0))) ?_
  refine r_iconst dX0_feed_13 rfl ?_
  exact r_iret dX0_feed_14 rfl H
abbrev w_X0_feed_0 (g : PG) (d : Nat) (l0 : Nat) (l1 : Int32) (l2 : Nat) (h : PH) (Q : Out → PH → Prop) : Prop := hkd h l0 = 1 ∧ C g d m_X1_feed [.ref l0, .int l1] h (oI (fun v3 h2 => hkd h2 l2 / 100 = 4 ∧ hkd h2 l2 % 100 < 50 ∧ vp_in (0 : Int32) (hln h2 l2) ∧ ∀ h8, h8 = setL l2 (0 : Int32).toNatClampNeg v3.toInt64 h2 → Q (.inl (some (.int 0))) h8) (fun r hx => XR g d m_X0_feed 4 [.ref l0, .int l1, .ref l2, .null] r hx Q))
theorem v_X0_feed_0 {g : PG} {d : Nat} {l0 : Nat} {l1 : Int32} {l2 : Nat} {h : PH} {Q : Out → PH → Prop} (H : w_X0_feed_0 g d l0 l1 l2 h Q) : R g d m_X0_feed 0 [.ref l0, .int l1, .ref l2, .null] [] h Q := by
  refine r_aload_n dX0_feed_0 rfl rfl ?_
  refine r_iconst dX0_feed_1 rfl ?_
  refine r_aload_n dX0_feed_2 rfl rfl ?_
  refine r_iload_n dX0_feed_3 rfl rfl ?_
  obtain ⟨k1, H⟩ := H
  refine r_invV (y := m_X1_feed) dX0_feed_4 rfl (lw_V q3031 q3032 q3033 q107 q3034) py_X1_feed (Nat.le_of_ble_eq_true rfl) (args := [_]) rfl rfl (Nat.le_of_ble_eq_true rfl) k1 (by decide) rfl (C.monoE H (fun o h2 _ x4 K => cont_I K (fun v3 H => ?_) (fun r HX => HX)))
  refine r_i2l dX0_feed_7 ?_
  obtain ⟨k5, H⟩ := H
  obtain ⟨k6, H⟩ := H
  obtain ⟨k7, H⟩ := H
  replace H := H _ rfl
  refine r_last dX0_feed_8 k5 k6 k7 ?_
  refine r_goto (tgt := 15) dX0_feed_9 rfl ?_
  refine r_iconst dX0_feed_15 rfl ?_
  exact r_iret dX0_feed_16 rfl H
theorem c_X0_feed_0 {g : PG} {d : Nat} {l0 : Nat} {l1 : Int32} {l2 : Nat} {h : PH} {Q : Out → PH → Prop} (H : w_X0_feed_0 g d l0 l1 l2 h Q) : C g (d + 1) m_X0_feed [.ref l0, .int l1, .ref l2] h Q := C_of_R rfl rfl (Nat.le_of_ble_eq_true rfl) rfl (v_X0_feed_0 H)
abbrev w_X0_perform_11 (g : PG) (d : Nat) (s0 : Nat) (h : PH) (Q : Out → PH → Prop) : Prop := Q (.inl (some (.int 1))) h
theorem v_X0_perform_11 {g : PG} {d : Nat} {s0 : Nat} {h : PH} {Q : Out → PH → Prop} (H : w_X0_perform_11 g d s0 h Q) : R g d m_X0_perform 11 [.null, .null, .null] [.ref s0] h Q := by
  refine r_astore_n dX0_perform_11 rfl (Nat.le_of_ble_eq_true rfl) rfl (slS (slS sl0)) ?_
  refine r_iconst dX0_perform_12 rfl ?_
  exact r_iret dX0_perform_13 rfl H
abbrev w_X0_perform_0 (g : PG) (d : Nat) (l0 : Nat) (l1 : Nat) (h : PH) (Q : Out → PH → Prop) : Prop := hkd h l0 = 1 ∧ C g d m_X1_perform [.ref l0] h (oI (fun v3 h2 => hkd h2 l1 / 100 = 4 ∧ hkd h2 l1 % 100 < 50 ∧ vp_in (0 : Int32) (hln h2 l1) ∧ ∀ h8, h8 = setL l1 (0 : Int32).toNatClampNeg v3.toInt64 h2 → Q (.inl (some (.int 0))) h8) (fun r hx => XR g d m_X0_perform 3 [.ref l0, .ref l1, .null] r hx Q))
theorem v_X0_perform_0 {g : PG} {d : Nat} {l0 : Nat} {l1 : Nat} {h : PH} {Q : Out → PH → Prop} (H : w_X0_perform_0 g d l0 l1 h Q) : R g d m_X0_perform 0 [.ref l0, .ref l1, .null] [] h Q := by
  refine r_aload_n dX0_perform_0 rfl rfl ?_
  refine r_iconst dX0_perform_1 rfl ?_
  refine r_aload_n dX0_perform_2 rfl rfl ?_
  obtain ⟨k1, H⟩ := H
  refine r_invVW (y := m_X1_perform) dX0_perform_3 (fun h => by cases h) (lw_VW q3046 q3047 q3048 q107 q3049) py_X1_perform (Nat.le_of_ble_eq_true rfl) (args := []) rfl rfl (Nat.le_of_ble_eq_true rfl) k1 (by decide) rfl (C.monoE H (fun o h2 _ x4 K => cont_I K (fun v3 H => ?_) (fun r HX => HX)))
  refine r_i2l dX0_perform_6 ?_
  obtain ⟨k5, H⟩ := H
  obtain ⟨k6, H⟩ := H
  obtain ⟨k7, H⟩ := H
  replace H := H _ rfl
  refine r_last dX0_perform_7 k5 k6 k7 ?_
  refine r_goto (tgt := 14) dX0_perform_8 rfl ?_
  refine r_iconst dX0_perform_14 rfl ?_
  exact r_iret dX0_perform_15 rfl H
theorem c_X0_perform_0 {g : PG} {d : Nat} {l0 : Nat} {l1 : Nat} {h : PH} {Q : Out → PH → Prop} (H : w_X0_perform_0 g d l0 l1 h Q) : C g (d + 1) m_X0_perform [.ref l0, .ref l1] h Q := C_of_R rfl rfl (Nat.le_of_ble_eq_true rfl) rfl (v_X0_perform_0 H)
abbrev w_X0_undo_11 (g : PG) (d : Nat) (s0 : Nat) (h : PH) (Q : Out → PH → Prop) : Prop := Q (.inl (some (.int 1))) h
theorem v_X0_undo_11 {g : PG} {d : Nat} {s0 : Nat} {h : PH} {Q : Out → PH → Prop} (H : w_X0_undo_11 g d s0 h Q) : R g d m_X0_undo 11 [.null, .null, .null] [.ref s0] h Q := by
  refine r_astore_n dX0_undo_11 rfl (Nat.le_of_ble_eq_true rfl) rfl (slS (slS sl0)) ?_
  refine r_iconst dX0_undo_12 rfl ?_
  exact r_iret dX0_undo_13 rfl H
abbrev w_X0_undo_0 (g : PG) (d : Nat) (l0 : Nat) (l1 : Nat) (h : PH) (Q : Out → PH → Prop) : Prop := hkd h l0 = 1 ∧ C g d m_X1_undo [.ref l0] h (oI (fun v3 h2 => hkd h2 l1 / 100 = 4 ∧ hkd h2 l1 % 100 < 50 ∧ vp_in (0 : Int32) (hln h2 l1) ∧ ∀ h8, h8 = setL l1 (0 : Int32).toNatClampNeg v3.toInt64 h2 → Q (.inl (some (.int 0))) h8) (fun r hx => XR g d m_X0_undo 3 [.ref l0, .ref l1, .null] r hx Q))
theorem v_X0_undo_0 {g : PG} {d : Nat} {l0 : Nat} {l1 : Nat} {h : PH} {Q : Out → PH → Prop} (H : w_X0_undo_0 g d l0 l1 h Q) : R g d m_X0_undo 0 [.ref l0, .ref l1, .null] [] h Q := by
  refine r_aload_n dX0_undo_0 rfl rfl ?_
  refine r_iconst dX0_undo_1 rfl ?_
  refine r_aload_n dX0_undo_2 rfl rfl ?_
  obtain ⟨k1, H⟩ := H
  refine r_invV (y := m_X1_undo) dX0_undo_3 rfl (lw_V q3210 q3211 q3212 q107 q3213) py_X1_undo (Nat.le_of_ble_eq_true rfl) (args := []) rfl rfl (Nat.le_of_ble_eq_true rfl) k1 (by decide) rfl (C.monoE H (fun o h2 _ x4 K => cont_I K (fun v3 H => ?_) (fun r HX => HX)))
  refine r_i2l dX0_undo_6 ?_
  obtain ⟨k5, H⟩ := H
  obtain ⟨k6, H⟩ := H
  obtain ⟨k7, H⟩ := H
  replace H := H _ rfl
  refine r_last dX0_undo_7 k5 k6 k7 ?_
  refine r_goto (tgt := 14) dX0_undo_8 rfl ?_
  refine r_iconst dX0_undo_14 rfl ?_
  exact r_iret dX0_undo_15 rfl H
theorem c_X0_undo_0 {g : PG} {d : Nat} {l0 : Nat} {l1 : Nat} {h : PH} {Q : Out → PH → Prop} (H : w_X0_undo_0 g d l0 l1 h Q) : C g (d + 1) m_X0_undo [.ref l0, .ref l1] h Q := C_of_R rfl rfl (Nat.le_of_ble_eq_true rfl) rfl (v_X0_undo_0 H)
abbrev w_X0_restore_11 (g : PG) (d : Nat) (s0 : Nat) (h : PH) (Q : Out → PH → Prop) : Prop := Q (.inl (some (.int 1))) h
theorem v_X0_restore_11 {g : PG} {d : Nat} {s0 : Nat} {h : PH} {Q : Out → PH → Prop} (H : w_X0_restore_11 g d s0 h Q) : R g d m_X0_restore 11 [.null, .null, .null] [.ref s0] h Q := by
  refine r_astore_n dX0_restore_11 rfl (Nat.le_of_ble_eq_true rfl) rfl (slS (slS sl0)) ?_
  refine r_iconst dX0_restore_12 rfl ?_
  exact r_iret dX0_restore_13 rfl H
abbrev w_X0_restore_0 (g : PG) (d : Nat) (l0 : Nat) (l1 : Nat) (h : PH) (Q : Out → PH → Prop) : Prop := hkd h l0 = 1 ∧ C g d m_X1_restore [.ref l0] h (oI (fun v3 h2 => hkd h2 l1 / 100 = 4 ∧ hkd h2 l1 % 100 < 50 ∧ vp_in (0 : Int32) (hln h2 l1) ∧ ∀ h8, h8 = setL l1 (0 : Int32).toNatClampNeg v3.toInt64 h2 → Q (.inl (some (.int 0))) h8) (fun r hx => XR g d m_X0_restore 3 [.ref l0, .ref l1, .null] r hx Q))
theorem v_X0_restore_0 {g : PG} {d : Nat} {l0 : Nat} {l1 : Nat} {h : PH} {Q : Out → PH → Prop} (H : w_X0_restore_0 g d l0 l1 h Q) : R g d m_X0_restore 0 [.ref l0, .ref l1, .null] [] h Q := by
  refine r_aload_n dX0_restore_0 rfl rfl ?_
  refine r_iconst dX0_restore_1 rfl ?_
  refine r_aload_n dX0_restore_2 rfl rfl ?_
  obtain ⟨k1, H⟩ := H
  refine r_invV (y := m_X1_restore) dX0_restore_3 rfl (lw_V q3229 q3230 q3231 q107 q3232) py_X1_restore (Nat.le_of_ble_eq_true rfl) (args := []) rfl rfl (Nat.le_of_ble_eq_true rfl) k1 (by decide) rfl (C.monoE H (fun o h2 _ x4 K => cont_I K (fun v3 H => ?_) (fun r HX => HX)))
  refine r_i2l dX0_restore_6 ?_
  obtain ⟨k5, H⟩ := H
  obtain ⟨k6, H⟩ := H
  obtain ⟨k7, H⟩ := H
  replace H := H _ rfl
  refine r_last dX0_restore_7 k5 k6 k7 ?_
  refine r_goto (tgt := 14) dX0_restore_8 rfl ?_
  refine r_iconst dX0_restore_14 rfl ?_
  exact r_iret dX0_restore_15 rfl H
theorem c_X0_restore_0 {g : PG} {d : Nat} {l0 : Nat} {l1 : Nat} {h : PH} {Q : Out → PH → Prop} (H : w_X0_restore_0 g d l0 l1 h Q) : C g (d + 1) m_X0_restore [.ref l0, .ref l1] h Q := C_of_R rfl rfl (Nat.le_of_ble_eq_true rfl) rfl (v_X0_restore_0 H)
