/-! ===== VC lemmas (printed by gen/mk_vc.py) ===== -/
set_option maxRecDepth 100000
abbrev w_J0_init_0 (g : PG) (d : Nat) (l0 : Nat) (h : PH) (Q : Out → PH → Prop) : Prop := 0 < l0 ∧ Q (.inl none) h
theorem v_J0_init_0 {g : PG} {d : Nat} {l0 : Nat} {h : PH} {Q : Out → PH → Prop} (H : w_J0_init_0 g d l0 h Q) : R g d m_J0_init 0 [.ref l0] [] h Q := by
  refine r_aload_n dJ0_init_0 rfl rfl ?_
  obtain ⟨k1, H⟩ := H
  refine r_oinit dJ0_init_1 q203 q182 q183 k1 (Nat.le_of_ble_eq_true rfl) ?_
  exact r_vret dJ0_init_4 rfl H
theorem c_J0_init_0 {g : PG} {d : Nat} {l0 : Nat} {h : PH} {Q : Out → PH → Prop} (H : w_J0_init_0 g d l0 h Q) : C g (d + 1) m_J0_init [.ref l0] h Q := C_of_R rfl rfl (Nat.le_of_ble_eq_true rfl) rfl (v_J0_init_0 H)
abbrev w_J0_isEmpty_k27_0 (g : PG) (d : Nat) (l0 : Nat) (h : PH) (Q : Out → PH → Prop) : Prop := hkd h l0 = 27 ∧ C g d m_J48_size [.ref l0] h (oI (fun v3 h2 => ((¬ v3 = 0) → Q (.inl (some (.int 0))) h2) ∧ ((v3 = 0) → Q (.inl (some (.int 1))) h2)) (fun r hx => Q (.inr r) hx))
theorem v_J0_isEmpty_k27_0 {g : PG} {d : Nat} {l0 : Nat} {h : PH} {Q : Out → PH → Prop} (H : w_J0_isEmpty_k27_0 g d l0 h Q) : R g d m_J0_isEmpty 0 [.ref l0] [] h Q := by
  refine r_aload_n dJ0_isEmpty_0 rfl rfl ?_
  obtain ⟨k1, H⟩ := H
  refine r_invU (y := m_J48_size) (owner := "java/util/AbstractCollection") (Cn := "java/util/PriorityQueue") (x := ⟨"java/util/AbstractCollection", "size", "()I"⟩) dJ0_isEmpty_1 (n := 0) ⟨rfl, by decide +kernel, by decide, by decide, Or.inl ⟨lw_U q1999 q3683 q3687 q2000 q167 q2001, Or.inr q911⟩⟩ (Nat.le_of_ble_eq_true rfl) (args := []) rfl rfl (Nat.le_of_ble_eq_true rfl) k1 (by decide) rfl (C.monoE H (fun o h2 _ x4 K => cont_I K (fun v3 H => ?_) (fun r HX => XR_nc rfl HX)))
  refine r_if_ne (tgt := 11) dJ0_isEmpty_4 rfl (fun b5 => ?_) (fun b5 => ?_)
  · replace H := H.1 b5
    refine r_iconst dJ0_isEmpty_11 rfl ?_
    exact r_zret dJ0_isEmpty_12 rfl rfl H
  · replace H := H.2 b5
    refine r_iconst dJ0_isEmpty_7 rfl ?_
    refine r_goto (tgt := 12) dJ0_isEmpty_8 rfl ?_
    exact r_zret dJ0_isEmpty_12 rfl rfl H
theorem c_J0_isEmpty_k27_0 {g : PG} {d : Nat} {l0 : Nat} {h : PH} {Q : Out → PH → Prop} (H : w_J0_isEmpty_k27_0 g d l0 h Q) : C g (d + 1) m_J0_isEmpty [.ref l0] h Q := C_of_R rfl rfl (Nat.le_of_ble_eq_true rfl) rfl (v_J0_isEmpty_k27_0 H)
abbrev w_J1_init_k13_0 (g : PG) (d : Nat) (l0 : Nat) (h : PH) (Q : Out → PH → Prop) : Prop := 0 < l0 ∧ C g d m_J0_init [.ref l0] h (oV (fun h2 => hkd h2 l0 = 13 ∧ ∀ h6, h6 = setF 34 l0 (0 : Int32) h2 → Q (.inl none) h6) (fun r hx => Q (.inr r) hx))
theorem v_J1_init_k13_0 {g : PG} {d : Nat} {l0 : Nat} {h : PH} {Q : Out → PH → Prop} (H : w_J1_init_k13_0 g d l0 h Q) : R g d m_J1_init 0 [.ref l0] [] h Q := by
  refine r_aload_n dJ1_init_0 rfl rfl ?_
  obtain ⟨k1, H⟩ := H
  refine r_invI (y := m_J0_init) dJ1_init_1 rfl rfl q202 q109 q200 q201 rfl py_J0_init (Nat.le_of_ble_eq_true rfl) (args := []) rfl rfl (Nat.le_of_ble_eq_true rfl) k1 (C.monoE H (fun o h2 _ x4 K => cont_V K (fun H => ?_) (fun r HX => XR_nc rfl HX)))
  refine r_aload_n dJ1_init_4 rfl rfl ?_
  refine r_iconst dJ1_init_5 rfl ?_
  obtain ⟨k5, H⟩ := H
  replace H := H _ rfl
  refine r_putF fw_J1_7_13_i (by decide) dJ1_init_6 k5 (by decide) rfl rfl ?_
  exact r_vret dJ1_init_9 rfl H
theorem c_J1_init_k13_0 {g : PG} {d : Nat} {l0 : Nat} {h : PH} {Q : Out → PH → Prop} (H : w_J1_init_k13_0 g d l0 h Q) : C g (d + 1) m_J1_init [.ref l0] h Q := C_of_R rfl rfl (Nat.le_of_ble_eq_true rfl) rfl (v_J1_init_k13_0 H)
abbrev w_J1_init_k23_0 (g : PG) (d : Nat) (l0 : Nat) (h : PH) (Q : Out → PH → Prop) : Prop := 0 < l0 ∧ C g d m_J0_init [.ref l0] h (oV (fun h2 => hkd h2 l0 = 23 ∧ ∀ h6, h6 = setF 34 l0 (0 : Int32) h2 → Q (.inl none) h6) (fun r hx => Q (.inr r) hx))
theorem v_J1_init_k23_0 {g : PG} {d : Nat} {l0 : Nat} {h : PH} {Q : Out → PH → Prop} (H : w_J1_init_k23_0 g d l0 h Q) : R g d m_J1_init 0 [.ref l0] [] h Q := by
  refine r_aload_n dJ1_init_0 rfl rfl ?_
  obtain ⟨k1, H⟩ := H
  refine r_invI (y := m_J0_init) dJ1_init_1 rfl rfl q202 q109 q200 q201 rfl py_J0_init (Nat.le_of_ble_eq_true rfl) (args := []) rfl rfl (Nat.le_of_ble_eq_true rfl) k1 (C.monoE H (fun o h2 _ x4 K => cont_V K (fun H => ?_) (fun r HX => XR_nc rfl HX)))
  refine r_aload_n dJ1_init_4 rfl rfl ?_
  refine r_iconst dJ1_init_5 rfl ?_
  obtain ⟨k5, H⟩ := H
  replace H := H _ rfl
  refine r_putF fw_J1_7_23_i (by decide) dJ1_init_6 k5 (by decide) rfl rfl ?_
  exact r_vret dJ1_init_9 rfl H
theorem c_J1_init_k23_0 {g : PG} {d : Nat} {l0 : Nat} {h : PH} {Q : Out → PH → Prop} (H : w_J1_init_k23_0 g d l0 h Q) : C g (d + 1) m_J1_init [.ref l0] h Q := C_of_R rfl rfl (Nat.le_of_ble_eq_true rfl) rfl (v_J1_init_k23_0 H)
abbrev w_J1_listIterator_k23_0 (g : PG) (d : Nat) (l0 : Nat) (h : PH) (Q : Out → PH → Prop) : Prop := hkd h l0 = 23 ∧ C g d m_J6_listIterator [.ref l0, .int 0] h (oR (fun v3 h2 => Q (.inl (some (.ref v3))) h2) (fun r hx => Q (.inr r) hx))
theorem v_J1_listIterator_k23_0 {g : PG} {d : Nat} {l0 : Nat} {h : PH} {Q : Out → PH → Prop} (H : w_J1_listIterator_k23_0 g d l0 h Q) : R g d m_J1_listIterator 0 [.ref l0] [] h Q := by
  refine r_aload_n dJ1_listIterator_0 rfl rfl ?_
  refine r_iconst dJ1_listIterator_1 rfl ?_
  obtain ⟨k1, H⟩ := H
  refine r_invU (y := m_J6_listIterator) (owner := "java/util/AbstractList") (Cn := "java/util/LinkedList") (x := ⟨"java/util/AbstractList", "listIterator", "(I)Ljava/util/ListIterator;"⟩) dJ1_listIterator_2 (n := 1) ⟨rfl, by decide +kernel, by decide, by decide, Or.inl ⟨lw_U q1817 q1819 q1854 q1855 q115 q1856, Or.inr q1888⟩⟩ (Nat.le_of_ble_eq_true rfl) (args := [_]) rfl rfl (Nat.le_of_ble_eq_true rfl) k1 (by decide) rfl (C.monoE H (fun o h2 _ x4 K => cont_R K (fun v3 H => ?_) (fun r HX => XR_nc rfl HX)))
  exact r_aret dJ1_listIterator_5 rfl H
theorem c_J1_listIterator_k23_0 {g : PG} {d : Nat} {l0 : Nat} {h : PH} {Q : Out → PH → Prop} (H : w_J1_listIterator_k23_0 g d l0 h Q) : C g (d + 1) m_J1_listIterator [.ref l0] h Q := C_of_R rfl rfl (Nat.le_of_ble_eq_true rfl) rfl (v_J1_listIterator_k23_0 H)
abbrev w_J10_checkBoundsBeginEnd_0 (g : PG) (d : Nat) (l0 : Int32) (l1 : Int32) (l2 : Int32) (h : PH) (Q : Out → PH → Prop) : Prop := isSR g 2 ∧ C g d m_J20_checkFromToIndex [.int l0, .int l1, .int l2, .ref (sR g 2)] h (oI (fun v3 h2 => Q (.inl none) h2) (fun r hx => Q (.inr r) hx))
theorem v_J10_checkBoundsBeginEnd_0 {g : PG} {d : Nat} {l0 : Int32} {l1 : Int32} {l2 : Int32} {h : PH} {Q : Out → PH → Prop} (H : w_J10_checkBoundsBeginEnd_0 g d l0 l1 l2 h Q) : R g d m_J10_checkBoundsBeginEnd 0 [.int l0, .int l1, .int l2] [] h Q := by
  refine r_iload_n dJ10_checkBoundsBeginEnd_0 rfl rfl ?_
  refine r_iload_n dJ10_checkBoundsBeginEnd_1 rfl rfl ?_
  refine r_iload_n dJ10_checkBoundsBeginEnd_2 rfl rfl ?_
  obtain ⟨k1, H⟩ := H
  refine r_getsR (ref := "") (n := 2) dJ10_checkBoundsBeginEnd_3 rfl q507 k1 ?_
  refine r_invS (y := m_J20_checkFromToIndex) dJ10_checkBoundsBeginEnd_6 rfl (lw_S q509 q510 q132 q511) py_J20_checkFromToIndex (Nat.le_of_ble_eq_true rfl) (args := [_, _, _, _]) rfl rfl (Nat.le_of_ble_eq_true rfl) (C.monoE H (fun o h2 _ x4 K => cont_I K (fun v3 H => ?_) (fun r HX => XR_nc rfl HX)))
  refine r_pop dJ10_checkBoundsBeginEnd_9 rfl ?_
  exact r_vret dJ10_checkBoundsBeginEnd_10 rfl H
theorem c_J10_checkBoundsBeginEnd_0 {g : PG} {d : Nat} {l0 : Int32} {l1 : Int32} {l2 : Int32} {h : PH} {Q : Out → PH → Prop} (H : w_J10_checkBoundsBeginEnd_0 g d l0 l1 l2 h Q) : C g (d + 1) m_J10_checkBoundsBeginEnd [.int l0, .int l1, .int l2] h Q := C_of_R rfl rfl (Nat.le_of_ble_eq_true rfl) rfl (v_J10_checkBoundsBeginEnd_0 H)
abbrev w_J10_length_0 (g : PG) (d : Nat) (l0 : Nat) (h : PH) (Q : Out → PH → Prop) : Prop := ko h l0 29 ∧ hkd h (hG h 563 l0) / 100 = 3 ∧ C g d m_J10_coder [.ref l0] h (oI (fun v5 h4 => Q (.inl (some (.int ((nI (hln h (hG h 563 l0))) >>> (v5 &&& 31))))) h4) (fun r hx => Q (.inr r) hx))
theorem v_J10_length_0 {g : PG} {d : Nat} {l0 : Nat} {h : PH} {Q : Out → PH → Prop} (H : w_J10_length_0 g d l0 h Q) : R g d m_J10_length 0 [.ref l0] [] h Q := by
  refine r_aload_n dJ10_length_0 rfl rfl ?_
  obtain ⟨k1, H⟩ := H
  refine r_getGo fr_J10_9_29 (by decide) dJ10_length_1 (by decide) k1 ?_
  obtain ⟨k2, H⟩ := H
  refine r_alen (m := 3) dJ10_length_4 (by decide) k2 ?_
  refine r_aload_n dJ10_length_5 rfl rfl ?_
  obtain ⟨_, k3, k3a, k3b⟩ := ko_use (by decide) k1
  refine r_invV (y := m_J10_coder) dJ10_length_6 rfl (lw_V q525 q526 q527 q120 q528) py_J10_coder (Nat.le_of_ble_eq_true rfl) (args := []) rfl rfl (Nat.le_of_ble_eq_true rfl) k3 k3a (k3b.trans rfl) (C.monoE H (fun o h4 _ x6 K => cont_I K (fun v5 H => ?_) (fun r HX => XR_nc rfl HX)))
  refine r_ishr dJ10_length_9 ?_
  exact r_iret dJ10_length_10 rfl H
theorem c_J10_length_0 {g : PG} {d : Nat} {l0 : Nat} {h : PH} {Q : Out → PH → Prop} (H : w_J10_length_0 g d l0 h Q) : C g (d + 1) m_J10_length [.ref l0] h Q := C_of_R rfl rfl (Nat.le_of_ble_eq_true rfl) rfl (v_J10_length_0 H)
abbrev w_J10_coder_0 (g : PG) (d : Nat) (l0 : Nat) (h : PH) (Q : Out → PH → Prop) : Prop := isSI g 1 ∧ (((sI g 1) = 0) → narrow .byte (.int 1) = .int 1 ∧ Q (.inl (some (.int 1))) h) ∧ ((¬ (sI g 1) = 0) → ko h l0 29 ∧ narrow .byte (.int (hF h 53 l0)) = .int (hF h 53 l0) ∧ Q (.inl (some (.int (hF h 53 l0)))) h)
theorem v_J10_coder_0 {g : PG} {d : Nat} {l0 : Nat} {h : PH} {Q : Out → PH → Prop} (H : w_J10_coder_0 g d l0 h Q) : R g d m_J10_coder 0 [.ref l0] [] h Q := by
  obtain ⟨k1, H⟩ := H
  refine r_getsI (ref := "") (n := 1) dJ10_coder_0 rfl q529 k1 ?_
  refine r_if_eq (tgt := 13) dJ10_coder_3 rfl (fun b2 => ?_) (fun b2 => ?_)
  · replace H := H.1 b2
    refine r_iconst dJ10_coder_13 rfl ?_
    exact r_zret dJ10_coder_14 rfl H.1 H.2
  · replace H := H.2 b2
    refine r_aload_n dJ10_coder_6 rfl rfl ?_
    obtain ⟨k3, H⟩ := H
    refine r_getFo fr_J10_15_29 (by decide) dJ10_coder_7 (by decide) k3 ?_
    refine r_goto (tgt := 14) dJ10_coder_10 rfl ?_
    exact r_zret dJ10_coder_14 rfl H.1 H.2
theorem c_J10_coder_0 {g : PG} {d : Nat} {l0 : Nat} {h : PH} {Q : Out → PH → Prop} (H : w_J10_coder_0 g d l0 h Q) : C g (d + 1) m_J10_coder [.ref l0] h Q := C_of_R rfl rfl (Nat.le_of_ble_eq_true rfl) rfl (v_J10_coder_0 H)
abbrev w_J10_checkBoundsOffCount_0 (g : PG) (d : Nat) (l0 : Int32) (l1 : Int32) (l2 : Int32) (h : PH) (Q : Out → PH → Prop) : Prop := isSR g 2 ∧ C g d m_J20_checkFromIndexSize [.int l0, .int l1, .int l2, .ref (sR g 2)] h (oI (fun v3 h2 => Q (.inl (some (.int v3))) h2) (fun r hx => Q (.inr r) hx))
theorem v_J10_checkBoundsOffCount_0 {g : PG} {d : Nat} {l0 : Int32} {l1 : Int32} {l2 : Int32} {h : PH} {Q : Out → PH → Prop} (H : w_J10_checkBoundsOffCount_0 g d l0 l1 l2 h Q) : R g d m_J10_checkBoundsOffCount 0 [.int l0, .int l1, .int l2] [] h Q := by
  refine r_iload_n dJ10_checkBoundsOffCount_0 rfl rfl ?_
  refine r_iload_n dJ10_checkBoundsOffCount_1 rfl rfl ?_
  refine r_iload_n dJ10_checkBoundsOffCount_2 rfl rfl ?_
  obtain ⟨k1, H⟩ := H
  refine r_getsR (ref := "") (n := 2) dJ10_checkBoundsOffCount_3 rfl q507 k1 ?_
  refine r_invS (y := m_J20_checkFromIndexSize) dJ10_checkBoundsOffCount_6 rfl (lw_S q555 q556 q132 q557) py_J20_checkFromIndexSize (Nat.le_of_ble_eq_true rfl) (args := [_, _, _, _]) rfl rfl (Nat.le_of_ble_eq_true rfl) (C.monoE H (fun o h2 _ x4 K => cont_I K (fun v3 H => ?_) (fun r HX => XR_nc rfl HX)))
  exact r_iret dJ10_checkBoundsOffCount_9 rfl H
theorem c_J10_checkBoundsOffCount_0 {g : PG} {d : Nat} {l0 : Int32} {l1 : Int32} {l2 : Int32} {h : PH} {Q : Out → PH → Prop} (H : w_J10_checkBoundsOffCount_0 g d l0 l1 l2 h Q) : C g (d + 1) m_J10_checkBoundsOffCount [.int l0, .int l1, .int l2] h Q := C_of_R rfl rfl (Nat.le_of_ble_eq_true rfl) rfl (v_J10_checkBoundsOffCount_0 H)
abbrev w_J10_getBytes_0 (g : PG) (d : Nat) (l0 : Nat) (l1 : Nat) (l2 : Int32) (l3 : Int32) (h : PH) (Q : Out → PH → Prop) : Prop := ko h l0 29 ∧ C g d m_J10_coder [.ref l0] h (oI (fun v4 h3 => ((¬ v4 = l3) → hkd h3 (hG h3 563 l0) / 100 = 3 ∧ C g d m_J24_inflate [.ref (hG h3 563 l0), .int 0, .ref l1, .int l2, .int (nI (hln h3 (hG h3 563 l0)))] h3 (oV (fun h8 => Q (.inl none) h8) (fun r hx => Q (.inr r) hx))) ∧ ((v4 = l3) → hkd h3 (hG h3 563 l0) / 100 = 3 ∧ hkd h3 l1 / 100 = 3 ∧ hkd h3 l1 % 100 < 50 ∧ ¬ (0 : Int32) < 0 ∧ ¬ (l2 <<< (l3 &&& 31)) < 0 ∧ ¬ (nI (hln h3 (hG h3 563 l0))) < 0 ∧ (0 : Int32).toNatClampNeg + (nI (hln h3 (hG h3 563 l0))).toNatClampNeg ≤ hln h3 (hG h3 563 l0) ∧ (l2 <<< (l3 &&& 31)).toNatClampNeg + (nI (hln h3 (hG h3 563 l0))).toNatClampNeg ≤ hln h3 l1 ∧ (∀ i, i < (nI (hln h3 (hG h3 563 l0))).toNatClampNeg → fits .byte (.int (hA h3 (hG h3 563 l0) ((0 : Int32).toNatClampNeg + i))) = true) ∧ ∀ h21, h21 = cpyA (hG h3 563 l0) (0 : Int32).toNatClampNeg l1 (l2 <<< (l3 &&& 31)).toNatClampNeg (nI (hln h3 (hG h3 563 l0))).toNatClampNeg h3 → Q (.inl none) h21)) (fun r hx => Q (.inr r) hx))
theorem v_J10_getBytes_0 {g : PG} {d : Nat} {l0 : Nat} {l1 : Nat} {l2 : Int32} {l3 : Int32} {h : PH} {Q : Out → PH → Prop} (H : w_J10_getBytes_0 g d l0 l1 l2 l3 h Q) : R g d m_J10_getBytes 0 [.ref l0, .ref l1, .int l2, .int l3] [] h Q := by
  refine r_aload_n dJ10_getBytes_0 rfl rfl ?_
  obtain ⟨k1, H⟩ := H
  obtain ⟨_, k2, k2a, k2b⟩ := ko_use (by decide) k1
  refine r_invV (y := m_J10_coder) dJ10_getBytes_1 rfl (lw_V q525 q526 q527 q120 q528) py_J10_coder (Nat.le_of_ble_eq_true rfl) (args := []) rfl rfl (Nat.le_of_ble_eq_true rfl) k2 k2a (k2b.trans rfl) (C.monoE H (fun o h3 _ x5 K => cont_I K (fun v4 H => ?_) (fun r HX => XR_nc rfl HX)))
  refine r_iload_n dJ10_getBytes_4 rfl rfl ?_
  refine r_icmp_ne (tgt := 28) dJ10_getBytes_5 rfl (fun b6 => ?_) (fun b6 => ?_)
  · replace H := H.1 b6
    refine r_aload_n dJ10_getBytes_28 rfl rfl ?_
    refine r_getGo fr_J10_9_29 (by decide) dJ10_getBytes_29 (by decide) (koE x5 (by decide) k1) ?_
    refine r_iconst dJ10_getBytes_32 rfl ?_
    refine r_aload_n dJ10_getBytes_33 rfl rfl ?_
    refine r_iload_n dJ10_getBytes_34 rfl rfl ?_
    refine r_aload_n dJ10_getBytes_35 rfl rfl ?_
    refine r_getGo fr_J10_9_29 (by decide) dJ10_getBytes_36 (by decide) (koE x5 (by decide) k1) ?_
    obtain ⟨k7, H⟩ := H
    refine r_alen (m := 3) dJ10_getBytes_39 (by decide) k7 ?_
    refine r_invS (y := m_J24_inflate) dJ10_getBytes_40 rfl (lw_S q563 q544 q137 q545) py_J24_inflate (Nat.le_of_ble_eq_true rfl) (args := [_, _, _, _, _]) rfl rfl (Nat.le_of_ble_eq_true rfl) (C.monoE H (fun o h8 _ x10 K => cont_V K (fun H => ?_) (fun r HX => XR_nc rfl HX)))
    exact r_vret dJ10_getBytes_43 rfl H
  · replace H := H.2 b6
    refine r_aload_n dJ10_getBytes_8 rfl rfl ?_
    refine r_getGo fr_J10_9_29 (by decide) dJ10_getBytes_9 (by decide) (koE x5 (by decide) k1) ?_
    refine r_iconst dJ10_getBytes_12 rfl ?_
    refine r_aload_n dJ10_getBytes_13 rfl rfl ?_
    refine r_iload_n dJ10_getBytes_14 rfl rfl ?_
    refine r_iload_n dJ10_getBytes_15 rfl rfl ?_
    refine r_ishl dJ10_getBytes_16 ?_
    refine r_aload_n dJ10_getBytes_17 rfl rfl ?_
    refine r_getGo fr_J10_9_29 (by decide) dJ10_getBytes_18 (by decide) (koE x5 (by decide) k1) ?_
    obtain ⟨k11, H⟩ := H
    refine r_alen (m := 3) dJ10_getBytes_21 (by decide) k11 ?_
    obtain ⟨k13, H⟩ := H
    obtain ⟨k14, H⟩ := H
    obtain ⟨k15, H⟩ := H
    obtain ⟨k16, H⟩ := H
    obtain ⟨k17, H⟩ := H
    obtain ⟨k18, H⟩ := H
    obtain ⟨k19, H⟩ := H
    obtain ⟨k20, H⟩ := H
    replace H := H _ rfl
    refine r_copyA (m := 3) dJ10_getBytes_22 q562 (by decide) k11 k13 k14 k15 k16 k17 k18 k19 k20 (Nat.le_of_ble_eq_true rfl) ?_
    refine r_goto (tgt := 43) dJ10_getBytes_25 rfl ?_
    exact r_vret dJ10_getBytes_43 rfl H
theorem c_J10_getBytes_0 {g : PG} {d : Nat} {l0 : Nat} {l1 : Nat} {l2 : Int32} {l3 : Int32} {h : PH} {Q : Out → PH → Prop} (H : w_J10_getBytes_0 g d l0 l1 l2 l3 h Q) : C g (d + 1) m_J10_getBytes [.ref l0, .ref l1, .int l2, .int l3] h Q := C_of_R rfl rfl (Nat.le_of_ble_eq_true rfl) rfl (v_J10_getBytes_0 H)
abbrev w_J10_checkIndex_0 (g : PG) (d : Nat) (l0 : Int32) (l1 : Int32) (h : PH) (Q : Out → PH → Prop) : Prop := isSR g 2 ∧ C g d m_J20_checkIndex [.int l0, .int l1, .ref (sR g 2)] h (oI (fun v3 h2 => Q (.inl none) h2) (fun r hx => Q (.inr r) hx))
theorem v_J10_checkIndex_0 {g : PG} {d : Nat} {l0 : Int32} {l1 : Int32} {h : PH} {Q : Out → PH → Prop} (H : w_J10_checkIndex_0 g d l0 l1 h Q) : R g d m_J10_checkIndex 0 [.int l0, .int l1] [] h Q := by
  refine r_iload_n dJ10_checkIndex_0 rfl rfl ?_
  refine r_iload_n dJ10_checkIndex_1 rfl rfl ?_
  obtain ⟨k1, H⟩ := H
  refine r_getsR (ref := "") (n := 2) dJ10_checkIndex_2 rfl q507 k1 ?_
  refine r_invS (y := m_J20_checkIndex) dJ10_checkIndex_5 rfl (lw_S q808 q809 q132 q810) py_J20_checkIndex (Nat.le_of_ble_eq_true rfl) (args := [_, _, _]) rfl rfl (Nat.le_of_ble_eq_true rfl) (C.monoE H (fun o h2 _ x4 K => cont_I K (fun v3 H => ?_) (fun r HX => XR_nc rfl HX)))
  refine r_pop dJ10_checkIndex_8 rfl ?_
  exact r_vret dJ10_checkIndex_9 rfl H
theorem c_J10_checkIndex_0 {g : PG} {d : Nat} {l0 : Int32} {l1 : Int32} {h : PH} {Q : Out → PH → Prop} (H : w_J10_checkIndex_0 g d l0 l1 h Q) : C g (d + 1) m_J10_checkIndex [.int l0, .int l1] h Q := C_of_R rfl rfl (Nat.le_of_ble_eq_true rfl) rfl (v_J10_checkIndex_0 H)
abbrev w_J10_checkOffset_0 (g : PG) (d : Nat) (l0 : Int32) (l1 : Int32) (h : PH) (Q : Out → PH → Prop) : Prop := isSR g 2 ∧ C g d m_J20_checkFromToIndex [.int l0, .int l1, .int l1, .ref (sR g 2)] h (oI (fun v3 h2 => Q (.inl none) h2) (fun r hx => Q (.inr r) hx))
theorem v_J10_checkOffset_0 {g : PG} {d : Nat} {l0 : Int32} {l1 : Int32} {h : PH} {Q : Out → PH → Prop} (H : w_J10_checkOffset_0 g d l0 l1 h Q) : R g d m_J10_checkOffset 0 [.int l0, .int l1] [] h Q := by
  refine r_iload_n dJ10_checkOffset_0 rfl rfl ?_
  refine r_iload_n dJ10_checkOffset_1 rfl rfl ?_
  refine r_iload_n dJ10_checkOffset_2 rfl rfl ?_
  obtain ⟨k1, H⟩ := H
  refine r_getsR (ref := "") (n := 2) dJ10_checkOffset_3 rfl q507 k1 ?_
  refine r_invS (y := m_J20_checkFromToIndex) dJ10_checkOffset_6 rfl (lw_S q509 q510 q132 q511) py_J20_checkFromToIndex (Nat.le_of_ble_eq_true rfl) (args := [_, _, _, _]) rfl rfl (Nat.le_of_ble_eq_true rfl) (C.monoE H (fun o h2 _ x4 K => cont_I K (fun v3 H => ?_) (fun r HX => XR_nc rfl HX)))
  refine r_pop dJ10_checkOffset_9 rfl ?_
  exact r_vret dJ10_checkOffset_10 rfl H
theorem c_J10_checkOffset_0 {g : PG} {d : Nat} {l0 : Int32} {l1 : Int32} {h : PH} {Q : Out → PH → Prop} (H : w_J10_checkOffset_0 g d l0 l1 h Q) : C g (d + 1) m_J10_checkOffset [.int l0, .int l1] h Q := C_of_R rfl rfl (Nat.le_of_ble_eq_true rfl) rfl (v_J10_checkOffset_0 H)
abbrev w_J10_equals_36 (g : PG) (d : Nat) (l0 : Nat) (l2 : Nat) (h : PH) (Q : Out → PH → Prop) : Prop := ko h l0 29 ∧ ko h l2 29 ∧ C g d m_J24_equals [.ref (hG h 563 l0), .ref (hG h 563 l2)] h (oI (fun v4 h3 => ((v4 = 0) → Q (.inl (some (.int 0))) h3) ∧ ((¬ v4 = 0) → Q (.inl (some (.int 1))) h3)) (fun r hx => Q (.inr r) hx))
theorem v_J10_equals_36 {g : PG} {d : Nat} {l0 : Nat} {l2 : Nat} {h : PH} {Q : Out → PH → Prop} (H : w_J10_equals_36 g d l0 l2 h Q) : R g d m_J10_equals 36 [.ref l0, .null, .ref l2] [] h Q := by
  refine r_aload_n dJ10_equals_36 rfl rfl ?_
  obtain ⟨k1, H⟩ := H
  refine r_getGo fr_J10_9_29 (by decide) dJ10_equals_37 (by decide) k1 ?_
  refine r_aload_n dJ10_equals_40 rfl rfl ?_
  obtain ⟨k2, H⟩ := H
  refine r_getGo fr_J10_9_29 (by decide) dJ10_equals_41 (by decide) k2 ?_
  refine r_invS (y := m_J24_equals) dJ10_equals_44 rfl (lw_S q2194 q2195 q137 q2196) py_J24_equals (Nat.le_of_ble_eq_true rfl) (args := [_, _]) rfl rfl (Nat.le_of_ble_eq_true rfl) (C.monoE H (fun o h3 _ x5 K => cont_I K (fun v4 H => ?_) (fun r HX => XR_nc rfl HX)))
  refine r_if_eq (tgt := 54) dJ10_equals_47 rfl (fun b6 => ?_) (fun b6 => ?_)
  · replace H := H.1 b6
    refine r_iconst dJ10_equals_54 rfl ?_
    exact r_zret dJ10_equals_55 rfl rfl H
  · replace H := H.2 b6
    refine r_iconst dJ10_equals_50 rfl ?_
    refine r_goto (tgt := 55) dJ10_equals_51 rfl ?_
    exact r_zret dJ10_equals_55 rfl rfl H
abbrev w_J10_equals_0 (g : PG) (d : Nat) (l0 : Nat) (l1 : Nat) (h : PH) (Q : Out → PH → Prop) : Prop := ((¬ l0 = l1) → (l1 = 0 → (((0 : Int32) = 0) → Q (.inl (some (.int 0))) h) ∧ ((¬ (0 : Int32) = 0) → (l1 = 0 ∨ ko h l1 29) ∧ isSI g 1 ∧ (((sI g 1) = 0) → w_J10_equals_36 g d l0 l1 h Q) ∧ ((¬ (sI g 1) = 0) → ko h l0 29 ∧ ko h l1 29 ∧ ((¬ (hF h 53 l0) = (hF h 53 l1)) → Q (.inl (some (.int 0))) h) ∧ (((hF h 53 l0) = (hF h 53 l1)) → w_J10_equals_36 g d l0 l1 h Q)))) ∧ (¬ l1 = 0 → ko h l1 29 ∧ (((1 : Int32) = 0) → Q (.inl (some (.int 0))) h) ∧ ((¬ (1 : Int32) = 0) → (l1 = 0 ∨ ko h l1 29) ∧ isSI g 1 ∧ (((sI g 1) = 0) → w_J10_equals_36 g d l0 l1 h Q) ∧ ((¬ (sI g 1) = 0) → ko h l0 29 ∧ ko h l1 29 ∧ ((¬ (hF h 53 l0) = (hF h 53 l1)) → Q (.inl (some (.int 0))) h) ∧ (((hF h 53 l0) = (hF h 53 l1)) → w_J10_equals_36 g d l0 l1 h Q))))) ∧ ((l0 = l1) → Q (.inl (some (.int 1))) h)
theorem v_J10_equals_0 {g : PG} {d : Nat} {l0 : Nat} {l1 : Nat} {h : PH} {Q : Out → PH → Prop} (H : w_J10_equals_0 g d l0 l1 h Q) : R g d m_J10_equals 0 [.ref l0, .ref l1, .null] [] h Q := by
  refine r_aload_n dJ10_equals_0 rfl rfl ?_
  refine r_aload_n dJ10_equals_1 rfl rfl ?_
  refine r_acmp_ne (tgt := 7) dJ10_equals_2 rfl (fun b1 => ?_) (fun b1 => ?_)
  · replace H := H.1 b1
    refine r_aload_n dJ10_equals_7 rfl rfl ?_
    refine r_instOc (kv := 29) dJ10_equals_8 q1360 (by decide) (Or.inr rfl) (fun k2 => ?_) (fun k2 => ⟨(H.2 k2).1, ?_⟩)
    · replace H := H.1 k2
      refine r_if_eq (tgt := 54) dJ10_equals_11 rfl (fun b3 => ?_) (fun b3 => ?_)
      · replace H := H.1 b3
        refine r_iconst dJ10_equals_54 rfl ?_
        exact r_zret dJ10_equals_55 rfl rfl H
      · replace H := H.2 b3
        refine r_aload_n dJ10_equals_14 rfl rfl ?_
        obtain ⟨k4, H⟩ := H
        refine r_castOc (kv := 29) dJ10_equals_15 q1360 (by decide) (Or.inr rfl) k4 ?_
        refine r_astore_n dJ10_equals_18 rfl (Nat.le_of_ble_eq_true rfl) rfl (slS (slS sl0)) ?_
        obtain ⟨k5, H⟩ := H
        refine r_getsI (ref := "") (n := 1) dJ10_equals_19 rfl q529 k5 ?_
        refine r_if_eq (tgt := 36) dJ10_equals_22 rfl (fun b6 => ?_) (fun b6 => ?_)
        · replace H := H.1 b6
          exact R.forget (v_J10_equals_36 H) ⟨Or.inl rfl, ⟨Or.inr rfl, ⟨Or.inl rfl, trivial⟩⟩⟩
        · replace H := H.2 b6
          refine r_aload_n dJ10_equals_25 rfl rfl ?_
          obtain ⟨k7, H⟩ := H
          refine r_getFo fr_J10_15_29 (by decide) dJ10_equals_26 (by decide) k7 ?_
          refine r_aload_n dJ10_equals_29 rfl rfl ?_
          obtain ⟨k8, H⟩ := H
          refine r_getFo fr_J10_15_29 (by decide) dJ10_equals_30 (by decide) k8 ?_
          refine r_icmp_ne (tgt := 54) dJ10_equals_33 rfl (fun b9 => ?_) (fun b9 => ?_)
          · replace H := H.1 b9
            refine r_iconst dJ10_equals_54 rfl ?_
            exact r_zret dJ10_equals_55 rfl rfl H
          · replace H := H.2 b9
            exact R.forget (v_J10_equals_36 H) ⟨Or.inl rfl, ⟨Or.inr rfl, ⟨Or.inl rfl, trivial⟩⟩⟩
    · replace H := (H.2 k2).2
      refine r_if_eq (tgt := 54) dJ10_equals_11 rfl (fun b10 => ?_) (fun b10 => ?_)
      · replace H := H.1 b10
        refine r_iconst dJ10_equals_54 rfl ?_
        exact r_zret dJ10_equals_55 rfl rfl H
      · replace H := H.2 b10
        refine r_aload_n dJ10_equals_14 rfl rfl ?_
        obtain ⟨k11, H⟩ := H
        refine r_castOc (kv := 29) dJ10_equals_15 q1360 (by decide) (Or.inr rfl) k11 ?_
        refine r_astore_n dJ10_equals_18 rfl (Nat.le_of_ble_eq_true rfl) rfl (slS (slS sl0)) ?_
        obtain ⟨k12, H⟩ := H
        refine r_getsI (ref := "") (n := 1) dJ10_equals_19 rfl q529 k12 ?_
        refine r_if_eq (tgt := 36) dJ10_equals_22 rfl (fun b13 => ?_) (fun b13 => ?_)
        · replace H := H.1 b13
          exact R.forget (v_J10_equals_36 H) ⟨Or.inl rfl, ⟨Or.inr rfl, ⟨Or.inl rfl, trivial⟩⟩⟩
        · replace H := H.2 b13
          refine r_aload_n dJ10_equals_25 rfl rfl ?_
          obtain ⟨k14, H⟩ := H
          refine r_getFo fr_J10_15_29 (by decide) dJ10_equals_26 (by decide) k14 ?_
          refine r_aload_n dJ10_equals_29 rfl rfl ?_
          obtain ⟨k15, H⟩ := H
          refine r_getFo fr_J10_15_29 (by decide) dJ10_equals_30 (by decide) k15 ?_
          refine r_icmp_ne (tgt := 54) dJ10_equals_33 rfl (fun b16 => ?_) (fun b16 => ?_)
          · replace H := H.1 b16
            refine r_iconst dJ10_equals_54 rfl ?_
            exact r_zret dJ10_equals_55 rfl rfl H
          · replace H := H.2 b16
            exact R.forget (v_J10_equals_36 H) ⟨Or.inl rfl, ⟨Or.inr rfl, ⟨Or.inl rfl, trivial⟩⟩⟩
  · replace H := H.2 b1
    refine r_iconst dJ10_equals_5 rfl ?_
    exact r_zret dJ10_equals_6 rfl rfl H
theorem c_J10_equals_0 {g : PG} {d : Nat} {l0 : Nat} {l1 : Nat} {h : PH} {Q : Out → PH → Prop} (H : w_J10_equals_0 g d l0 l1 h Q) : C g (d + 1) m_J10_equals [.ref l0, .ref l1] h Q := C_of_R rfl rfl (Nat.le_of_ble_eq_true rfl) rfl (v_J10_equals_0 H)
abbrev w_J10_hashCode_40 (g : PG) (d : Nat) (l0 : Nat) (s0 : Int32) (h : PH) (Q : Out → PH → Prop) : Prop := ((¬ s0 = 0) → hkd h l0 = 29 ∧ ∀ h3, h3 = setF 54 l0 s0 h → Q (.inl (some (.int s0))) h3) ∧ ((s0 = 0) → hkd h l0 = 29 ∧ ∀ h5, h5 = setF 55 l0 (1 : Int32) h → Q (.inl (some (.int s0))) h5)
theorem v_J10_hashCode_40 {g : PG} {d : Nat} {l0 : Nat} {s0 : Int32} {h : PH} {Q : Out → PH → Prop} (H : w_J10_hashCode_40 g d l0 s0 h Q) : R g d m_J10_hashCode 40 [.ref l0, .null] [.int s0] h Q := by
  refine r_istore_n dJ10_hashCode_40 rfl (Nat.le_of_ble_eq_true rfl) rfl (slS sl0) ?_
  refine r_iload_n dJ10_hashCode_41 rfl rfl ?_
  refine r_if_ne (tgt := 53) dJ10_hashCode_42 rfl (fun b1 => ?_) (fun b1 => ?_)
  · replace H := H.1 b1
    refine r_aload_n dJ10_hashCode_53 rfl rfl ?_
    refine r_iload_n dJ10_hashCode_54 rfl rfl ?_
    obtain ⟨k2, H⟩ := H
    replace H := H _ rfl
    refine r_putF fw_J10_19_29 (by decide) dJ10_hashCode_55 k2 (by decide) rfl rfl ?_
    refine r_iload_n dJ10_hashCode_58 rfl rfl ?_
    exact r_iret dJ10_hashCode_59 rfl H
  · replace H := H.2 b1
    refine r_aload_n dJ10_hashCode_45 rfl rfl ?_
    refine r_iconst dJ10_hashCode_46 rfl ?_
    obtain ⟨k4, H⟩ := H
    replace H := H _ rfl
    refine r_putF fw_J10_23_29 (by decide) dJ10_hashCode_47 k4 (by decide) rfl rfl ?_
    refine r_goto (tgt := 58) dJ10_hashCode_50 rfl ?_
    refine r_iload_n dJ10_hashCode_58 rfl rfl ?_
    exact r_iret dJ10_hashCode_59 rfl H
abbrev w_J10_hashCode_0 (g : PG) (d : Nat) (l0 : Nat) (h : PH) (Q : Out → PH → Prop) : Prop := ko h l0 29 ∧ ((¬ (hF h 54 l0) = 0) → Q (.inl (some (.int (hF h 54 l0)))) h) ∧ (((hF h 54 l0) = 0) → ((¬ (hF h 55 l0) = 0) → Q (.inl (some (.int (hF h 54 l0)))) h) ∧ (((hF h 55 l0) = 0) → C g d m_J10_isLatin1 [.ref l0] h (oI (fun v6 h5 => ((v6 = 0) → C g d m_J11_hashCode [.ref (hG h5 563 l0)] h5 (oI (fun v10 h9 => w_J10_hashCode_40 g d l0 v10 h9 Q) (fun r hx => Q (.inr r) hx))) ∧ ((¬ v6 = 0) → C g d m_J24_hashCode [.ref (hG h5 563 l0)] h5 (oI (fun v13 h12 => w_J10_hashCode_40 g d l0 v13 h12 Q) (fun r hx => Q (.inr r) hx)))) (fun r hx => Q (.inr r) hx))))
theorem v_J10_hashCode_0 {g : PG} {d : Nat} {l0 : Nat} {h : PH} {Q : Out → PH → Prop} (H : w_J10_hashCode_0 g d l0 h Q) : R g d m_J10_hashCode 0 [.ref l0, .null] [] h Q := by
  refine r_aload_n dJ10_hashCode_0 rfl rfl ?_
  obtain ⟨k1, H⟩ := H
  refine r_getFo fr_J10_19_29 (by decide) dJ10_hashCode_1 (by decide) k1 ?_
  refine r_istore_n dJ10_hashCode_4 rfl (Nat.le_of_ble_eq_true rfl) rfl (slS sl0) ?_
  refine r_iload_n dJ10_hashCode_5 rfl rfl ?_
  refine r_if_ne (tgt := 58) dJ10_hashCode_6 rfl (fun b2 => ?_) (fun b2 => ?_)
  · replace H := H.1 b2
    refine r_iload_n dJ10_hashCode_58 rfl rfl ?_
    exact r_iret dJ10_hashCode_59 rfl H
  · replace H := H.2 b2
    refine r_aload_n dJ10_hashCode_9 rfl rfl ?_
    refine r_getFo fr_J10_23_29 (by decide) dJ10_hashCode_10 (by decide) k1 ?_
    refine r_if_ne (tgt := 58) dJ10_hashCode_13 rfl (fun b3 => ?_) (fun b3 => ?_)
    · replace H := H.1 b3
      refine r_iload_n dJ10_hashCode_58 rfl rfl ?_
      exact r_iret dJ10_hashCode_59 rfl H
    · replace H := H.2 b3
      refine r_aload_n dJ10_hashCode_16 rfl rfl ?_
      obtain ⟨_, k4, k4a, k4b⟩ := ko_use (by decide) k1
      refine r_invV (y := m_J10_isLatin1) dJ10_hashCode_17 rfl (lw_V q2328 q2329 q2330 q120 q2331) py_J10_isLatin1 (Nat.le_of_ble_eq_true rfl) (args := []) rfl rfl (Nat.le_of_ble_eq_true rfl) k4 k4a (k4b.trans rfl) (C.monoE H (fun o h5 _ x7 K => cont_I K (fun v6 H => ?_) (fun r HX => XR_nc rfl HX)))
      refine r_if_eq (tgt := 33) dJ10_hashCode_20 rfl (fun b8 => ?_) (fun b8 => ?_)
      · replace H := H.1 b8
        refine r_aload_n dJ10_hashCode_33 rfl rfl ?_
        refine r_getGo fr_J10_9_29 (by decide) dJ10_hashCode_34 (by decide) (koE x7 (by decide) k1) ?_
        refine r_invS (y := m_J11_hashCode) dJ10_hashCode_37 rfl (lw_S q2381 q2382 q121 q2383) py_J11_hashCode (Nat.le_of_ble_eq_true rfl) (args := [_]) rfl rfl (Nat.le_of_ble_eq_true rfl) (C.monoE H (fun o h9 _ x11 K => cont_I K (fun v10 H => ?_) (fun r HX => XR_nc rfl HX)))
        exact R.forget (v_J10_hashCode_40 H) ⟨Or.inl rfl, ⟨Or.inr rfl, trivial⟩⟩
      · replace H := H.2 b8
        refine r_aload_n dJ10_hashCode_23 rfl rfl ?_
        refine r_getGo fr_J10_9_29 (by decide) dJ10_hashCode_24 (by decide) (koE x7 (by decide) k1) ?_
        refine r_invS (y := m_J24_hashCode) dJ10_hashCode_27 rfl (lw_S q2332 q2333 q137 q2334) py_J24_hashCode (Nat.le_of_ble_eq_true rfl) (args := [_]) rfl rfl (Nat.le_of_ble_eq_true rfl) (C.monoE H (fun o h12 _ x14 K => cont_I K (fun v13 H => ?_) (fun r HX => XR_nc rfl HX)))
        refine r_goto (tgt := 40) dJ10_hashCode_30 rfl ?_
        exact R.forget (v_J10_hashCode_40 H) ⟨Or.inl rfl, ⟨Or.inr rfl, trivial⟩⟩
theorem c_J10_hashCode_0 {g : PG} {d : Nat} {l0 : Nat} {h : PH} {Q : Out → PH → Prop} (H : w_J10_hashCode_0 g d l0 h Q) : C g (d + 1) m_J10_hashCode [.ref l0] h Q := C_of_R rfl rfl (Nat.le_of_ble_eq_true rfl) rfl (v_J10_hashCode_0 H)
abbrev w_J10_isLatin1_0 (g : PG) (d : Nat) (l0 : Nat) (h : PH) (Q : Out → PH → Prop) : Prop := isSI g 1 ∧ (((sI g 1) = 0) → Q (.inl (some (.int 0))) h) ∧ ((¬ (sI g 1) = 0) → ko h l0 29 ∧ ((¬ (hF h 53 l0) = 0) → Q (.inl (some (.int 0))) h) ∧ (((hF h 53 l0) = 0) → Q (.inl (some (.int 1))) h))
theorem v_J10_isLatin1_0 {g : PG} {d : Nat} {l0 : Nat} {h : PH} {Q : Out → PH → Prop} (H : w_J10_isLatin1_0 g d l0 h Q) : R g d m_J10_isLatin1 0 [.ref l0] [] h Q := by
  obtain ⟨k1, H⟩ := H
  refine r_getsI (ref := "") (n := 1) dJ10_isLatin1_0 rfl q529 k1 ?_
  refine r_if_eq (tgt := 17) dJ10_isLatin1_3 rfl (fun b2 => ?_) (fun b2 => ?_)
  · replace H := H.1 b2
    refine r_iconst dJ10_isLatin1_17 rfl ?_
    exact r_zret dJ10_isLatin1_18 rfl rfl H
  · replace H := H.2 b2
    refine r_aload_n dJ10_isLatin1_6 rfl rfl ?_
    obtain ⟨k3, H⟩ := H
    refine r_getFo fr_J10_15_29 (by decide) dJ10_isLatin1_7 (by decide) k3 ?_
    refine r_if_ne (tgt := 17) dJ10_isLatin1_10 rfl (fun b4 => ?_) (fun b4 => ?_)
    · replace H := H.1 b4
      refine r_iconst dJ10_isLatin1_17 rfl ?_
      exact r_zret dJ10_isLatin1_18 rfl rfl H
    · replace H := H.2 b4
      refine r_iconst dJ10_isLatin1_13 rfl ?_
      refine r_goto (tgt := 18) dJ10_isLatin1_14 rfl ?_
      exact r_zret dJ10_isLatin1_18 rfl rfl H
theorem c_J10_isLatin1_0 {g : PG} {d : Nat} {l0 : Nat} {h : PH} {Q : Out → PH → Prop} (H : w_J10_isLatin1_0 g d l0 h Q) : C g (d + 1) m_J10_isLatin1 [.ref l0] h Q := C_of_R rfl rfl (Nat.le_of_ble_eq_true rfl) rfl (v_J10_isLatin1_0 H)
abbrev w_J10_charAt_0 (g : PG) (d : Nat) (l0 : Nat) (l1 : Int32) (h : PH) (Q : Out → PH → Prop) : Prop := ko h l0 29 ∧ C g d m_J10_isLatin1 [.ref l0] h (oI (fun v4 h3 => ((v4 = 0) → C g d m_J11_charAt [.ref (hG h3 563 l0), .int l1] h3 (oI (fun v8 h7 => narrow .char (.int v8) = .int v8 ∧ Q (.inl (some (.int v8))) h7) (fun r hx => Q (.inr r) hx))) ∧ ((¬ v4 = 0) → C g d m_J24_charAt [.ref (hG h3 563 l0), .int l1] h3 (oI (fun v11 h10 => narrow .char (.int v11) = .int v11 ∧ Q (.inl (some (.int v11))) h10) (fun r hx => Q (.inr r) hx)))) (fun r hx => Q (.inr r) hx))
theorem v_J10_charAt_0 {g : PG} {d : Nat} {l0 : Nat} {l1 : Int32} {h : PH} {Q : Out → PH → Prop} (H : w_J10_charAt_0 g d l0 l1 h Q) : R g d m_J10_charAt 0 [.ref l0, .int l1] [] h Q := by
  refine r_aload_n dJ10_charAt_0 rfl rfl ?_
  obtain ⟨k1, H⟩ := H
  obtain ⟨_, k2, k2a, k2b⟩ := ko_use (by decide) k1
  refine r_invV (y := m_J10_isLatin1) dJ10_charAt_1 rfl (lw_V q2328 q2329 q2330 q120 q2331) py_J10_isLatin1 (Nat.le_of_ble_eq_true rfl) (args := []) rfl rfl (Nat.le_of_ble_eq_true rfl) k2 k2a (k2b.trans rfl) (C.monoE H (fun o h3 _ x5 K => cont_I K (fun v4 H => ?_) (fun r HX => XR_nc rfl HX)))
  refine r_if_eq (tgt := 16) dJ10_charAt_4 rfl (fun b6 => ?_) (fun b6 => ?_)
  · replace H := H.1 b6
    refine r_aload_n dJ10_charAt_16 rfl rfl ?_
    refine r_getGo fr_J10_9_29 (by decide) dJ10_charAt_17 (by decide) (koE x5 (by decide) k1) ?_
    refine r_iload_n dJ10_charAt_20 rfl rfl ?_
    refine r_invS (y := m_J11_charAt) dJ10_charAt_21 rfl (lw_S q2938 q2939 q121 q2940) py_J11_charAt (Nat.le_of_ble_eq_true rfl) (args := [_, _]) rfl rfl (Nat.le_of_ble_eq_true rfl) (C.monoE H (fun o h7 _ x9 K => cont_I K (fun v8 H => ?_) (fun r HX => XR_nc rfl HX)))
    exact r_zret dJ10_charAt_24 rfl H.1 H.2
  · replace H := H.2 b6
    refine r_aload_n dJ10_charAt_7 rfl rfl ?_
    refine r_getGo fr_J10_9_29 (by decide) dJ10_charAt_8 (by decide) (koE x5 (by decide) k1) ?_
    refine r_iload_n dJ10_charAt_11 rfl rfl ?_
    refine r_invS (y := m_J24_charAt) dJ10_charAt_12 rfl (lw_S q2934 q2935 q137 q2936) py_J24_charAt (Nat.le_of_ble_eq_true rfl) (args := [_, _]) rfl rfl (Nat.le_of_ble_eq_true rfl) (C.monoE H (fun o h10 _ x12 K => cont_I K (fun v11 H => ?_) (fun r HX => XR_nc rfl HX)))
    exact r_zret dJ10_charAt_15 rfl H.1 H.2
theorem c_J10_charAt_0 {g : PG} {d : Nat} {l0 : Nat} {l1 : Int32} {h : PH} {Q : Out → PH → Prop} (H : w_J10_charAt_0 g d l0 l1 h Q) : C g (d + 1) m_J10_charAt [.ref l0, .int l1] h Q := C_of_R rfl rfl (Nat.le_of_ble_eq_true rfl) rfl (v_J10_charAt_0 H)
abbrev w_J10_isEmpty_0 (g : PG) (d : Nat) (l0 : Nat) (h : PH) (Q : Out → PH → Prop) : Prop := ko h l0 29 ∧ hkd h (hG h 563 l0) / 100 = 3 ∧ ((¬ (nI (hln h (hG h 563 l0))) = 0) → Q (.inl (some (.int 0))) h) ∧ (((nI (hln h (hG h 563 l0))) = 0) → Q (.inl (some (.int 1))) h)
theorem v_J10_isEmpty_0 {g : PG} {d : Nat} {l0 : Nat} {h : PH} {Q : Out → PH → Prop} (H : w_J10_isEmpty_0 g d l0 h Q) : R g d m_J10_isEmpty 0 [.ref l0] [] h Q := by
  refine r_aload_n dJ10_isEmpty_0 rfl rfl ?_
  obtain ⟨k1, H⟩ := H
  refine r_getGo fr_J10_9_29 (by decide) dJ10_isEmpty_1 (by decide) k1 ?_
  obtain ⟨k2, H⟩ := H
  refine r_alen (m := 3) dJ10_isEmpty_4 (by decide) k2 ?_
  refine r_if_ne (tgt := 12) dJ10_isEmpty_5 rfl (fun b3 => ?_) (fun b3 => ?_)
  · replace H := H.1 b3
    refine r_iconst dJ10_isEmpty_12 rfl ?_
    exact r_zret dJ10_isEmpty_13 rfl rfl H
  · replace H := H.2 b3
    refine r_iconst dJ10_isEmpty_8 rfl ?_
    refine r_goto (tgt := 13) dJ10_isEmpty_9 rfl ?_
    exact r_zret dJ10_isEmpty_13 rfl rfl H
theorem c_J10_isEmpty_0 {g : PG} {d : Nat} {l0 : Nat} {h : PH} {Q : Out → PH → Prop} (H : w_J10_isEmpty_0 g d l0 h Q) : C g (d + 1) m_J10_isEmpty [.ref l0] h Q := C_of_R rfl rfl (Nat.le_of_ble_eq_true rfl) rfl (v_J10_isEmpty_0 H)
abbrev w_J10_indexOf_0 (g : PG) (d : Nat) (l0 : Nat) (l1 : Int32) (l2 : Int32) (h : PH) (Q : Out → PH → Prop) : Prop := ko h l0 29 ∧ C g d m_J10_isLatin1 [.ref l0] h (oI (fun v4 h3 => ((v4 = 0) → C g d m_J10_length [.ref l0] h3 (oI (fun v9 h8 => C g d m_J11_indexOf [.ref (hG h3 563 l0), .int l1, .int l2, .int v9] h8 (oI (fun v12 h11 => Q (.inl (some (.int v12))) h11) (fun r hx => Q (.inr r) hx))) (fun r hx => Q (.inr r) hx))) ∧ ((¬ v4 = 0) → C g d m_J10_length [.ref l0] h3 (oI (fun v16 h15 => C g d m_J24_indexOf [.ref (hG h3 563 l0), .int l1, .int l2, .int v16] h15 (oI (fun v19 h18 => Q (.inl (some (.int v19))) h18) (fun r hx => Q (.inr r) hx))) (fun r hx => Q (.inr r) hx)))) (fun r hx => Q (.inr r) hx))
theorem v_J10_indexOf_0 {g : PG} {d : Nat} {l0 : Nat} {l1 : Int32} {l2 : Int32} {h : PH} {Q : Out → PH → Prop} (H : w_J10_indexOf_0 g d l0 l1 l2 h Q) : R g d m_J10_indexOf 0 [.ref l0, .int l1, .int l2] [] h Q := by
  refine r_aload_n dJ10_indexOf_0 rfl rfl ?_
  obtain ⟨k1, H⟩ := H
  obtain ⟨_, k2, k2a, k2b⟩ := ko_use (by decide) k1
  refine r_invV (y := m_J10_isLatin1) dJ10_indexOf_1 rfl (lw_V q2328 q2329 q2330 q120 q2331) py_J10_isLatin1 (Nat.le_of_ble_eq_true rfl) (args := []) rfl rfl (Nat.le_of_ble_eq_true rfl) k2 k2a (k2b.trans rfl) (C.monoE H (fun o h3 _ x5 K => cont_I K (fun v4 H => ?_) (fun r HX => XR_nc rfl HX)))
  refine r_if_eq (tgt := 23) dJ10_indexOf_4 rfl (fun b6 => ?_) (fun b6 => ?_)
  · replace H := H.1 b6
    refine r_aload_n dJ10_indexOf_23 rfl rfl ?_
    refine r_getGo fr_J10_9_29 (by decide) dJ10_indexOf_24 (by decide) (koE x5 (by decide) k1) ?_
    refine r_iload_n dJ10_indexOf_27 rfl rfl ?_
    refine r_iload_n dJ10_indexOf_28 rfl rfl ?_
    refine r_aload_n dJ10_indexOf_29 rfl rfl ?_
    obtain ⟨_, k7, k7a, k7b⟩ := ko_use (by decide) (koE x5 (by decide) k1)
    refine r_invV (y := m_J10_length) dJ10_indexOf_30 rfl (lw_V q3566 q522 q523 q120 q524) py_J10_length (Nat.le_of_ble_eq_true rfl) (args := []) rfl rfl (Nat.le_of_ble_eq_true rfl) k7 k7a (k7b.trans rfl) (C.monoE H (fun o h8 _ x10 K => cont_I K (fun v9 H => ?_) (fun r HX => XR_nc rfl HX)))
    refine r_invS (y := m_J11_indexOf) dJ10_indexOf_33 rfl (lw_S q3577 q3578 q121 q3579) py_J11_indexOf (Nat.le_of_ble_eq_true rfl) (args := [_, _, _, _]) rfl rfl (Nat.le_of_ble_eq_true rfl) (C.monoE H (fun o h11 _ x13 K => cont_I K (fun v12 H => ?_) (fun r HX => XR_nc rfl HX)))
    exact r_iret dJ10_indexOf_36 rfl H
  · replace H := H.2 b6
    refine r_aload_n dJ10_indexOf_7 rfl rfl ?_
    refine r_getGo fr_J10_9_29 (by decide) dJ10_indexOf_8 (by decide) (koE x5 (by decide) k1) ?_
    refine r_iload_n dJ10_indexOf_11 rfl rfl ?_
    refine r_iload_n dJ10_indexOf_12 rfl rfl ?_
    refine r_aload_n dJ10_indexOf_13 rfl rfl ?_
    obtain ⟨_, k14, k14a, k14b⟩ := ko_use (by decide) (koE x5 (by decide) k1)
    refine r_invV (y := m_J10_length) dJ10_indexOf_14 rfl (lw_V q3566 q522 q523 q120 q524) py_J10_length (Nat.le_of_ble_eq_true rfl) (args := []) rfl rfl (Nat.le_of_ble_eq_true rfl) k14 k14a (k14b.trans rfl) (C.monoE H (fun o h15 _ x17 K => cont_I K (fun v16 H => ?_) (fun r HX => XR_nc rfl HX)))
    refine r_invS (y := m_J24_indexOf) dJ10_indexOf_17 rfl (lw_S q3567 q3568 q137 q3569) py_J24_indexOf (Nat.le_of_ble_eq_true rfl) (args := [_, _, _, _]) rfl rfl (Nat.le_of_ble_eq_true rfl) (C.monoE H (fun o h18 _ x20 K => cont_I K (fun v19 H => ?_) (fun r HX => XR_nc rfl HX)))
    refine r_goto (tgt := 36) dJ10_indexOf_20 rfl ?_
    exact r_iret dJ10_indexOf_36 rfl H
theorem c_J10_indexOf_0 {g : PG} {d : Nat} {l0 : Nat} {l1 : Int32} {l2 : Int32} {h : PH} {Q : Out → PH → Prop} (H : w_J10_indexOf_0 g d l0 l1 l2 h Q) : C g (d + 1) m_J10_indexOf [.ref l0, .int l1, .int l2] h Q := C_of_R rfl rfl (Nat.le_of_ble_eq_true rfl) rfl (v_J10_indexOf_0 H)
abbrev w_J10_substring_22 (g : PG) (d : Nat) (l0 : Nat) (l1 : Int32) (l2 : Int32) (h : PH) (Q : Out → PH → Prop) : Prop := ko h l0 29 ∧ C g d m_J10_isLatin1 [.ref l0] h (oI (fun v4 h3 => ((v4 = 0) → C g d m_J11_newString [.ref (hG h3 563 l0), .int l1, .int (l2 - l1)] h3 (oR (fun v8 h7 => Q (.inl (some (.ref v8))) h7) (fun r hx => Q (.inr r) hx))) ∧ ((¬ v4 = 0) → C g d m_J24_newString [.ref (hG h3 563 l0), .int l1, .int (l2 - l1)] h3 (oR (fun v11 h10 => Q (.inl (some (.ref v11))) h10) (fun r hx => Q (.inr r) hx)))) (fun r hx => Q (.inr r) hx))
theorem v_J10_substring_22 {g : PG} {d : Nat} {l0 : Nat} {l1 : Int32} {l2 : Int32} {h : PH} {Q : Out → PH → Prop} (H : w_J10_substring_22 g d l0 l1 l2 h Q) : R g d m_J10_substring 22 [.ref l0, .int l1, .int l2, .null, .null] [] h Q := by
  refine r_iload_n dJ10_substring_22 rfl rfl ?_
  refine r_iload_n dJ10_substring_23 rfl rfl ?_
  refine r_isub dJ10_substring_24 ?_
  refine r_istore dJ10_substring_25 (Nat.le_of_ble_eq_true rfl) rfl (slS (slS (slS (slS sl0)))) ?_
  refine r_aload_n dJ10_substring_27 rfl rfl ?_
  obtain ⟨k1, H⟩ := H
  obtain ⟨_, k2, k2a, k2b⟩ := ko_use (by decide) k1
  refine r_invV (y := m_J10_isLatin1) dJ10_substring_28 rfl (lw_V q2328 q2329 q2330 q120 q2331) py_J10_isLatin1 (Nat.le_of_ble_eq_true rfl) (args := []) rfl rfl (Nat.le_of_ble_eq_true rfl) k2 k2a (k2b.trans rfl) (C.monoE H (fun o h3 _ x5 K => cont_I K (fun v4 H => ?_) (fun r HX => XR_nc rfl HX)))
  refine r_if_eq (tgt := 47) dJ10_substring_31 rfl (fun b6 => ?_) (fun b6 => ?_)
  · replace H := H.1 b6
    refine r_aload_n dJ10_substring_47 rfl rfl ?_
    refine r_getGo fr_J10_9_29 (by decide) dJ10_substring_48 (by decide) (koE x5 (by decide) k1) ?_
    refine r_iload_n dJ10_substring_51 rfl rfl ?_
    refine r_iload dJ10_substring_52 rfl ?_
    refine r_invS (y := m_J11_newString) dJ10_substring_54 rfl (lw_S q3617 q3618 q121 q3619) py_J11_newString (Nat.le_of_ble_eq_true rfl) (args := [_, _, _]) rfl rfl (Nat.le_of_ble_eq_true rfl) (C.monoE H (fun o h7 _ x9 K => cont_R K (fun v8 H => ?_) (fun r HX => XR_nc rfl HX)))
    exact r_aret dJ10_substring_57 rfl H
  · replace H := H.2 b6
    refine r_aload_n dJ10_substring_34 rfl rfl ?_
    refine r_getGo fr_J10_9_29 (by decide) dJ10_substring_35 (by decide) (koE x5 (by decide) k1) ?_
    refine r_iload_n dJ10_substring_38 rfl rfl ?_
    refine r_iload dJ10_substring_39 rfl ?_
    refine r_invS (y := m_J24_newString) dJ10_substring_41 rfl (lw_S q3608 q3609 q137 q3610) py_J24_newString (Nat.le_of_ble_eq_true rfl) (args := [_, _, _]) rfl rfl (Nat.le_of_ble_eq_true rfl) (C.monoE H (fun o h10 _ x12 K => cont_R K (fun v11 H => ?_) (fun r HX => XR_nc rfl HX)))
    refine r_goto (tgt := 57) dJ10_substring_44 rfl ?_
    exact r_aret dJ10_substring_57 rfl H
abbrev w_J10_substring_0 (g : PG) (d : Nat) (l0 : Nat) (l1 : Int32) (l2 : Int32) (h : PH) (Q : Out → PH → Prop) : Prop := ko h l0 29 ∧ C g d m_J10_length [.ref l0] h (oI (fun v4 h3 => C g d m_J10_checkBoundsBeginEnd [.int l1, .int l2, .int v4] h3 (oV (fun h6 => ((¬ l1 = 0) → w_J10_substring_22 g d l0 l1 l2 h6 Q) ∧ ((l1 = 0) → ((¬ l2 = v4) → w_J10_substring_22 g d l0 l1 l2 h6 Q) ∧ ((l2 = v4) → Q (.inl (some (.ref l0))) h6))) (fun r hx => Q (.inr r) hx))) (fun r hx => Q (.inr r) hx))
theorem v_J10_substring_0 {g : PG} {d : Nat} {l0 : Nat} {l1 : Int32} {l2 : Int32} {h : PH} {Q : Out → PH → Prop} (H : w_J10_substring_0 g d l0 l1 l2 h Q) : R g d m_J10_substring 0 [.ref l0, .int l1, .int l2, .null, .null] [] h Q := by
  refine r_aload_n dJ10_substring_0 rfl rfl ?_
  obtain ⟨k1, H⟩ := H
  obtain ⟨_, k2, k2a, k2b⟩ := ko_use (by decide) k1
  refine r_invV (y := m_J10_length) dJ10_substring_1 rfl (lw_V q3566 q522 q523 q120 q524) py_J10_length (Nat.le_of_ble_eq_true rfl) (args := []) rfl rfl (Nat.le_of_ble_eq_true rfl) k2 k2a (k2b.trans rfl) (C.monoE H (fun o h3 _ x5 K => cont_I K (fun v4 H => ?_) (fun r HX => XR_nc rfl HX)))
  refine r_istore_n dJ10_substring_4 rfl (Nat.le_of_ble_eq_true rfl) rfl (slS (slS (slS sl0))) ?_
  refine r_iload_n dJ10_substring_5 rfl rfl ?_
  refine r_iload_n dJ10_substring_6 rfl rfl ?_
  refine r_iload_n dJ10_substring_7 rfl rfl ?_
  refine r_invS (y := m_J10_checkBoundsBeginEnd) dJ10_substring_8 rfl (lw_S q3607 q505 q120 q506) py_J10_checkBoundsBeginEnd (Nat.le_of_ble_eq_true rfl) (args := [_, _, _]) rfl rfl (Nat.le_of_ble_eq_true rfl) (C.monoE H (fun o h6 _ x8 K => cont_V K (fun H => ?_) (fun r HX => XR_nc rfl HX)))
  refine r_iload_n dJ10_substring_11 rfl rfl ?_
  refine r_if_ne (tgt := 22) dJ10_substring_12 rfl (fun b9 => ?_) (fun b9 => ?_)
  · replace H := H.1 b9
    exact R.forget (v_J10_substring_22 H) ⟨Or.inl rfl, ⟨Or.inl rfl, ⟨Or.inl rfl, ⟨Or.inr rfl, ⟨Or.inl rfl, trivial⟩⟩⟩⟩⟩
  · replace H := H.2 b9
    refine r_iload_n dJ10_substring_15 rfl rfl ?_
    refine r_iload_n dJ10_substring_16 rfl rfl ?_
    refine r_icmp_ne (tgt := 22) dJ10_substring_17 rfl (fun b10 => ?_) (fun b10 => ?_)
    · replace H := H.1 b10
      exact R.forget (v_J10_substring_22 H) ⟨Or.inl rfl, ⟨Or.inl rfl, ⟨Or.inl rfl, ⟨Or.inr rfl, ⟨Or.inl rfl, trivial⟩⟩⟩⟩⟩
    · replace H := H.2 b10
      refine r_aload_n dJ10_substring_20 rfl rfl ?_
      exact r_aret dJ10_substring_21 rfl H
theorem c_J10_substring_0 {g : PG} {d : Nat} {l0 : Nat} {l1 : Int32} {l2 : Int32} {h : PH} {Q : Out → PH → Prop} (H : w_J10_substring_0 g d l0 l1 l2 h Q) : C g (d + 1) m_J10_substring [.ref l0, .int l1, .int l2] h Q := C_of_R rfl rfl (Nat.le_of_ble_eq_true rfl) rfl (v_J10_substring_0 H)
abbrev w_J10_init_3_0 (g : PG) (d : Nat) (l0 : Nat) (l1 : Nat) (l2 : Int32) (h : PH) (Q : Out → PH → Prop) : Prop := 0 < l0 ∧ hkd h l0 = 29 ∧ ∀ h3, h3 = setG 563 l0 l1 h → hkd h3 l0 = 29 ∧ narrow .byte (.int l2) = .int l2 ∧ fits .byte (.int l2) = true ∧ ∀ h5, h5 = setF 53 l0 l2 h3 → Q (.inl none) h5
theorem v_J10_init_3_0 {g : PG} {d : Nat} {l0 : Nat} {l1 : Nat} {l2 : Int32} {h : PH} {Q : Out → PH → Prop} (H : w_J10_init_3_0 g d l0 l1 l2 h Q) : R g d m_J10_init_3 0 [.ref l0, .ref l1, .int l2] [] h Q := by
  refine r_aload_n dJ10_init_3_0 rfl rfl ?_
  obtain ⟨k1, H⟩ := H
  refine r_oinit dJ10_init_3_1 q601 q182 q183 k1 (Nat.le_of_ble_eq_true rfl) ?_
  refine r_aload_n dJ10_init_3_4 rfl rfl ?_
  refine r_aload_n dJ10_init_3_5 rfl rfl ?_
  obtain ⟨k2, H⟩ := H
  replace H := H _ rfl
  refine r_putG fw_J10_9_29_i (by decide) dJ10_init_3_6 k2 (by decide) rfl ?_
  refine r_aload_n dJ10_init_3_9 rfl rfl ?_
  refine r_iload_n dJ10_init_3_10 rfl rfl ?_
  obtain ⟨k4, H⟩ := H
  obtain ⟨k6, H⟩ := H
  obtain ⟨k7, H⟩ := H
  replace H := H _ rfl
  refine r_putF fw_J10_15_29_i (by decide) dJ10_init_3_11 k4 (by decide) k6 k7 ?_
  exact r_vret dJ10_init_3_14 rfl H
theorem c_J10_init_3_0 {g : PG} {d : Nat} {l0 : Nat} {l1 : Nat} {l2 : Int32} {h : PH} {Q : Out → PH → Prop} (H : w_J10_init_3_0 g d l0 l1 l2 h Q) : C g (d + 1) m_J10_init_3 [.ref l0, .ref l1, .int l2] h Q := C_of_R rfl rfl (Nat.le_of_ble_eq_true rfl) rfl (v_J10_init_3_0 H)
abbrev w_J11_getChars_0 (g : PG) (d : Nat) (l0 : Int32) (l1 : Int32) (l2 : Int32) (l3 : Nat) (h : PH) (Q : Out → PH → Prop) : Prop := C g d m_J11_checkBoundsBeginEnd [.int l1, .int l2, .ref l3] h (oV (fun h1 => C g d m_J11_getChars_2 [.int l0, .int l2, .ref l3] h1 (oI (fun v5 h4 => isSI g 3 ∧ ((¬ (sI g 3) = 0) → Q (.inl (some (.int v5))) h4) ∧ (((sI g 3) = 0) → ((l1 = v5) → Q (.inl (some (.int v5))) h4) ∧ ((¬ l1 = v5) → False))) (fun r hx => Q (.inr r) hx))) (fun r hx => Q (.inr r) hx))
theorem v_J11_getChars_0 {g : PG} {d : Nat} {l0 : Int32} {l1 : Int32} {l2 : Int32} {l3 : Nat} {h : PH} {Q : Out → PH → Prop} (H : w_J11_getChars_0 g d l0 l1 l2 l3 h Q) : R g d m_J11_getChars 0 [.int l0, .int l1, .int l2, .ref l3, .null] [] h Q := by
  refine r_iload_n dJ11_getChars_0 rfl rfl ?_
  refine r_iload_n dJ11_getChars_1 rfl rfl ?_
  refine r_aload_n dJ11_getChars_2 rfl rfl ?_
  refine r_invS (y := m_J11_checkBoundsBeginEnd) dJ11_getChars_3 rfl (lw_S q498 q499 q121 q500) py_J11_checkBoundsBeginEnd (Nat.le_of_ble_eq_true rfl) (args := [_, _, _]) rfl rfl (Nat.le_of_ble_eq_true rfl) (C.monoE H (fun o h1 _ x3 K => cont_V K (fun H => ?_) (fun r HX => XR_nc rfl HX)))
  refine r_iload_n dJ11_getChars_6 rfl rfl ?_
  refine r_iload_n dJ11_getChars_7 rfl rfl ?_
  refine r_aload_n dJ11_getChars_8 rfl rfl ?_
  refine r_invS (y := m_J11_getChars_2) dJ11_getChars_9 rfl (lw_S q584 q585 q121 q586) py_J11_getChars_2 (Nat.le_of_ble_eq_true rfl) (args := [_, _, _]) rfl rfl (Nat.le_of_ble_eq_true rfl) (C.monoE H (fun o h4 _ x6 K => cont_I K (fun v5 H => ?_) (fun r HX => XR_nc rfl HX)))
  refine r_istore dJ11_getChars_12 (Nat.le_of_ble_eq_true rfl) rfl (slS (slS (slS (slS sl0)))) ?_
  obtain ⟨k7, H⟩ := H
  refine r_getsI (ref := "") (n := 3) dJ11_getChars_14 rfl q515 k7 ?_
  refine r_if_ne (tgt := 34) dJ11_getChars_17 rfl (fun b8 => ?_) (fun b8 => ?_)
  · replace H := H.1 b8
    refine r_iload dJ11_getChars_34 rfl ?_
    exact r_iret dJ11_getChars_36 rfl H
  · replace H := H.2 b8
    refine r_iload_n dJ11_getChars_20 rfl rfl ?_
    refine r_iload dJ11_getChars_21 rfl ?_
    refine r_icmp_eq (tgt := 34) dJ11_getChars_23 rfl (fun b9 => ?_) (fun b9 => ?_)
    · replace H := H.1 b9
      refine r_iload dJ11_getChars_34 rfl ?_
      exact r_iret dJ11_getChars_36 rfl H
    · replace H := H.2 b9
      exact H.elim
theorem c_J11_getChars_0 {g : PG} {d : Nat} {l0 : Int32} {l1 : Int32} {l2 : Int32} {l3 : Nat} {h : PH} {Q : Out → PH → Prop} (H : w_J11_getChars_0 g d l0 l1 l2 l3 h Q) : C g (d + 1) m_J11_getChars [.int l0, .int l1, .int l2, .ref l3] h Q := C_of_R rfl rfl (Nat.le_of_ble_eq_true rfl) rfl (v_J11_getChars_0 H)
abbrev w_J12_init_4_k7_41 (g : PG) (d : Nat) (l0 : Nat) (l1 : Nat) (l2 : Nat) (l3 : Int32) (h : PH) (Q : Out → PH → Prop) : Prop := hkd h l0 = 7 ∧ ∀ h2, h2 = setG 517 l0 l1 h → ∀ h3, h3 = setG 514 l0 l2 h2 → ((¬ l3 = 0) → Q (.inl none) h3) ∧ ((l3 = 0) → ∀ h5, h5 = setG 516 l0 (0 : Nat) h3 → Q (.inl none) h5)
theorem v_J12_init_4_k7_41 {g : PG} {d : Nat} {l0 : Nat} {l1 : Nat} {l2 : Nat} {l3 : Int32} {h : PH} {Q : Out → PH → Prop} (H : w_J12_init_4_k7_41 g d l0 l1 l2 l3 h Q) : R g d m_J12_init_4 41 [.ref l0, .ref l1, .ref l2, .int l3, .null] [] h Q := by
  refine r_aload_n dJ12_init_4_41 rfl rfl ?_
  refine r_aload_n dJ12_init_4_42 rfl rfl ?_
  obtain ⟨k1, H⟩ := H
  replace H := H _ rfl
  refine r_putG fw_J12_31_7_i (by decide) dJ12_init_4_43 k1 (by decide) rfl ?_
  refine r_aload_n dJ12_init_4_46 rfl rfl ?_
  refine r_aload_n dJ12_init_4_47 rfl rfl ?_
  replace H := H _ rfl
  refine r_putG fw_J12_7_7_i (by decide) dJ12_init_4_48 k1 (by decide) rfl ?_
  refine r_iload_n dJ12_init_4_51 rfl rfl ?_
  refine r_if_ne (tgt := 60) dJ12_init_4_52 rfl (fun b4 => ?_) (fun b4 => ?_)
  · replace H := H.1 b4
    exact r_vret dJ12_init_4_60 rfl H
  · replace H := H.2 b4
    refine r_aload_n dJ12_init_4_55 rfl rfl ?_
    refine r_null dJ12_init_4_56 ?_
    replace H := H _ rfl
    refine r_putG fw_J12_24_7_i (by decide) dJ12_init_4_57 k1 (by decide) rfl ?_
    exact r_vret dJ12_init_4_60 rfl H
abbrev w_J12_init_4_k7_0 (g : PG) (d : Nat) (l0 : Nat) (l1 : Nat) (l2 : Nat) (l3 : Int32) (l4 : Int32) (h : PH) (Q : Out → PH → Prop) : Prop := 0 < l0 ∧ hkd h l0 = 7 ∧ ∀ h3, h3 = setG 514 l0 l0 h → isSR g 8 ∧ ∀ h5, h5 = setG 515 l0 (sR g 8) h3 → isSR g 9 ∧ ∀ h7, h7 = setG 516 l0 (sR g 9) h5 → ((l4 = 0) → ∀ h9, h9 = setG 515 l0 (0 : Nat) h7 → w_J12_init_4_k7_41 g d l0 l1 l2 l3 h9 Q) ∧ ((¬ l4 = 0) → False)
theorem v_J12_init_4_k7_0 {g : PG} {d : Nat} {l0 : Nat} {l1 : Nat} {l2 : Nat} {l3 : Int32} {l4 : Int32} {h : PH} {Q : Out → PH → Prop} (H : w_J12_init_4_k7_0 g d l0 l1 l2 l3 l4 h Q) : R g d m_J12_init_4 0 [.ref l0, .ref l1, .ref l2, .int l3, .int l4] [] h Q := by
  refine r_aload_n dJ12_init_4_0 rfl rfl ?_
  obtain ⟨k1, H⟩ := H
  refine r_oinit dJ12_init_4_1 q650 q182 q183 k1 (Nat.le_of_ble_eq_true rfl) ?_
  refine r_aload_n dJ12_init_4_4 rfl rfl ?_
  refine r_aload_n dJ12_init_4_5 rfl rfl ?_
  obtain ⟨k2, H⟩ := H
  replace H := H _ rfl
  refine r_putG fw_J12_7_7_i (by decide) dJ12_init_4_6 k2 (by decide) rfl ?_
  refine r_aload_n dJ12_init_4_9 rfl rfl ?_
  obtain ⟨k4, H⟩ := H
  refine r_getsR (ref := "") (n := 8) dJ12_init_4_10 rfl q651 k4 ?_
  replace H := H _ rfl
  refine r_putG fw_J12_17_7_i (by decide) dJ12_init_4_13 k2 (by decide) rfl ?_
  refine r_aload_n dJ12_init_4_16 rfl rfl ?_
  obtain ⟨k6, H⟩ := H
  refine r_getsR (ref := "") (n := 9) dJ12_init_4_17 rfl q653 k6 ?_
  replace H := H _ rfl
  refine r_putG fw_J12_24_7_i (by decide) dJ12_init_4_20 k2 (by decide) rfl ?_
  refine r_iload dJ12_init_4_23 rfl ?_
  refine r_if_eq (tgt := 36) dJ12_init_4_25 rfl (fun b8 => ?_) (fun b8 => ?_)
  · replace H := H.1 b8
    refine r_aload_n dJ12_init_4_36 rfl rfl ?_
    refine r_null dJ12_init_4_37 ?_
    replace H := H _ rfl
    refine r_putG fw_J12_17_7_i (by decide) dJ12_init_4_38 k2 (by decide) rfl ?_
    exact R.forget (v_J12_init_4_k7_41 H) ⟨Or.inl rfl, ⟨Or.inl rfl, ⟨Or.inl rfl, ⟨Or.inl rfl, ⟨Or.inr rfl, trivial⟩⟩⟩⟩⟩
  · replace H := H.2 b8
    exact H.elim
theorem c_J12_init_4_k7_0 {g : PG} {d : Nat} {l0 : Nat} {l1 : Nat} {l2 : Nat} {l3 : Int32} {l4 : Int32} {h : PH} {Q : Out → PH → Prop} (H : w_J12_init_4_k7_0 g d l0 l1 l2 l3 l4 h Q) : C g (d + 1) m_J12_init_4 [.ref l0, .ref l1, .ref l2, .int l3, .int l4] h Q := C_of_R rfl rfl (Nat.le_of_ble_eq_true rfl) rfl (v_J12_init_4_k7_0 H)
abbrev w_J12_init_4_k8_41 (g : PG) (d : Nat) (l0 : Nat) (l1 : Nat) (l2 : Nat) (l3 : Int32) (h : PH) (Q : Out → PH → Prop) : Prop := hkd h l0 = 8 ∧ ∀ h2, h2 = setG 517 l0 l1 h → ∀ h3, h3 = setG 514 l0 l2 h2 → ((¬ l3 = 0) → Q (.inl none) h3) ∧ ((l3 = 0) → ∀ h5, h5 = setG 516 l0 (0 : Nat) h3 → Q (.inl none) h5)
theorem v_J12_init_4_k8_41 {g : PG} {d : Nat} {l0 : Nat} {l1 : Nat} {l2 : Nat} {l3 : Int32} {h : PH} {Q : Out → PH → Prop} (H : w_J12_init_4_k8_41 g d l0 l1 l2 l3 h Q) : R g d m_J12_init_4 41 [.ref l0, .ref l1, .ref l2, .int l3, .null] [] h Q := by
  refine r_aload_n dJ12_init_4_41 rfl rfl ?_
  refine r_aload_n dJ12_init_4_42 rfl rfl ?_
  obtain ⟨k1, H⟩ := H
  replace H := H _ rfl
  refine r_putG fw_J12_31_8_i (by decide) dJ12_init_4_43 k1 (by decide) rfl ?_
  refine r_aload_n dJ12_init_4_46 rfl rfl ?_
  refine r_aload_n dJ12_init_4_47 rfl rfl ?_
  replace H := H _ rfl
  refine r_putG fw_J12_7_8_i (by decide) dJ12_init_4_48 k1 (by decide) rfl ?_
  refine r_iload_n dJ12_init_4_51 rfl rfl ?_
  refine r_if_ne (tgt := 60) dJ12_init_4_52 rfl (fun b4 => ?_) (fun b4 => ?_)
  · replace H := H.1 b4
    exact r_vret dJ12_init_4_60 rfl H
  · replace H := H.2 b4
    refine r_aload_n dJ12_init_4_55 rfl rfl ?_
    refine r_null dJ12_init_4_56 ?_
    replace H := H _ rfl
    refine r_putG fw_J12_24_8_i (by decide) dJ12_init_4_57 k1 (by decide) rfl ?_
    exact r_vret dJ12_init_4_60 rfl H
abbrev w_J12_init_4_k8_0 (g : PG) (d : Nat) (l0 : Nat) (l1 : Nat) (l2 : Nat) (l3 : Int32) (l4 : Int32) (h : PH) (Q : Out → PH → Prop) : Prop := 0 < l0 ∧ hkd h l0 = 8 ∧ ∀ h3, h3 = setG 514 l0 l0 h → isSR g 8 ∧ ∀ h5, h5 = setG 515 l0 (sR g 8) h3 → isSR g 9 ∧ ∀ h7, h7 = setG 516 l0 (sR g 9) h5 → ((l4 = 0) → ∀ h9, h9 = setG 515 l0 (0 : Nat) h7 → w_J12_init_4_k8_41 g d l0 l1 l2 l3 h9 Q) ∧ ((¬ l4 = 0) → False)
theorem v_J12_init_4_k8_0 {g : PG} {d : Nat} {l0 : Nat} {l1 : Nat} {l2 : Nat} {l3 : Int32} {l4 : Int32} {h : PH} {Q : Out → PH → Prop} (H : w_J12_init_4_k8_0 g d l0 l1 l2 l3 l4 h Q) : R g d m_J12_init_4 0 [.ref l0, .ref l1, .ref l2, .int l3, .int l4] [] h Q := by
  refine r_aload_n dJ12_init_4_0 rfl rfl ?_
  obtain ⟨k1, H⟩ := H
  refine r_oinit dJ12_init_4_1 q650 q182 q183 k1 (Nat.le_of_ble_eq_true rfl) ?_
  refine r_aload_n dJ12_init_4_4 rfl rfl ?_
  refine r_aload_n dJ12_init_4_5 rfl rfl ?_
  obtain ⟨k2, H⟩ := H
  replace H := H _ rfl
  refine r_putG fw_J12_7_8_i (by decide) dJ12_init_4_6 k2 (by decide) rfl ?_
  refine r_aload_n dJ12_init_4_9 rfl rfl ?_
  obtain ⟨k4, H⟩ := H
  refine r_getsR (ref := "") (n := 8) dJ12_init_4_10 rfl q651 k4 ?_
  replace H := H _ rfl
  refine r_putG fw_J12_17_8_i (by decide) dJ12_init_4_13 k2 (by decide) rfl ?_
  refine r_aload_n dJ12_init_4_16 rfl rfl ?_
  obtain ⟨k6, H⟩ := H
  refine r_getsR (ref := "") (n := 9) dJ12_init_4_17 rfl q653 k6 ?_
  replace H := H _ rfl
  refine r_putG fw_J12_24_8_i (by decide) dJ12_init_4_20 k2 (by decide) rfl ?_
  refine r_iload dJ12_init_4_23 rfl ?_
  refine r_if_eq (tgt := 36) dJ12_init_4_25 rfl (fun b8 => ?_) (fun b8 => ?_)
  · replace H := H.1 b8
    refine r_aload_n dJ12_init_4_36 rfl rfl ?_
    refine r_null dJ12_init_4_37 ?_
    replace H := H _ rfl
    refine r_putG fw_J12_17_8_i (by decide) dJ12_init_4_38 k2 (by decide) rfl ?_
    exact R.forget (v_J12_init_4_k8_41 H) ⟨Or.inl rfl, ⟨Or.inl rfl, ⟨Or.inl rfl, ⟨Or.inl rfl, ⟨Or.inr rfl, trivial⟩⟩⟩⟩⟩
  · replace H := H.2 b8
    exact H.elim
theorem c_J12_init_4_k8_0 {g : PG} {d : Nat} {l0 : Nat} {l1 : Nat} {l2 : Nat} {l3 : Int32} {l4 : Int32} {h : PH} {Q : Out → PH → Prop} (H : w_J12_init_4_k8_0 g d l0 l1 l2 l3 l4 h Q) : C g (d + 1) m_J12_init_4 [.ref l0, .ref l1, .ref l2, .int l3, .int l4] h Q := C_of_R rfl rfl (Nat.le_of_ble_eq_true rfl) rfl (v_J12_init_4_k8_0 H)
abbrev w_J13_init_4_0 (g : PG) (d : Nat) (l0 : Nat) (l1 : Nat) (l2 : Nat) (l3 : Int32) (l4 : Int32) (h : PH) (Q : Out → PH → Prop) : Prop := 0 < l0 ∧ C g d m_J12_init_4 [.ref l0, .ref l1, .ref l2, .int l3, .int l4] h (oV (fun h2 => Q (.inl none) h2) (fun r hx => Q (.inr r) hx))
theorem v_J13_init_4_0 {g : PG} {d : Nat} {l0 : Nat} {l1 : Nat} {l2 : Nat} {l3 : Int32} {l4 : Int32} {h : PH} {Q : Out → PH → Prop} (H : w_J13_init_4_0 g d l0 l1 l2 l3 l4 h Q) : R g d m_J13_init_4 0 [.ref l0, .ref l1, .ref l2, .int l3, .int l4] [] h Q := by
  refine r_aload_n dJ13_init_4_0 rfl rfl ?_
  refine r_aload_n dJ13_init_4_1 rfl rfl ?_
  refine r_aload_n dJ13_init_4_2 rfl rfl ?_
  refine r_iload_n dJ13_init_4_3 rfl rfl ?_
  refine r_iload dJ13_init_4_4 rfl ?_
  obtain ⟨k1, H⟩ := H
  refine r_invI (y := m_J12_init_4) dJ13_init_4_6 rfl rfl q2439 q123 q2437 q2438 rfl py_J12_init_4 (Nat.le_of_ble_eq_true rfl) (args := [_, _, _, _]) rfl rfl (Nat.le_of_ble_eq_true rfl) k1 (C.monoE H (fun o h2 _ x4 K => cont_V K (fun H => ?_) (fun r HX => XR_nc rfl HX)))
  exact r_vret dJ13_init_4_9 rfl H
theorem c_J13_init_4_0 {g : PG} {d : Nat} {l0 : Nat} {l1 : Nat} {l2 : Nat} {l3 : Int32} {l4 : Int32} {h : PH} {Q : Out → PH → Prop} (H : w_J13_init_4_0 g d l0 l1 l2 l3 l4 h Q) : C g (d + 1) m_J13_init_4 [.ref l0, .ref l1, .ref l2, .int l3, .int l4] h Q := C_of_R rfl rfl (Nat.le_of_ble_eq_true rfl) rfl (v_J13_init_4_0 H)
abbrev w_J17_init_0 (g : PG) (d : Nat) (l0 : Nat) (h : PH) (Q : Out → PH → Prop) : Prop := 0 < l0 ∧ Q (.inl none) h
theorem v_J17_init_0 {g : PG} {d : Nat} {l0 : Nat} {h : PH} {Q : Out → PH → Prop} (H : w_J17_init_0 g d l0 h Q) : R g d m_J17_init 0 [.ref l0] [] h Q := by
  refine r_aload_n dJ17_init_0 rfl rfl ?_
  obtain ⟨k1, H⟩ := H
  refine r_oinit dJ17_init_1 q2301 q182 q183 k1 (Nat.le_of_ble_eq_true rfl) ?_
  exact r_vret dJ17_init_4 rfl H
theorem c_J17_init_0 {g : PG} {d : Nat} {l0 : Nat} {h : PH} {Q : Out → PH → Prop} (H : w_J17_init_0 g d l0 h Q) : C g (d + 1) m_J17_init [.ref l0] h Q := C_of_R rfl rfl (Nat.le_of_ble_eq_true rfl) rfl (v_J17_init_0 H)
abbrev w_J18_hasNext_0 (g : PG) (d : Nat) (l0 : Nat) (h : PH) (Q : Out → PH → Prop) : Prop := hkd h l0 = 14 ∧ hkd h (hG h 532 l0) = 13 ∧ (((hF h 36 l0) = (hF h 35 (hG h 532 l0))) → Q (.inl (some (.int 0))) h) ∧ ((¬ (hF h 36 l0) = (hF h 35 (hG h 532 l0))) → Q (.inl (some (.int 1))) h)
theorem v_J18_hasNext_0 {g : PG} {d : Nat} {l0 : Nat} {h : PH} {Q : Out → PH → Prop} (H : w_J18_hasNext_0 g d l0 h Q) : R g d m_J18_hasNext 0 [.ref l0] [] h Q := by
  refine r_aload_n dJ18_hasNext_0 rfl rfl ?_
  obtain ⟨k1, H⟩ := H
  refine r_getF fr_J18_25_14 (by decide) dJ18_hasNext_1 k1 (by decide) ?_
  refine r_aload_n dJ18_hasNext_4 rfl rfl ?_
  refine r_getG fr_J18_1_14 (by decide) dJ18_hasNext_5 k1 (by decide) ?_
  obtain ⟨k2, H⟩ := H
  refine r_getF fr_J18_28_13 (by decide) dJ18_hasNext_8 k2 (by decide) ?_
  refine r_icmp_eq (tgt := 18) dJ18_hasNext_11 rfl (fun b3 => ?_) (fun b3 => ?_)
  · replace H := H.1 b3
    refine r_iconst dJ18_hasNext_18 rfl ?_
    exact r_zret dJ18_hasNext_19 rfl rfl H
  · replace H := H.2 b3
    refine r_iconst dJ18_hasNext_14 rfl ?_
    refine r_goto (tgt := 19) dJ18_hasNext_15 rfl ?_
    exact r_zret dJ18_hasNext_19 rfl rfl H
theorem c_J18_hasNext_0 {g : PG} {d : Nat} {l0 : Nat} {h : PH} {Q : Out → PH → Prop} (H : w_J18_hasNext_0 g d l0 h Q) : C g (d + 1) m_J18_hasNext [.ref l0] h Q := C_of_R rfl rfl (Nat.le_of_ble_eq_true rfl) rfl (v_J18_hasNext_0 H)
abbrev w_J18_next_0 (g : PG) (d : Nat) (l0 : Nat) (h : PH) (Q : Out → PH → Prop) : Prop := hkd h l0 = 14 ∧ C g d m_J18_checkForComodification [.ref l0] h (oV (fun h2 => hkd h2 (hG h2 532 l0) = 13 ∧ (((hF h2 36 l0) < (hF h2 35 (hG h2 532 l0))) → hkd h2 (hG h2 531 (hG h2 532 l0)) / 100 = 6 ∧ (((hF h2 36 l0) < (nI (hln h2 (hG h2 531 (hG h2 532 l0))))) → ∀ h9, h9 = setF 36 l0 ((hF h2 36 l0) + (1 : Int32)) h2 → ∀ h10, h10 = setF 37 l0 (hF h2 36 l0) h9 → hkd h10 (hG h2 531 (hG h2 532 l0)) / 100 = 6 ∧ vp_in (hF h2 36 l0) (hln h10 (hG h2 531 (hG h2 532 l0))) ∧ Q (.inl (some (.ref (hB h10 (hG h2 531 (hG h2 532 l0)) (hF h2 36 l0).toNatClampNeg)))) h10) ∧ ((¬ (hF h2 36 l0) < (nI (hln h2 (hG h2 531 (hG h2 532 l0))))) → False)) ∧ ((¬ (hF h2 36 l0) < (hF h2 35 (hG h2 532 l0))) → 5 ≤ d ∧ Q (.inr (hnx h2)) (hnew 34 0 7 h2))) (fun r hx => Q (.inr r) hx))
theorem v_J18_next_0 {g : PG} {d : Nat} {l0 : Nat} {h : PH} {Q : Out → PH → Prop} (H : w_J18_next_0 g d l0 h Q) : R g d m_J18_next 0 [.ref l0, .null, .null] [] h Q := by
  refine r_aload_n dJ18_next_0 rfl rfl ?_
  obtain ⟨k1, H⟩ := H
  refine r_invV (y := m_J18_checkForComodification) dJ18_next_1 rfl (lw_V q1172 q1173 q1174 q130 q1177) py_J18_checkForComodification (Nat.le_of_ble_eq_true rfl) (args := []) rfl rfl (Nat.le_of_ble_eq_true rfl) k1 (by decide) rfl (C.monoE H (fun o h2 _ x4 K => cont_V K (fun H => ?_) (fun r HX => XR_nc rfl HX)))
  refine r_aload_n dJ18_next_4 rfl rfl ?_
  refine r_getF fr_J18_25_14 (by decide) dJ18_next_5 (x4.kd k1 (by decide)) (by decide) ?_
  refine r_istore_n dJ18_next_8 rfl (Nat.le_of_ble_eq_true rfl) rfl (slS sl0) ?_
  refine r_iload_n dJ18_next_9 rfl rfl ?_
  refine r_aload_n dJ18_next_10 rfl rfl ?_
  refine r_getG fr_J18_1_14 (by decide) dJ18_next_11 (x4.kd k1 (by decide)) (by decide) ?_
  obtain ⟨k5, H⟩ := H
  refine r_getF fr_J18_28_13 (by decide) dJ18_next_14 k5 (by decide) ?_
  refine r_icmp_lt (tgt := 28) dJ18_next_17 rfl (fun b6 => ?_) (fun b6 => ?_)
  · replace H := H.1 b6
    refine r_aload_n dJ18_next_28 rfl rfl ?_
    refine r_getG fr_J18_1_14 (by decide) dJ18_next_29 (x4.kd k1 (by decide)) (by decide) ?_
    refine r_getG fr_J18_37_13 (by decide) dJ18_next_32 k5 (by decide) ?_
    refine r_astore_n dJ18_next_35 rfl (Nat.le_of_ble_eq_true rfl) rfl (slS (slS sl0)) ?_
    refine r_iload_n dJ18_next_36 rfl rfl ?_
    refine r_aload_n dJ18_next_37 rfl rfl ?_
    obtain ⟨k7, H⟩ := H
    refine r_alen (m := 6) dJ18_next_38 (by decide) k7 ?_
    refine r_icmp_lt (tgt := 50) dJ18_next_39 rfl (fun b8 => ?_) (fun b8 => ?_)
    · replace H := H.1 b8
      refine r_aload_n dJ18_next_50 rfl rfl ?_
      refine r_iload_n dJ18_next_51 rfl rfl ?_
      refine r_iconst dJ18_next_52 rfl ?_
      refine r_iadd dJ18_next_53 ?_
      replace H := H _ rfl
      refine r_putF fw_J18_25_14 (by decide) dJ18_next_54 (x4.kd k1 (by decide)) (by decide) rfl rfl ?_
      refine r_aload_n dJ18_next_57 rfl rfl ?_
      refine r_aload_n dJ18_next_58 rfl rfl ?_
      refine r_iload_n dJ18_next_59 rfl rfl ?_
      refine r_dup_x1 dJ18_next_60 rfl rfl ?_
      replace H := H _ rfl
      refine r_putF fw_J18_13_14 (by decide) dJ18_next_61 (x4.kd k1 (by decide)) (by decide) rfl rfl ?_
      obtain ⟨k11, H⟩ := H
      obtain ⟨k12, H⟩ := H
      refine r_aald dJ18_next_64 (m := 6) (by decide) k11 k12 ?_
      exact r_aret dJ18_next_65 rfl H
    · replace H := H.2 b8
      exact H.elim
  · replace H := H.2 b6
    exact r_throw0 (kE := 34) (names := ["java/lang/RuntimeException", "java/lang/Exception"]) (by decide) dJ18_next_20 dJ18_next_23 dJ18_next_24 dJ18_next_27 (by decide +kernel) (by decide +kernel) tw_J18_34_36 rfl H.1 (Nat.le_of_ble_eq_true rfl) H.2
theorem c_J18_next_0 {g : PG} {d : Nat} {l0 : Nat} {h : PH} {Q : Out → PH → Prop} (H : w_J18_next_0 g d l0 h Q) : C g (d + 1) m_J18_next [.ref l0] h Q := C_of_R rfl rfl (Nat.le_of_ble_eq_true rfl) rfl (v_J18_next_0 H)
abbrev w_J18_checkForComodification_0 (g : PG) (d : Nat) (l0 : Nat) (h : PH) (Q : Out → PH → Prop) : Prop := hkd h l0 = 14 ∧ hkd h (hG h 532 l0) = 13 ∧ (((hF h 34 (hG h 532 l0)) = (hF h 38 l0)) → Q (.inl none) h) ∧ ((¬ (hF h 34 (hG h 532 l0)) = (hF h 38 l0)) → False)
theorem v_J18_checkForComodification_0 {g : PG} {d : Nat} {l0 : Nat} {h : PH} {Q : Out → PH → Prop} (H : w_J18_checkForComodification_0 g d l0 h Q) : R g d m_J18_checkForComodification 0 [.ref l0] [] h Q := by
  refine r_aload_n dJ18_checkForComodification_0 rfl rfl ?_
  obtain ⟨k1, H⟩ := H
  refine r_getG fr_J18_1_14 (by decide) dJ18_checkForComodification_1 k1 (by decide) ?_
  obtain ⟨k2, H⟩ := H
  refine r_getF fr_J18_17_13 (by decide) dJ18_checkForComodification_4 k2 (by decide) ?_
  refine r_aload_n dJ18_checkForComodification_7 rfl rfl ?_
  refine r_getF fr_J18_22_14 (by decide) dJ18_checkForComodification_8 k1 (by decide) ?_
  refine r_icmp_eq (tgt := 22) dJ18_checkForComodification_11 rfl (fun b3 => ?_) (fun b3 => ?_)
  · replace H := H.1 b3
    exact r_vret dJ18_checkForComodification_22 rfl H
  · replace H := H.2 b3
    exact H.elim
theorem c_J18_checkForComodification_0 {g : PG} {d : Nat} {l0 : Nat} {h : PH} {Q : Out → PH → Prop} (H : w_J18_checkForComodification_0 g d l0 h Q) : C g (d + 1) m_J18_checkForComodification [.ref l0] h Q := C_of_R rfl rfl (Nat.le_of_ble_eq_true rfl) rfl (v_J18_checkForComodification_0 H)
abbrev w_J18_init_0 (g : PG) (d : Nat) (l0 : Nat) (l1 : Nat) (h : PH) (Q : Out → PH → Prop) : Prop := hkd h l0 = 14 ∧ ∀ h2, h2 = setG 532 l0 l1 h → 0 < l0 ∧ ∀ h4, h4 = setF 37 l0 (-1 : Int32) h2 → hkd h4 (hG h4 532 l0) = 13 ∧ ∀ h6, h6 = setF 38 l0 (hF h4 34 (hG h4 532 l0)) h4 → Q (.inl none) h6
theorem v_J18_init_0 {g : PG} {d : Nat} {l0 : Nat} {l1 : Nat} {h : PH} {Q : Out → PH → Prop} (H : w_J18_init_0 g d l0 l1 h Q) : R g d m_J18_init 0 [.ref l0, .ref l1] [] h Q := by
  refine r_aload_n dJ18_init_0 rfl rfl ?_
  refine r_aload_n dJ18_init_1 rfl rfl ?_
  obtain ⟨k1, H⟩ := H
  replace H := H _ rfl
  refine r_putG fw_J18_1_14_i (by decide) dJ18_init_2 k1 (by decide) rfl ?_
  refine r_aload_n dJ18_init_5 rfl rfl ?_
  obtain ⟨k3, H⟩ := H
  refine r_oinit dJ18_init_6 q1560 q182 q183 k3 (Nat.le_of_ble_eq_true rfl) ?_
  refine r_aload_n dJ18_init_9 rfl rfl ?_
  refine r_iconst dJ18_init_10 rfl ?_
  replace H := H _ rfl
  refine r_putF fw_J18_13_14_i (by decide) dJ18_init_11 k1 (by decide) rfl rfl ?_
  refine r_aload_n dJ18_init_14 rfl rfl ?_
  refine r_aload_n dJ18_init_15 rfl rfl ?_
  refine r_getG fr_J18_1_14 (by decide) dJ18_init_16 k1 (by decide) ?_
  obtain ⟨k5, H⟩ := H
  refine r_getF fr_J18_17_13 (by decide) dJ18_init_19 k5 (by decide) ?_
  replace H := H _ rfl
  refine r_putF fw_J18_22_14_i (by decide) dJ18_init_22 k1 (by decide) rfl rfl ?_
  exact r_vret dJ18_init_25 rfl H
theorem c_J18_init_0 {g : PG} {d : Nat} {l0 : Nat} {l1 : Nat} {h : PH} {Q : Out → PH → Prop} (H : w_J18_init_0 g d l0 l1 h Q) : C g (d + 1) m_J18_init [.ref l0, .ref l1] h Q := C_of_R rfl rfl (Nat.le_of_ble_eq_true rfl) rfl (v_J18_init_0 H)
abbrev w_J19_checkIndex_0 (g : PG) (d : Nat) (l0 : Int32) (l1 : Int32) (h : PH) (Q : Out → PH → Prop) : Prop := C g d m_J20_checkIndex [.int l0, .int l1, .ref (0 : Nat)] h (oI (fun v2 h1 => Q (.inl (some (.int v2))) h1) (fun r hx => Q (.inr r) hx))
theorem v_J19_checkIndex_0 {g : PG} {d : Nat} {l0 : Int32} {l1 : Int32} {h : PH} {Q : Out → PH → Prop} (H : w_J19_checkIndex_0 g d l0 l1 h Q) : R g d m_J19_checkIndex 0 [.int l0, .int l1] [] h Q := by
  refine r_iload_n dJ19_checkIndex_0 rfl rfl ?_
  refine r_iload_n dJ19_checkIndex_1 rfl rfl ?_
  refine r_null dJ19_checkIndex_2 ?_
  refine r_invS (y := m_J20_checkIndex) dJ19_checkIndex_3 rfl (lw_S q984 q809 q132 q810) py_J20_checkIndex (Nat.le_of_ble_eq_true rfl) (args := [_, _, _]) rfl rfl (Nat.le_of_ble_eq_true rfl) (C.monoE H (fun o h1 _ x3 K => cont_I K (fun v2 H => ?_) (fun r HX => XR_nc rfl HX)))
  exact r_iret dJ19_checkIndex_6 rfl H
theorem c_J19_checkIndex_0 {g : PG} {d : Nat} {l0 : Int32} {l1 : Int32} {h : PH} {Q : Out → PH → Prop} (H : w_J19_checkIndex_0 g d l0 l1 h Q) : C g (d + 1) m_J19_checkIndex [.int l0, .int l1] h Q := C_of_R rfl rfl (Nat.le_of_ble_eq_true rfl) rfl (v_J19_checkIndex_0 H)
abbrev w_J19_requireNonNull_0 (g : PG) (d : Nat) (l0 : Nat) (h : PH) (Q : Out → PH → Prop) : Prop := ((¬ l0 = 0) → Q (.inl (some (.ref l0))) h) ∧ ((l0 = 0) → False)
theorem v_J19_requireNonNull_0 {g : PG} {d : Nat} {l0 : Nat} {h : PH} {Q : Out → PH → Prop} (H : w_J19_requireNonNull_0 g d l0 h Q) : R g d m_J19_requireNonNull 0 [.ref l0] [] h Q := by
  refine r_aload_n dJ19_requireNonNull_0 rfl rfl ?_
  refine r_ifnonnull (tgt := 12) dJ19_requireNonNull_1 rfl (fun b1 => ?_) (fun b1 => ?_)
  · replace H := H.1 b1
    refine r_aload_n dJ19_requireNonNull_12 rfl rfl ?_
    exact r_aret dJ19_requireNonNull_13 rfl H
  · replace H := H.2 b1
    exact H.elim
theorem c_J19_requireNonNull_0 {g : PG} {d : Nat} {l0 : Nat} {h : PH} {Q : Out → PH → Prop} (H : w_J19_requireNonNull_0 g d l0 h Q) : C g (d + 1) m_J19_requireNonNull [.ref l0] h Q := C_of_R rfl rfl (Nat.le_of_ble_eq_true rfl) rfl (v_J19_requireNonNull_0 H)
abbrev w_J19_equals_0 (g : PG) (d : Nat) (l0 : Nat) (l1 : Nat) (h : PH) (Q : Out → PH → Prop) : Prop := ((l0 = l1) → Q (.inl (some (.int 1))) h) ∧ ((¬ l0 = l1) → ((l0 = 0) → Q (.inl (some (.int 0))) h) ∧ ((¬ l0 = 0) → False))
theorem v_J19_equals_0 {g : PG} {d : Nat} {l0 : Nat} {l1 : Nat} {h : PH} {Q : Out → PH → Prop} (H : w_J19_equals_0 g d l0 l1 h Q) : R g d m_J19_equals 0 [.ref l0, .ref l1] [] h Q := by
  refine r_aload_n dJ19_equals_0 rfl rfl ?_
  refine r_aload_n dJ19_equals_1 rfl rfl ?_
  refine r_acmp_eq (tgt := 17) dJ19_equals_2 rfl (fun b1 => ?_) (fun b1 => ?_)
  · replace H := H.1 b1
    refine r_iconst dJ19_equals_17 rfl ?_
    refine r_goto (tgt := 22) dJ19_equals_18 rfl ?_
    exact r_zret dJ19_equals_22 rfl rfl H
  · replace H := H.2 b1
    refine r_aload_n dJ19_equals_5 rfl rfl ?_
    refine r_ifnull (tgt := 21) dJ19_equals_6 rfl (fun b2 => ?_) (fun b2 => ?_)
    · replace H := H.1 b2
      refine r_iconst dJ19_equals_21 rfl ?_
      exact r_zret dJ19_equals_22 rfl rfl H
    · replace H := H.2 b2
      exact H.elim
theorem c_J19_equals_0 {g : PG} {d : Nat} {l0 : Nat} {l1 : Nat} {h : PH} {Q : Out → PH → Prop} (H : w_J19_equals_0 g d l0 l1 h Q) : C g (d + 1) m_J19_equals [.ref l0, .ref l1] h Q := C_of_R rfl rfl (Nat.le_of_ble_eq_true rfl) rfl (v_J19_equals_0 H)
abbrev w_J2_init_0 (g : PG) (d : Nat) (l0 : Nat) (h : PH) (Q : Out → PH → Prop) : Prop := 0 < l0 ∧ C g d m_J1_init [.ref l0] h (oV (fun h2 => isSR g 0 ∧ hkd h2 l0 = 13 ∧ ∀ h7, h7 = setG 531 l0 (sR g 0) h2 → Q (.inl none) h7) (fun r hx => Q (.inr r) hx))
theorem v_J2_init_0 {g : PG} {d : Nat} {l0 : Nat} {h : PH} {Q : Out → PH → Prop} (H : w_J2_init_0 g d l0 h Q) : R g d m_J2_init 0 [.ref l0] [] h Q := by
  refine r_aload_n dJ2_init_0 rfl rfl ?_
  obtain ⟨k1, H⟩ := H
  refine r_invI (y := m_J1_init) dJ2_init_1 rfl rfl q199 q110 q197 q198 rfl py_J1_init (Nat.le_of_ble_eq_true rfl) (args := []) rfl rfl (Nat.le_of_ble_eq_true rfl) k1 (C.monoE H (fun o h2 _ x4 K => cont_V K (fun H => ?_) (fun r HX => XR_nc rfl HX)))
  refine r_aload_n dJ2_init_4 rfl rfl ?_
  obtain ⟨k5, H⟩ := H
  refine r_getsR (ref := "") (n := 0) dJ2_init_5 rfl q204 k5 ?_
  obtain ⟨k6, H⟩ := H
  replace H := H _ rfl
  refine r_putG fw_J2_9_13_i (by decide) dJ2_init_8 k6 (by decide) rfl ?_
  exact r_vret dJ2_init_11 rfl H
theorem c_J2_init_0 {g : PG} {d : Nat} {l0 : Nat} {h : PH} {Q : Out → PH → Prop} (H : w_J2_init_0 g d l0 h Q) : C g (d + 1) m_J2_init [.ref l0] h Q := C_of_R rfl rfl (Nat.le_of_ble_eq_true rfl) rfl (v_J2_init_0 H)
abbrev w_J2_size_0 (g : PG) (d : Nat) (l0 : Nat) (h : PH) (Q : Out → PH → Prop) : Prop := hkd h l0 = 13 ∧ Q (.inl (some (.int (hF h 35 l0)))) h
theorem v_J2_size_0 {g : PG} {d : Nat} {l0 : Nat} {h : PH} {Q : Out → PH → Prop} (H : w_J2_size_0 g d l0 h Q) : R g d m_J2_size 0 [.ref l0] [] h Q := by
  refine r_aload_n dJ2_size_0 rfl rfl ?_
  obtain ⟨k1, H⟩ := H
  refine r_getF fr_J2_48_13 (by decide) dJ2_size_1 k1 (by decide) ?_
  exact r_iret dJ2_size_4 rfl H
theorem c_J2_size_0 {g : PG} {d : Nat} {l0 : Nat} {h : PH} {Q : Out → PH → Prop} (H : w_J2_size_0 g d l0 h Q) : C g (d + 1) m_J2_size [.ref l0] h Q := C_of_R rfl rfl (Nat.le_of_ble_eq_true rfl) rfl (v_J2_size_0 H)
abbrev w_J2_get_0 (g : PG) (d : Nat) (l0 : Nat) (l1 : Int32) (h : PH) (Q : Out → PH → Prop) : Prop := hkd h l0 = 13 ∧ C g d m_J19_checkIndex [.int l1, .int (hF h 35 l0)] h (oI (fun v3 h2 => C g d m_J2_elementData [.ref l0, .int l1] h2 (oR (fun v6 h5 => Q (.inl (some (.ref v6))) h5) (fun r hx => Q (.inr r) hx))) (fun r hx => Q (.inr r) hx))
theorem v_J2_get_0 {g : PG} {d : Nat} {l0 : Nat} {l1 : Int32} {h : PH} {Q : Out → PH → Prop} (H : w_J2_get_0 g d l0 l1 h Q) : R g d m_J2_get 0 [.ref l0, .int l1] [] h Q := by
  refine r_iload_n dJ2_get_0 rfl rfl ?_
  refine r_aload_n dJ2_get_1 rfl rfl ?_
  obtain ⟨k1, H⟩ := H
  refine r_getF fr_J2_48_13 (by decide) dJ2_get_2 k1 (by decide) ?_
  refine r_invS (y := m_J19_checkIndex) dJ2_get_5 rfl (lw_S q981 q982 q131 q983) py_J19_checkIndex (Nat.le_of_ble_eq_true rfl) (args := [_, _]) rfl rfl (Nat.le_of_ble_eq_true rfl) (C.monoE H (fun o h2 _ x4 K => cont_I K (fun v3 H => ?_) (fun r HX => XR_nc rfl HX)))
  refine r_pop dJ2_get_8 rfl ?_
  refine r_aload_n dJ2_get_9 rfl rfl ?_
  refine r_iload_n dJ2_get_10 rfl rfl ?_
  refine r_invV (y := m_J2_elementData) dJ2_get_11 rfl (lw_V q985 q986 q987 q111 q988) py_J2_elementData (Nat.le_of_ble_eq_true rfl) (args := [_]) rfl rfl (Nat.le_of_ble_eq_true rfl) (x4.kd k1 (by decide)) (by decide) rfl (C.monoE H (fun o h5 _ x7 K => cont_R K (fun v6 H => ?_) (fun r HX => XR_nc rfl HX)))
  exact r_aret dJ2_get_14 rfl H
theorem c_J2_get_0 {g : PG} {d : Nat} {l0 : Nat} {l1 : Int32} {h : PH} {Q : Out → PH → Prop} (H : w_J2_get_0 g d l0 l1 h Q) : C g (d + 1) m_J2_get [.ref l0, .int l1] h Q := C_of_R rfl rfl (Nat.le_of_ble_eq_true rfl) rfl (v_J2_get_0 H)
abbrev w_J2_elementData_0 (g : PG) (d : Nat) (l0 : Nat) (l1 : Int32) (h : PH) (Q : Out → PH → Prop) : Prop := hkd h l0 = 13 ∧ hkd h (hG h 531 l0) / 100 = 6 ∧ vp_in l1 (hln h (hG h 531 l0)) ∧ Q (.inl (some (.ref (hB h (hG h 531 l0) l1.toNatClampNeg)))) h
theorem v_J2_elementData_0 {g : PG} {d : Nat} {l0 : Nat} {l1 : Int32} {h : PH} {Q : Out → PH → Prop} (H : w_J2_elementData_0 g d l0 l1 h Q) : R g d m_J2_elementData 0 [.ref l0, .int l1] [] h Q := by
  refine r_aload_n dJ2_elementData_0 rfl rfl ?_
  obtain ⟨k1, H⟩ := H
  refine r_getG fr_J2_9_13 (by decide) dJ2_elementData_1 k1 (by decide) ?_
  refine r_iload_n dJ2_elementData_4 rfl rfl ?_
  obtain ⟨k2, H⟩ := H
  obtain ⟨k3, H⟩ := H
  refine r_aald dJ2_elementData_5 (m := 6) (by decide) k2 k3 ?_
  exact r_aret dJ2_elementData_6 rfl H
theorem c_J2_elementData_0 {g : PG} {d : Nat} {l0 : Nat} {l1 : Int32} {h : PH} {Q : Out → PH → Prop} (H : w_J2_elementData_0 g d l0 l1 h Q) : C g (d + 1) m_J2_elementData [.ref l0, .int l1] h Q := C_of_R rfl rfl (Nat.le_of_ble_eq_true rfl) rfl (v_J2_elementData_0 H)
abbrev w_J2_iterator_0 (g : PG) (d : Nat) (l0 : Nat) (h : PH) (Q : Out → PH → Prop) : Prop := ∀ h1, h1 = hnew 14 0 5 h → 0 < (hnx h) ∧ C g d m_J18_init [.ref (hnx h), .ref l0] h1 (oV (fun h3 => Q (.inl (some (.ref (hnx h)))) h3) (fun r hx => Q (.inr r) hx))
theorem v_J2_iterator_0 {g : PG} {d : Nat} {l0 : Nat} {h : PH} {Q : Out → PH → Prop} (H : w_J2_iterator_0 g d l0 h Q) : R g d m_J2_iterator 0 [.ref l0] [] h Q := by
  replace H := H _ rfl
  refine r_new (ci := 14) dJ2_iterator_0 rfl (by decide) q1555 q1556 q130 ?_
  refine r_dup dJ2_iterator_3 rfl ?_
  refine r_aload_n dJ2_iterator_4 rfl rfl ?_
  obtain ⟨k2, H⟩ := H
  refine r_invI (y := m_J18_init) dJ2_iterator_5 rfl rfl q1559 q130 q1557 q1558 rfl py_J18_init (Nat.le_of_ble_eq_true rfl) (args := [_]) rfl rfl (Nat.le_of_ble_eq_true rfl) k2 (C.monoE H (fun o h3 _ x5 K => cont_V K (fun H => ?_) (fun r HX => XR_nc rfl HX)))
  exact r_aret dJ2_iterator_8 rfl H
theorem c_J2_iterator_0 {g : PG} {d : Nat} {l0 : Nat} {h : PH} {Q : Out → PH → Prop} (H : w_J2_iterator_0 g d l0 h Q) : C g (d + 1) m_J2_iterator [.ref l0] h Q := C_of_R rfl rfl (Nat.le_of_ble_eq_true rfl) rfl (v_J2_iterator_0 H)
abbrev w_J2_toArray_0 (g : PG) (d : Nat) (l0 : Nat) (h : PH) (Q : Out → PH → Prop) : Prop := hkd h l0 = 13 ∧ C g d m_J23_copyOf_2 [.ref (hG h 531 l0), .int (hF h 35 l0)] h (oR (fun v3 h2 => Q (.inl (some (.ref v3))) h2) (fun r hx => Q (.inr r) hx))
theorem v_J2_toArray_0 {g : PG} {d : Nat} {l0 : Nat} {h : PH} {Q : Out → PH → Prop} (H : w_J2_toArray_0 g d l0 h Q) : R g d m_J2_toArray 0 [.ref l0] [] h Q := by
  refine r_aload_n dJ2_toArray_0 rfl rfl ?_
  obtain ⟨k1, H⟩ := H
  refine r_getG fr_J2_9_13 (by decide) dJ2_toArray_1 k1 (by decide) ?_
  refine r_aload_n dJ2_toArray_4 rfl rfl ?_
  refine r_getF fr_J2_48_13 (by decide) dJ2_toArray_5 k1 (by decide) ?_
  refine r_invS (y := m_J23_copyOf_2) dJ2_toArray_8 rfl (lw_S q1975 q1976 q135 q1977) py_J23_copyOf_2 (Nat.le_of_ble_eq_true rfl) (args := [_, _]) rfl rfl (Nat.le_of_ble_eq_true rfl) (C.monoE H (fun o h2 _ x4 K => cont_R K (fun v3 H => ?_) (fun r HX => XR_nc rfl HX)))
  exact r_aret dJ2_toArray_11 rfl H
theorem c_J2_toArray_0 {g : PG} {d : Nat} {l0 : Nat} {h : PH} {Q : Out → PH → Prop} (H : w_J2_toArray_0 g d l0 h Q) : C g (d + 1) m_J2_toArray [.ref l0] h Q := C_of_R rfl rfl (Nat.le_of_ble_eq_true rfl) rfl (v_J2_toArray_0 H)
abbrev w_J2_add_0 (g : PG) (d : Nat) (l0 : Nat) (l1 : Nat) (h : PH) (Q : Out → PH → Prop) : Prop := hkd h l0 = 13 ∧ ∀ h2, h2 = setF 34 l0 ((hF h 34 l0) + (1 : Int32)) h → C g d m_J2_add_2 [.ref l0, .ref l1, .ref (hG h2 531 l0), .int (hF h2 35 l0)] h2 (oV (fun h3 => Q (.inl (some (.int 1))) h3) (fun r hx => Q (.inr r) hx))
theorem v_J2_add_0 {g : PG} {d : Nat} {l0 : Nat} {l1 : Nat} {h : PH} {Q : Out → PH → Prop} (H : w_J2_add_0 g d l0 l1 h Q) : R g d m_J2_add 0 [.ref l0, .ref l1] [] h Q := by
  refine r_aload_n dJ2_add_0 rfl rfl ?_
  refine r_dup dJ2_add_1 rfl ?_
  obtain ⟨k1, H⟩ := H
  refine r_getF fr_J2_63_13 (by decide) dJ2_add_2 k1 (by decide) ?_
  refine r_iconst dJ2_add_5 rfl ?_
  refine r_iadd dJ2_add_6 ?_
  replace H := H _ rfl
  refine r_putF fw_J2_63_13 (by decide) dJ2_add_7 k1 (by decide) rfl rfl ?_
  refine r_aload_n dJ2_add_10 rfl rfl ?_
  refine r_aload_n dJ2_add_11 rfl rfl ?_
  refine r_aload_n dJ2_add_12 rfl rfl ?_
  refine r_getG fr_J2_9_13 (by decide) dJ2_add_13 k1 (by decide) ?_
  refine r_aload_n dJ2_add_16 rfl rfl ?_
  refine r_getF fr_J2_48_13 (by decide) dJ2_add_17 k1 (by decide) ?_
  refine r_invV (y := m_J2_add_2) dJ2_add_20 rfl (lw_V q2124 q2126 qp24 q111 q2127) py_J2_add_2 (Nat.le_of_ble_eq_true rfl) (args := [_, _, _]) rfl rfl (Nat.le_of_ble_eq_true rfl) k1 (by decide) rfl (C.monoE H (fun o h3 _ x5 K => cont_V K (fun H => ?_) (fun r HX => XR_nc rfl HX)))
  refine r_iconst dJ2_add_23 rfl ?_
  exact r_zret dJ2_add_24 rfl rfl H
theorem c_J2_add_0 {g : PG} {d : Nat} {l0 : Nat} {l1 : Nat} {h : PH} {Q : Out → PH → Prop} (H : w_J2_add_0 g d l0 l1 h Q) : C g (d + 1) m_J2_add [.ref l0, .ref l1] h Q := C_of_R rfl rfl (Nat.le_of_ble_eq_true rfl) rfl (v_J2_add_0 H)
abbrev w_J2_add_2_11 (g : PG) (d : Nat) (l0 : Nat) (l1 : Nat) (l2 : Nat) (l3 : Int32) (h : PH) (Q : Out → PH → Prop) : Prop := hkd h l2 / 100 = 6 ∧ hkd h l2 % 100 < 50 ∧ vp_in l3 (hln h l2) ∧ okA h l1 "java/lang/Object" ∧ ∀ h5, h5 = setB l2 l3.toNatClampNeg l1 h → hkd h5 l0 = 13 ∧ ∀ h7, h7 = setF 35 l0 (l3 + (1 : Int32)) h5 → Q (.inl none) h7
theorem v_J2_add_2_11 {g : PG} {d : Nat} {l0 : Nat} {l1 : Nat} {l2 : Nat} {l3 : Int32} {h : PH} {Q : Out → PH → Prop} (H : w_J2_add_2_11 g d l0 l1 l2 l3 h Q) : R g d m_J2_add_2 11 [.ref l0, .ref l1, .ref l2, .int l3] [] h Q := by
  refine r_aload_n dJ2_add_2_11 rfl rfl ?_
  refine r_iload_n dJ2_add_2_12 rfl rfl ?_
  refine r_aload_n dJ2_add_2_13 rfl rfl ?_
  obtain ⟨k1, H⟩ := H
  obtain ⟨k2, H⟩ := H
  obtain ⟨k3, H⟩ := H
  obtain ⟨k4, H⟩ := H
  replace H := H _ rfl
  refine r_aastO dJ2_add_2_14 (m := 6) (by decide) rfl k1 k2 k3 k4 ?_
  refine r_aload_n dJ2_add_2_15 rfl rfl ?_
  refine r_iload_n dJ2_add_2_16 rfl rfl ?_
  refine r_iconst dJ2_add_2_17 rfl ?_
  refine r_iadd dJ2_add_2_18 ?_
  obtain ⟨k6, H⟩ := H
  replace H := H _ rfl
  refine r_putF fw_J2_48_13 (by decide) dJ2_add_2_19 k6 (by decide) rfl rfl ?_
  exact r_vret dJ2_add_2_22 rfl H
abbrev w_J2_add_2_0 (g : PG) (d : Nat) (l0 : Nat) (l1 : Nat) (l2 : Nat) (l3 : Int32) (h : PH) (Q : Out → PH → Prop) : Prop := hkd h l2 / 100 = 6 ∧ ((¬ l3 = (nI (hln h l2))) → w_J2_add_2_11 g d l0 l1 l2 l3 h Q) ∧ ((l3 = (nI (hln h l2))) → hkd h l0 = 13 ∧ C g d m_J2_grow [.ref l0] h (oR (fun v5 h4 => w_J2_add_2_11 g d l0 l1 v5 l3 h4 Q) (fun r hx => Q (.inr r) hx)))
theorem v_J2_add_2_0 {g : PG} {d : Nat} {l0 : Nat} {l1 : Nat} {l2 : Nat} {l3 : Int32} {h : PH} {Q : Out → PH → Prop} (H : w_J2_add_2_0 g d l0 l1 l2 l3 h Q) : R g d m_J2_add_2 0 [.ref l0, .ref l1, .ref l2, .int l3] [] h Q := by
  refine r_iload_n dJ2_add_2_0 rfl rfl ?_
  refine r_aload_n dJ2_add_2_1 rfl rfl ?_
  obtain ⟨k1, H⟩ := H
  refine r_alen (m := 6) dJ2_add_2_2 (by decide) k1 ?_
  refine r_icmp_ne (tgt := 11) dJ2_add_2_3 rfl (fun b2 => ?_) (fun b2 => ?_)
  · replace H := H.1 b2
    exact v_J2_add_2_11 H
  · replace H := H.2 b2
    refine r_aload_n dJ2_add_2_6 rfl rfl ?_
    obtain ⟨k3, H⟩ := H
    refine r_invV (y := m_J2_grow) dJ2_add_2_7 rfl (lw_V q2128 q2130 qp25 q111 q2131) py_J2_grow (Nat.le_of_ble_eq_true rfl) (args := []) rfl rfl (Nat.le_of_ble_eq_true rfl) k3 (by decide) rfl (C.monoE H (fun o h4 _ x6 K => cont_R K (fun v5 H => ?_) (fun r HX => XR_nc rfl HX)))
    refine r_astore_n dJ2_add_2_10 rfl (Nat.le_of_ble_eq_true rfl) rfl (slS (slS sl0)) ?_
    exact v_J2_add_2_11 H
theorem c_J2_add_2_0 {g : PG} {d : Nat} {l0 : Nat} {l1 : Nat} {l2 : Nat} {l3 : Int32} {h : PH} {Q : Out → PH → Prop} (H : w_J2_add_2_0 g d l0 l1 l2 l3 h Q) : C g (d + 1) m_J2_add_2 [.ref l0, .ref l1, .ref l2, .int l3] h Q := C_of_R rfl rfl (Nat.le_of_ble_eq_true rfl) rfl (v_J2_add_2_0 H)
abbrev w_J2_grow_0 (g : PG) (d : Nat) (l0 : Nat) (h : PH) (Q : Out → PH → Prop) : Prop := hkd h l0 = 13 ∧ C g d m_J2_grow_2 [.ref l0, .int ((hF h 35 l0) + (1 : Int32))] h (oR (fun v3 h2 => Q (.inl (some (.ref v3))) h2) (fun r hx => Q (.inr r) hx))
theorem v_J2_grow_0 {g : PG} {d : Nat} {l0 : Nat} {h : PH} {Q : Out → PH → Prop} (H : w_J2_grow_0 g d l0 h Q) : R g d m_J2_grow 0 [.ref l0] [] h Q := by
  refine r_aload_n dJ2_grow_0 rfl rfl ?_
  refine r_aload_n dJ2_grow_1 rfl rfl ?_
  obtain ⟨k1, H⟩ := H
  refine r_getF fr_J2_48_13 (by decide) dJ2_grow_2 k1 (by decide) ?_
  refine r_iconst dJ2_grow_5 rfl ?_
  refine r_iadd dJ2_grow_6 ?_
  refine r_invV (y := m_J2_grow_2) dJ2_grow_7 rfl (lw_V q2132 q2134 qp26 q111 q2135) py_J2_grow_2 (Nat.le_of_ble_eq_true rfl) (args := [_]) rfl rfl (Nat.le_of_ble_eq_true rfl) k1 (by decide) rfl (C.monoE H (fun o h2 _ x4 K => cont_R K (fun v3 H => ?_) (fun r HX => XR_nc rfl HX)))
  exact r_aret dJ2_grow_10 rfl H
theorem c_J2_grow_0 {g : PG} {d : Nat} {l0 : Nat} {h : PH} {Q : Out → PH → Prop} (H : w_J2_grow_0 g d l0 h Q) : C g (d + 1) m_J2_grow [.ref l0] h Q := C_of_R rfl rfl (Nat.le_of_ble_eq_true rfl) rfl (v_J2_grow_0 H)
abbrev w_J2_grow_2_20 (g : PG) (d : Nat) (l0 : Nat) (l1 : Int32) (l2 : Int32) (h : PH) (Q : Out → PH → Prop) : Prop := C g d m_J21_newLength [.int l2, .int (l1 - l2), .int (l2 >>> ((1 : Int32) &&& 31))] h (oI (fun v2 h1 => hkd h1 l0 = 13 ∧ C g d m_J23_copyOf_2 [.ref (hG h1 531 l0), .int v2] h1 (oR (fun v6 h5 => ∀ h8, h8 = setG 531 l0 v6 h5 → Q (.inl (some (.ref v6))) h8) (fun r hx => Q (.inr r) hx))) (fun r hx => Q (.inr r) hx))
theorem v_J2_grow_2_20 {g : PG} {d : Nat} {l0 : Nat} {l1 : Int32} {l2 : Int32} {h : PH} {Q : Out → PH → Prop} (H : w_J2_grow_2_20 g d l0 l1 l2 h Q) : R g d m_J2_grow_2 20 [.ref l0, .int l1, .int l2, .null] [] h Q := by
  refine r_iload_n dJ2_grow_2_20 rfl rfl ?_
  refine r_iload_n dJ2_grow_2_21 rfl rfl ?_
  refine r_iload_n dJ2_grow_2_22 rfl rfl ?_
  refine r_isub dJ2_grow_2_23 ?_
  refine r_iload_n dJ2_grow_2_24 rfl rfl ?_
  refine r_iconst dJ2_grow_2_25 rfl ?_
  refine r_ishr dJ2_grow_2_26 ?_
  refine r_invS (y := m_J21_newLength) dJ2_grow_2_27 rfl (lw_S q2136 q464 q133 q465) py_J21_newLength (Nat.le_of_ble_eq_true rfl) (args := [_, _, _]) rfl rfl (Nat.le_of_ble_eq_true rfl) (C.monoE H (fun o h1 _ x3 K => cont_I K (fun v2 H => ?_) (fun r HX => XR_nc rfl HX)))
  refine r_istore_n dJ2_grow_2_30 rfl (Nat.le_of_ble_eq_true rfl) rfl (slS (slS (slS sl0))) ?_
  refine r_aload_n dJ2_grow_2_31 rfl rfl ?_
  refine r_aload_n dJ2_grow_2_32 rfl rfl ?_
  obtain ⟨k4, H⟩ := H
  refine r_getG fr_J2_9_13 (by decide) dJ2_grow_2_33 k4 (by decide) ?_
  refine r_iload_n dJ2_grow_2_36 rfl rfl ?_
  refine r_invS (y := m_J23_copyOf_2) dJ2_grow_2_37 rfl (lw_S q1975 q1976 q135 q1977) py_J23_copyOf_2 (Nat.le_of_ble_eq_true rfl) (args := [_, _]) rfl rfl (Nat.le_of_ble_eq_true rfl) (C.monoE H (fun o h5 _ x7 K => cont_R K (fun v6 H => ?_) (fun r HX => XR_nc rfl HX)))
  refine r_dup_x1 dJ2_grow_2_40 rfl rfl ?_
  replace H := H _ rfl
  refine r_putG fw_J2_9_13 (by decide) dJ2_grow_2_41 (x7.kd k4 (by decide)) (by decide) rfl ?_
  exact r_aret dJ2_grow_2_44 rfl H
abbrev w_J2_grow_2_0 (g : PG) (d : Nat) (l0 : Nat) (l1 : Int32) (h : PH) (Q : Out → PH → Prop) : Prop := hkd h l0 = 13 ∧ hkd h (hG h 531 l0) / 100 = 6 ∧ ((0 < (nI (hln h (hG h 531 l0)))) → w_J2_grow_2_20 g d l0 l1 (nI (hln h (hG h 531 l0))) h Q) ∧ ((¬ 0 < (nI (hln h (hG h 531 l0)))) → isSR g 0 ∧ (((hG h 531 l0) = (sR g 0)) → ¬ (i32max (10 : Int32) l1) < 0 ∧ (i32max (10 : Int32) l1).toNatClampNeg ≤ 67108864 ∧ ∀ h8, h8 = hnew 600 (i32max (10 : Int32) l1).toNatClampNeg ((i32max (10 : Int32) l1).toNatClampNeg + 1) h → hkd h8 l0 = 13 ∧ ∀ h10, h10 = setG 531 l0 (hnx h) h8 → Q (.inl (some (.ref (hnx h)))) h10) ∧ ((¬ (hG h 531 l0) = (sR g 0)) → w_J2_grow_2_20 g d l0 l1 (nI (hln h (hG h 531 l0))) h Q))
theorem v_J2_grow_2_0 {g : PG} {d : Nat} {l0 : Nat} {l1 : Int32} {h : PH} {Q : Out → PH → Prop} (H : w_J2_grow_2_0 g d l0 l1 h Q) : R g d m_J2_grow_2 0 [.ref l0, .int l1, .null, .null] [] h Q := by
  refine r_aload_n dJ2_grow_2_0 rfl rfl ?_
  obtain ⟨k1, H⟩ := H
  refine r_getG fr_J2_9_13 (by decide) dJ2_grow_2_1 k1 (by decide) ?_
  obtain ⟨k2, H⟩ := H
  refine r_alen (m := 6) dJ2_grow_2_4 (by decide) k2 ?_
  refine r_istore_n dJ2_grow_2_5 rfl (Nat.le_of_ble_eq_true rfl) rfl (slS (slS sl0)) ?_
  refine r_iload_n dJ2_grow_2_6 rfl rfl ?_
  refine r_if_gt (tgt := 20) dJ2_grow_2_7 rfl (fun b3 => ?_) (fun b3 => ?_)
  · replace H := H.1 b3
    exact v_J2_grow_2_20 H
  · replace H := H.2 b3
    refine r_aload_n dJ2_grow_2_10 rfl rfl ?_
    refine r_getG fr_J2_9_13 (by decide) dJ2_grow_2_11 k1 (by decide) ?_
    obtain ⟨k4, H⟩ := H
    refine r_getsR (ref := "") (n := 0) dJ2_grow_2_14 rfl q204 k4 ?_
    refine r_acmp_eq (tgt := 45) dJ2_grow_2_17 rfl (fun b5 => ?_) (fun b5 => ?_)
    · replace H := H.1 b5
      refine r_aload_n dJ2_grow_2_45 rfl rfl ?_
      refine r_bipush dJ2_grow_2_46 rfl ?_
      refine r_iload_n dJ2_grow_2_48 rfl rfl ?_
      refine r_mmax dJ2_grow_2_49 q2137 q467 q134 q468 (Nat.le_of_ble_eq_true rfl) ?_
      obtain ⟨k6, H⟩ := H
      obtain ⟨k7, H⟩ := H
      replace H := H _ rfl
      refine r_anew (m := 6) (kk := 600) dJ2_grow_2_52 rfl (by decide) (by decide) q2138 q353 k6 rfl (newB4 k7) ?_
      refine r_dup_x1 dJ2_grow_2_55 rfl rfl ?_
      obtain ⟨k9, H⟩ := H
      replace H := H _ rfl
      refine r_putG fw_J2_9_13 (by decide) dJ2_grow_2_56 k9 (by decide) rfl ?_
      exact r_aret dJ2_grow_2_59 rfl H
    · replace H := H.2 b5
      exact v_J2_grow_2_20 H
theorem c_J2_grow_2_0 {g : PG} {d : Nat} {l0 : Nat} {l1 : Int32} {h : PH} {Q : Out → PH → Prop} (H : w_J2_grow_2_0 g d l0 l1 h Q) : C g (d + 1) m_J2_grow_2 [.ref l0, .int l1] h Q := C_of_R rfl rfl (Nat.le_of_ble_eq_true rfl) rfl (v_J2_grow_2_0 H)
abbrev w_J2_isEmpty_0 (g : PG) (d : Nat) (l0 : Nat) (h : PH) (Q : Out → PH → Prop) : Prop := hkd h l0 = 13 ∧ ((¬ (hF h 35 l0) = 0) → Q (.inl (some (.int 0))) h) ∧ (((hF h 35 l0) = 0) → Q (.inl (some (.int 1))) h)
theorem v_J2_isEmpty_0 {g : PG} {d : Nat} {l0 : Nat} {h : PH} {Q : Out → PH → Prop} (H : w_J2_isEmpty_0 g d l0 h Q) : R g d m_J2_isEmpty 0 [.ref l0] [] h Q := by
  refine r_aload_n dJ2_isEmpty_0 rfl rfl ?_
  obtain ⟨k1, H⟩ := H
  refine r_getF fr_J2_48_13 (by decide) dJ2_isEmpty_1 k1 (by decide) ?_
  refine r_if_ne (tgt := 11) dJ2_isEmpty_4 rfl (fun b2 => ?_) (fun b2 => ?_)
  · replace H := H.1 b2
    refine r_iconst dJ2_isEmpty_11 rfl ?_
    exact r_zret dJ2_isEmpty_12 rfl rfl H
  · replace H := H.2 b2
    refine r_iconst dJ2_isEmpty_7 rfl ?_
    refine r_goto (tgt := 12) dJ2_isEmpty_8 rfl ?_
    exact r_zret dJ2_isEmpty_12 rfl rfl H
theorem c_J2_isEmpty_0 {g : PG} {d : Nat} {l0 : Nat} {h : PH} {Q : Out → PH → Prop} (H : w_J2_isEmpty_0 g d l0 h Q) : C g (d + 1) m_J2_isEmpty [.ref l0] h Q := C_of_R rfl rfl (Nat.le_of_ble_eq_true rfl) rfl (v_J2_isEmpty_0 H)
abbrev w_J20_checkFromToIndex_14 (_g : PG) (_d : Nat) (_l0 : Int32) (_l1 : Int32) (_l2 : Int32) (_l3 : Nat) (_h : PH) (_Q : Out → PH → Prop) : Prop := False
theorem v_J20_checkFromToIndex_14 {g : PG} {d : Nat} {l0 : Int32} {l1 : Int32} {l2 : Int32} {l3 : Nat} {h : PH} {Q : Out → PH → Prop} (H : w_J20_checkFromToIndex_14 g d l0 l1 l2 l3 h Q) : R g d m_J20_checkFromToIndex 14 [.int l0, .int l1, .int l2, .ref l3] [] h Q := H.elim
abbrev w_J20_checkFromToIndex_0 (g : PG) (d : Nat) (l0 : Int32) (l1 : Int32) (l2 : Int32) (l3 : Nat) (h : PH) (Q : Out → PH → Prop) : Prop := ((l0 < 0) → w_J20_checkFromToIndex_14 g d l0 l1 l2 l3 h Q) ∧ ((¬ l0 < 0) → ((l1 < l0) → w_J20_checkFromToIndex_14 g d l0 l1 l2 l3 h Q) ∧ ((¬ l1 < l0) → ((l1 ≤ l2) → Q (.inl (some (.int l0))) h) ∧ ((¬ l1 ≤ l2) → w_J20_checkFromToIndex_14 g d l0 l1 l2 l3 h Q)))
theorem v_J20_checkFromToIndex_0 {g : PG} {d : Nat} {l0 : Int32} {l1 : Int32} {l2 : Int32} {l3 : Nat} {h : PH} {Q : Out → PH → Prop} (H : w_J20_checkFromToIndex_0 g d l0 l1 l2 l3 h Q) : R g d m_J20_checkFromToIndex 0 [.int l0, .int l1, .int l2, .ref l3] [] h Q := by
  refine r_iload_n dJ20_checkFromToIndex_0 rfl rfl ?_
  refine r_if_lt (tgt := 14) dJ20_checkFromToIndex_1 rfl (fun b1 => ?_) (fun b1 => ?_)
  · replace H := H.1 b1
    exact v_J20_checkFromToIndex_14 H
  · replace H := H.2 b1
    refine r_iload_n dJ20_checkFromToIndex_4 rfl rfl ?_
    refine r_iload_n dJ20_checkFromToIndex_5 rfl rfl ?_
    refine r_icmp_gt (tgt := 14) dJ20_checkFromToIndex_6 rfl (fun b2 => ?_) (fun b2 => ?_)
    · replace H := H.1 b2
      exact v_J20_checkFromToIndex_14 H
    · replace H := H.2 b2
      refine r_iload_n dJ20_checkFromToIndex_9 rfl rfl ?_
      refine r_iload_n dJ20_checkFromToIndex_10 rfl rfl ?_
      refine r_icmp_le (tgt := 22) dJ20_checkFromToIndex_11 rfl (fun b3 => ?_) (fun b3 => ?_)
      · replace H := H.1 b3
        refine r_iload_n dJ20_checkFromToIndex_22 rfl rfl ?_
        exact r_iret dJ20_checkFromToIndex_23 rfl H
      · replace H := H.2 b3
        exact v_J20_checkFromToIndex_14 H
theorem c_J20_checkFromToIndex_0 {g : PG} {d : Nat} {l0 : Int32} {l1 : Int32} {l2 : Int32} {l3 : Nat} {h : PH} {Q : Out → PH → Prop} (H : w_J20_checkFromToIndex_0 g d l0 l1 l2 l3 h Q) : C g (d + 1) m_J20_checkFromToIndex [.int l0, .int l1, .int l2, .ref l3] h Q := C_of_R rfl rfl (Nat.le_of_ble_eq_true rfl) rfl (v_J20_checkFromToIndex_0 H)
abbrev w_J20_checkFromIndexSize_15 (_g : PG) (_d : Nat) (_l0 : Int32) (_l1 : Int32) (_l2 : Int32) (_l3 : Nat) (_h : PH) (_Q : Out → PH → Prop) : Prop := False
theorem v_J20_checkFromIndexSize_15 {g : PG} {d : Nat} {l0 : Int32} {l1 : Int32} {l2 : Int32} {l3 : Nat} {h : PH} {Q : Out → PH → Prop} (H : w_J20_checkFromIndexSize_15 g d l0 l1 l2 l3 h Q) : R g d m_J20_checkFromIndexSize 15 [.int l0, .int l1, .int l2, .ref l3] [] h Q := H.elim
abbrev w_J20_checkFromIndexSize_0 (g : PG) (d : Nat) (l0 : Int32) (l1 : Int32) (l2 : Int32) (l3 : Nat) (h : PH) (Q : Out → PH → Prop) : Prop := ((((l2 ||| l0) ||| l1) < 0) → w_J20_checkFromIndexSize_15 g d l0 l1 l2 l3 h Q) ∧ ((¬ ((l2 ||| l0) ||| l1) < 0) → ((l1 ≤ (l2 - l0)) → Q (.inl (some (.int l0))) h) ∧ ((¬ l1 ≤ (l2 - l0)) → w_J20_checkFromIndexSize_15 g d l0 l1 l2 l3 h Q))
theorem v_J20_checkFromIndexSize_0 {g : PG} {d : Nat} {l0 : Int32} {l1 : Int32} {l2 : Int32} {l3 : Nat} {h : PH} {Q : Out → PH → Prop} (H : w_J20_checkFromIndexSize_0 g d l0 l1 l2 l3 h Q) : R g d m_J20_checkFromIndexSize 0 [.int l0, .int l1, .int l2, .ref l3] [] h Q := by
  refine r_iload_n dJ20_checkFromIndexSize_0 rfl rfl ?_
  refine r_iload_n dJ20_checkFromIndexSize_1 rfl rfl ?_
  refine r_ior dJ20_checkFromIndexSize_2 ?_
  refine r_iload_n dJ20_checkFromIndexSize_3 rfl rfl ?_
  refine r_ior dJ20_checkFromIndexSize_4 ?_
  refine r_if_lt (tgt := 15) dJ20_checkFromIndexSize_5 rfl (fun b1 => ?_) (fun b1 => ?_)
  · replace H := H.1 b1
    exact v_J20_checkFromIndexSize_15 H
  · replace H := H.2 b1
    refine r_iload_n dJ20_checkFromIndexSize_8 rfl rfl ?_
    refine r_iload_n dJ20_checkFromIndexSize_9 rfl rfl ?_
    refine r_iload_n dJ20_checkFromIndexSize_10 rfl rfl ?_
    refine r_isub dJ20_checkFromIndexSize_11 ?_
    refine r_icmp_le (tgt := 23) dJ20_checkFromIndexSize_12 rfl (fun b2 => ?_) (fun b2 => ?_)
    · replace H := H.1 b2
      refine r_iload_n dJ20_checkFromIndexSize_23 rfl rfl ?_
      exact r_iret dJ20_checkFromIndexSize_24 rfl H
    · replace H := H.2 b2
      exact v_J20_checkFromIndexSize_15 H
theorem c_J20_checkFromIndexSize_0 {g : PG} {d : Nat} {l0 : Int32} {l1 : Int32} {l2 : Int32} {l3 : Nat} {h : PH} {Q : Out → PH → Prop} (H : w_J20_checkFromIndexSize_0 g d l0 l1 l2 l3 h Q) : C g (d + 1) m_J20_checkFromIndexSize [.int l0, .int l1, .int l2, .ref l3] h Q := C_of_R rfl rfl (Nat.le_of_ble_eq_true rfl) rfl (v_J20_checkFromIndexSize_0 H)
abbrev w_J20_checkIndex_9 (_g : PG) (_d : Nat) (_l0 : Int32) (_l1 : Int32) (_l2 : Nat) (_h : PH) (_Q : Out → PH → Prop) : Prop := False
theorem v_J20_checkIndex_9 {g : PG} {d : Nat} {l0 : Int32} {l1 : Int32} {l2 : Nat} {h : PH} {Q : Out → PH → Prop} (H : w_J20_checkIndex_9 g d l0 l1 l2 h Q) : R g d m_J20_checkIndex 9 [.int l0, .int l1, .ref l2] [] h Q := H.elim
abbrev w_J20_checkIndex_0 (g : PG) (d : Nat) (l0 : Int32) (l1 : Int32) (l2 : Nat) (h : PH) (Q : Out → PH → Prop) : Prop := ((l0 < 0) → w_J20_checkIndex_9 g d l0 l1 l2 h Q) ∧ ((¬ l0 < 0) → ((l0 < l1) → Q (.inl (some (.int l0))) h) ∧ ((¬ l0 < l1) → w_J20_checkIndex_9 g d l0 l1 l2 h Q))
theorem v_J20_checkIndex_0 {g : PG} {d : Nat} {l0 : Int32} {l1 : Int32} {l2 : Nat} {h : PH} {Q : Out → PH → Prop} (H : w_J20_checkIndex_0 g d l0 l1 l2 h Q) : R g d m_J20_checkIndex 0 [.int l0, .int l1, .ref l2] [] h Q := by
  refine r_iload_n dJ20_checkIndex_0 rfl rfl ?_
  refine r_if_lt (tgt := 9) dJ20_checkIndex_1 rfl (fun b1 => ?_) (fun b1 => ?_)
  · replace H := H.1 b1
    exact v_J20_checkIndex_9 H
  · replace H := H.2 b1
    refine r_iload_n dJ20_checkIndex_4 rfl rfl ?_
    refine r_iload_n dJ20_checkIndex_5 rfl rfl ?_
    refine r_icmp_lt (tgt := 16) dJ20_checkIndex_6 rfl (fun b2 => ?_) (fun b2 => ?_)
    · replace H := H.1 b2
      refine r_iload_n dJ20_checkIndex_16 rfl rfl ?_
      exact r_iret dJ20_checkIndex_17 rfl H
    · replace H := H.2 b2
      exact v_J20_checkIndex_9 H
theorem c_J20_checkIndex_0 {g : PG} {d : Nat} {l0 : Int32} {l1 : Int32} {l2 : Nat} {h : PH} {Q : Out → PH → Prop} (H : w_J20_checkIndex_0 g d l0 l1 l2 h Q) : C g (d + 1) m_J20_checkIndex [.int l0, .int l1, .ref l2] h Q := C_of_R rfl rfl (Nat.le_of_ble_eq_true rfl) rfl (v_J20_checkIndex_0 H)
abbrev w_J21_newLength_21 (g : PG) (d : Nat) (l0 : Int32) (l1 : Int32) (h : PH) (Q : Out → PH → Prop) : Prop := C g d m_J21_hugeLength [.int l0, .int l1] h (oI (fun v2 h1 => Q (.inl (some (.int v2))) h1) (fun r hx => Q (.inr r) hx))
theorem v_J21_newLength_21 {g : PG} {d : Nat} {l0 : Int32} {l1 : Int32} {h : PH} {Q : Out → PH → Prop} (H : w_J21_newLength_21 g d l0 l1 h Q) : R g d m_J21_newLength 21 [.int l0, .int l1, .null, .null] [] h Q := by
  refine r_iload_n dJ21_newLength_21 rfl rfl ?_
  refine r_iload_n dJ21_newLength_22 rfl rfl ?_
  refine r_invS (y := m_J21_hugeLength) dJ21_newLength_23 rfl (lw_S q470 q471 q133 q472) py_J21_hugeLength (Nat.le_of_ble_eq_true rfl) (args := [_, _]) rfl rfl (Nat.le_of_ble_eq_true rfl) (C.monoE H (fun o h1 _ x3 K => cont_I K (fun v2 H => ?_) (fun r HX => XR_nc rfl HX)))
  exact r_iret dJ21_newLength_26 rfl H
abbrev w_J21_newLength_0 (g : PG) (d : Nat) (l0 : Int32) (l1 : Int32) (l2 : Int32) (h : PH) (Q : Out → PH → Prop) : Prop := (((l0 + (i32max l1 l2)) ≤ (0 : Int32)) → w_J21_newLength_21 g d l0 l1 h Q) ∧ ((¬ (l0 + (i32max l1 l2)) ≤ (0 : Int32)) → (((2147483639 : Int32) < (l0 + (i32max l1 l2))) → w_J21_newLength_21 g d l0 l1 h Q) ∧ ((¬ (2147483639 : Int32) < (l0 + (i32max l1 l2))) → Q (.inl (some (.int (l0 + (i32max l1 l2))))) h))
theorem v_J21_newLength_0 {g : PG} {d : Nat} {l0 : Int32} {l1 : Int32} {l2 : Int32} {h : PH} {Q : Out → PH → Prop} (H : w_J21_newLength_0 g d l0 l1 l2 h Q) : R g d m_J21_newLength 0 [.int l0, .int l1, .int l2, .null] [] h Q := by
  refine r_iload_n dJ21_newLength_0 rfl rfl ?_
  refine r_iload_n dJ21_newLength_1 rfl rfl ?_
  refine r_iload_n dJ21_newLength_2 rfl rfl ?_
  refine r_mmax dJ21_newLength_3 q466 q467 q134 q468 (Nat.le_of_ble_eq_true rfl) ?_
  refine r_iadd dJ21_newLength_6 ?_
  refine r_istore_n dJ21_newLength_7 rfl (Nat.le_of_ble_eq_true rfl) rfl (slS (slS (slS sl0))) ?_
  refine r_iconst dJ21_newLength_8 rfl ?_
  refine r_iload_n dJ21_newLength_9 rfl rfl ?_
  refine r_icmp_ge (tgt := 21) dJ21_newLength_10 rfl (fun b1 => ?_) (fun b1 => ?_)
  · replace H := H.1 b1
    exact R.forget (v_J21_newLength_21 H) ⟨Or.inl rfl, ⟨Or.inl rfl, ⟨Or.inr rfl, ⟨Or.inr rfl, trivial⟩⟩⟩⟩
  · replace H := H.2 b1
    refine r_iload_n dJ21_newLength_13 rfl rfl ?_
    refine r_ldc dJ21_newLength_14 q469 ?_
    refine r_icmp_gt (tgt := 21) dJ21_newLength_16 rfl (fun b2 => ?_) (fun b2 => ?_)
    · replace H := H.1 b2
      exact R.forget (v_J21_newLength_21 H) ⟨Or.inl rfl, ⟨Or.inl rfl, ⟨Or.inr rfl, ⟨Or.inr rfl, trivial⟩⟩⟩⟩
    · replace H := H.2 b2
      refine r_iload_n dJ21_newLength_19 rfl rfl ?_
      exact r_iret dJ21_newLength_20 rfl H
theorem c_J21_newLength_0 {g : PG} {d : Nat} {l0 : Int32} {l1 : Int32} {l2 : Int32} {h : PH} {Q : Out → PH → Prop} (H : w_J21_newLength_0 g d l0 l1 l2 h Q) : C g (d + 1) m_J21_newLength [.int l0, .int l1, .int l2] h Q := C_of_R rfl rfl (Nat.le_of_ble_eq_true rfl) rfl (v_J21_newLength_0 H)
abbrev w_J21_hugeLength_0 (g : PG) (d : Nat) (l0 : Int32) (l1 : Int32) (h : PH) (Q : Out → PH → Prop) : Prop := ((0 ≤ (l0 + l1)) → (((2147483639 : Int32) < (l0 + l1)) → Q (.inl (some (.int (l0 + l1)))) h) ∧ ((¬ (2147483639 : Int32) < (l0 + l1)) → Q (.inl (some (.int 2147483639))) h)) ∧ ((¬ 0 ≤ (l0 + l1)) → False)
theorem v_J21_hugeLength_0 {g : PG} {d : Nat} {l0 : Int32} {l1 : Int32} {h : PH} {Q : Out → PH → Prop} (H : w_J21_hugeLength_0 g d l0 l1 h Q) : R g d m_J21_hugeLength 0 [.int l0, .int l1, .null] [] h Q := by
  refine r_iload_n dJ21_hugeLength_0 rfl rfl ?_
  refine r_iload_n dJ21_hugeLength_1 rfl rfl ?_
  refine r_iadd dJ21_hugeLength_2 ?_
  refine r_istore_n dJ21_hugeLength_3 rfl (Nat.le_of_ble_eq_true rfl) rfl (slS (slS sl0)) ?_
  refine r_iload_n dJ21_hugeLength_4 rfl rfl ?_
  refine r_if_ge (tgt := 49) dJ21_hugeLength_5 rfl (fun b1 => ?_) (fun b1 => ?_)
  · replace H := H.1 b1
    refine r_iload_n dJ21_hugeLength_49 rfl rfl ?_
    refine r_ldc dJ21_hugeLength_50 q469 ?_
    refine r_icmp_gt (tgt := 58) dJ21_hugeLength_52 rfl (fun b2 => ?_) (fun b2 => ?_)
    · replace H := H.1 b2
      refine r_iload_n dJ21_hugeLength_58 rfl rfl ?_
      exact r_iret dJ21_hugeLength_59 rfl H
    · replace H := H.2 b2
      refine r_ldc dJ21_hugeLength_55 q469 ?_
      exact r_iret dJ21_hugeLength_57 rfl H
  · replace H := H.2 b1
    exact H.elim
theorem c_J21_hugeLength_0 {g : PG} {d : Nat} {l0 : Int32} {l1 : Int32} {h : PH} {Q : Out → PH → Prop} (H : w_J21_hugeLength_0 g d l0 l1 h Q) : C g (d + 1) m_J21_hugeLength [.int l0, .int l1] h Q := C_of_R rfl rfl (Nat.le_of_ble_eq_true rfl) rfl (v_J21_hugeLength_0 H)
abbrev w_J21_signedHashCode_8 (g : PG) (d : Nat) (l0 : Int32) (l1 : Nat) (l4 : Int32) (l5 : Int32) (h : PH) (Q : Out → PH → Prop) : Prop := ((l4 ≤ l5) → Q (.inl (some (.int l0))) h) ∧ ((¬ l4 ≤ l5) → hkd h l1 / 100 = 3 ∧ vp_in l5 (hln h l1) ∧ R g d m_J21_signedHashCode 8 [.int (((31 : Int32) * l0) + ((hA h l1 l5.toNatClampNeg) &&& (255 : Int32))), .ref l1, .null, .null, .int l4, .int (l5 + 1)] [] h Q)
theorem v_J21_signedHashCode_8 {g : PG} {d : Nat} {l0 : Int32} {l1 : Nat} {l4 : Int32} {l5 : Int32} {h : PH} {Q : Out → PH → Prop} (H : w_J21_signedHashCode_8 g d l0 l1 l4 l5 h Q) : R g d m_J21_signedHashCode 8 [.int l0, .ref l1, .null, .null, .int l4, .int l5] [] h Q := by
  refine r_iload dJ21_signedHashCode_8 rfl ?_
  refine r_iload dJ21_signedHashCode_10 rfl ?_
  refine r_icmp_ge (tgt := 35) dJ21_signedHashCode_12 rfl (fun b1 => ?_) (fun b1 => ?_)
  · replace H := H.1 b1
    refine r_iload_n dJ21_signedHashCode_35 rfl rfl ?_
    exact r_iret dJ21_signedHashCode_36 rfl H
  · replace H := H.2 b1
    refine r_bipush dJ21_signedHashCode_15 rfl ?_
    refine r_iload_n dJ21_signedHashCode_17 rfl rfl ?_
    refine r_imul dJ21_signedHashCode_18 ?_
    refine r_aload_n dJ21_signedHashCode_19 rfl rfl ?_
    refine r_iload dJ21_signedHashCode_20 rfl ?_
    obtain ⟨k2, H⟩ := H
    obtain ⟨k3, H⟩ := H
    refine r_bald dJ21_signedHashCode_22 k2 k3 ?_
    refine r_sipush dJ21_signedHashCode_23 rfl ?_
    refine r_iand dJ21_signedHashCode_26 ?_
    refine r_iadd dJ21_signedHashCode_27 ?_
    refine r_istore_n dJ21_signedHashCode_28 rfl (Nat.le_of_ble_eq_true rfl) rfl sl0 ?_
    refine r_iinc dJ21_signedHashCode_29 rfl rfl (Nat.le_of_ble_eq_true rfl) rfl (slS (slS (slS (slS (slS sl0))))) ?_
    refine r_goto (tgt := 8) dJ21_signedHashCode_32 rfl ?_
    exact H
abbrev w_J21_signedHashCode_0 (g : PG) (d : Nat) (l0 : Int32) (l1 : Nat) (l2 : Int32) (l3 : Int32) (h : PH) (Q : Out → PH → Prop) : Prop := R g d m_J21_signedHashCode 8 [.int l0, .ref l1, .null, .null, .int (l2 + l3), .int l2] [] h Q
theorem v_J21_signedHashCode_0 {g : PG} {d : Nat} {l0 : Int32} {l1 : Nat} {l2 : Int32} {l3 : Int32} {h : PH} {Q : Out → PH → Prop} (H : w_J21_signedHashCode_0 g d l0 l1 l2 l3 h Q) : R g d m_J21_signedHashCode 0 [.int l0, .ref l1, .int l2, .int l3, .null, .null] [] h Q := by
  refine r_iload_n dJ21_signedHashCode_0 rfl rfl ?_
  refine r_iload_n dJ21_signedHashCode_1 rfl rfl ?_
  refine r_iadd dJ21_signedHashCode_2 ?_
  refine r_istore dJ21_signedHashCode_3 (Nat.le_of_ble_eq_true rfl) rfl (slS (slS (slS (slS sl0)))) ?_
  refine r_iload_n dJ21_signedHashCode_5 rfl rfl ?_
  refine r_istore dJ21_signedHashCode_6 (Nat.le_of_ble_eq_true rfl) rfl (slS (slS (slS (slS (slS sl0))))) ?_
  exact R.forget H ⟨Or.inl rfl, ⟨Or.inl rfl, ⟨Or.inr rfl, ⟨Or.inr rfl, ⟨Or.inl rfl, ⟨Or.inl rfl, trivial⟩⟩⟩⟩⟩⟩
theorem c_J21_signedHashCode_0 {g : PG} {d : Nat} {l0 : Int32} {l1 : Nat} {l2 : Int32} {l3 : Int32} {h : PH} {Q : Out → PH → Prop} (H : w_J21_signedHashCode_0 g d l0 l1 l2 l3 h Q) : C g (d + 1) m_J21_signedHashCode [.int l0, .ref l1, .int l2, .int l3] h Q := C_of_R rfl rfl (Nat.le_of_ble_eq_true rfl) rfl (v_J21_signedHashCode_0 H)
abbrev w_J21_hashCode_2_8 (g : PG) (d : Nat) (l0 : Int32) (l1 : Nat) (l4 : Int32) (l5 : Int32) (h : PH) (Q : Out → PH → Prop) : Prop := ((l4 ≤ l5) → Q (.inl (some (.int l0))) h) ∧ ((¬ l4 ≤ l5) → hkd h l1 / 100 = 3 ∧ vp_in l5 (hln h l1) ∧ R g d m_J21_hashCode_2 8 [.int (((31 : Int32) * l0) + (hA h l1 l5.toNatClampNeg)), .ref l1, .null, .null, .int l4, .int (l5 + 1)] [] h Q)
theorem v_J21_hashCode_2_8 {g : PG} {d : Nat} {l0 : Int32} {l1 : Nat} {l4 : Int32} {l5 : Int32} {h : PH} {Q : Out → PH → Prop} (H : w_J21_hashCode_2_8 g d l0 l1 l4 l5 h Q) : R g d m_J21_hashCode_2 8 [.int l0, .ref l1, .null, .null, .int l4, .int l5] [] h Q := by
  refine r_iload dJ21_hashCode_2_8 rfl ?_
  refine r_iload dJ21_hashCode_2_10 rfl ?_
  refine r_icmp_ge (tgt := 31) dJ21_hashCode_2_12 rfl (fun b1 => ?_) (fun b1 => ?_)
  · replace H := H.1 b1
    refine r_iload_n dJ21_hashCode_2_31 rfl rfl ?_
    exact r_iret dJ21_hashCode_2_32 rfl H
  · replace H := H.2 b1
    refine r_bipush dJ21_hashCode_2_15 rfl ?_
    refine r_iload_n dJ21_hashCode_2_17 rfl rfl ?_
    refine r_imul dJ21_hashCode_2_18 ?_
    refine r_aload_n dJ21_hashCode_2_19 rfl rfl ?_
    refine r_iload dJ21_hashCode_2_20 rfl ?_
    obtain ⟨k2, H⟩ := H
    obtain ⟨k3, H⟩ := H
    refine r_bald dJ21_hashCode_2_22 k2 k3 ?_
    refine r_iadd dJ21_hashCode_2_23 ?_
    refine r_istore_n dJ21_hashCode_2_24 rfl (Nat.le_of_ble_eq_true rfl) rfl sl0 ?_
    refine r_iinc dJ21_hashCode_2_25 rfl rfl (Nat.le_of_ble_eq_true rfl) rfl (slS (slS (slS (slS (slS sl0))))) ?_
    refine r_goto (tgt := 8) dJ21_hashCode_2_28 rfl ?_
    exact H
abbrev w_J21_hashCode_2_0 (g : PG) (d : Nat) (l0 : Int32) (l1 : Nat) (l2 : Int32) (l3 : Int32) (h : PH) (Q : Out → PH → Prop) : Prop := R g d m_J21_hashCode_2 8 [.int l0, .ref l1, .null, .null, .int (l2 + l3), .int l2] [] h Q
theorem v_J21_hashCode_2_0 {g : PG} {d : Nat} {l0 : Int32} {l1 : Nat} {l2 : Int32} {l3 : Int32} {h : PH} {Q : Out → PH → Prop} (H : w_J21_hashCode_2_0 g d l0 l1 l2 l3 h Q) : R g d m_J21_hashCode_2 0 [.int l0, .ref l1, .int l2, .int l3, .null, .null] [] h Q := by
  refine r_iload_n dJ21_hashCode_2_0 rfl rfl ?_
  refine r_iload_n dJ21_hashCode_2_1 rfl rfl ?_
  refine r_iadd dJ21_hashCode_2_2 ?_
  refine r_istore dJ21_hashCode_2_3 (Nat.le_of_ble_eq_true rfl) rfl (slS (slS (slS (slS sl0)))) ?_
  refine r_iload_n dJ21_hashCode_2_5 rfl rfl ?_
  refine r_istore dJ21_hashCode_2_6 (Nat.le_of_ble_eq_true rfl) rfl (slS (slS (slS (slS (slS sl0))))) ?_
  exact R.forget H ⟨Or.inl rfl, ⟨Or.inl rfl, ⟨Or.inr rfl, ⟨Or.inr rfl, ⟨Or.inl rfl, ⟨Or.inl rfl, trivial⟩⟩⟩⟩⟩⟩
theorem c_J21_hashCode_2_0 {g : PG} {d : Nat} {l0 : Int32} {l1 : Nat} {l2 : Int32} {l3 : Int32} {h : PH} {Q : Out → PH → Prop} (H : w_J21_hashCode_2_0 g d l0 l1 l2 l3 h Q) : C g (d + 1) m_J21_hashCode_2 [.int l0, .ref l1, .int l2, .int l3] h Q := C_of_R rfl rfl (Nat.le_of_ble_eq_true rfl) rfl (v_J21_hashCode_2_0 H)
abbrev w_J23_copyOf_0 (g : PG) (d : Nat) (l0 : Nat) (l1 : Int32) (h : PH) (Q : Out → PH → Prop) : Prop := hkd h l0 / 100 = 3 ∧ ((¬ l1 = (nI (hln h l0))) → ¬ l1 < 0 ∧ l1.toNatClampNeg ≤ 67108864 ∧ ∀ h5, h5 = hnew 300 l1.toNatClampNeg (l1.toNatClampNeg + 1) h → hkd h5 l0 / 100 = 3 ∧ hkd h5 (hnx h) / 100 = 3 ∧ hkd h5 (hnx h) % 100 < 50 ∧ ¬ (0 : Int32) < 0 ∧ ¬ (i32min (nI (hln h5 l0)) l1) < 0 ∧ (0 : Int32).toNatClampNeg + (i32min (nI (hln h5 l0)) l1).toNatClampNeg ≤ hln h5 l0 ∧ (0 : Int32).toNatClampNeg + (i32min (nI (hln h5 l0)) l1).toNatClampNeg ≤ hln h5 (hnx h) ∧ (∀ i, i < (i32min (nI (hln h5 l0)) l1).toNatClampNeg → fits .byte (.int (hA h5 l0 ((0 : Int32).toNatClampNeg + i))) = true) ∧ ∀ h16, h16 = cpyA l0 (0 : Int32).toNatClampNeg (hnx h) (0 : Int32).toNatClampNeg (i32min (nI (hln h5 l0)) l1).toNatClampNeg h5 → Q (.inl (some (.ref (hnx h)))) h16) ∧ ((l1 = (nI (hln h l0))) → False)
theorem v_J23_copyOf_0 {g : PG} {d : Nat} {l0 : Nat} {l1 : Int32} {h : PH} {Q : Out → PH → Prop} (H : w_J23_copyOf_0 g d l0 l1 h Q) : R g d m_J23_copyOf 0 [.ref l0, .int l1, .null] [] h Q := by
  refine r_iload_n dJ23_copyOf_0 rfl rfl ?_
  refine r_aload_n dJ23_copyOf_1 rfl rfl ?_
  obtain ⟨k1, H⟩ := H
  refine r_alen (m := 3) dJ23_copyOf_2 (by decide) k1 ?_
  refine r_icmp_ne (tgt := 14) dJ23_copyOf_3 rfl (fun b2 => ?_) (fun b2 => ?_)
  · replace H := H.1 b2
    refine r_iload_n dJ23_copyOf_14 rfl rfl ?_
    obtain ⟨k3, H⟩ := H
    obtain ⟨k4, H⟩ := H
    replace H := H _ rfl
    refine r_newa (atype := .byte) (m := 3) (kk := 300) dJ23_copyOf_15 rfl (by decide) (by decide) q398 k3 rfl (newB k4 (by decide)) ?_
    refine r_astore_n dJ23_copyOf_17 rfl (Nat.le_of_ble_eq_true rfl) rfl (slS (slS sl0)) ?_
    refine r_aload_n dJ23_copyOf_18 rfl rfl ?_
    refine r_iconst dJ23_copyOf_19 rfl ?_
    refine r_aload_n dJ23_copyOf_20 rfl rfl ?_
    refine r_iconst dJ23_copyOf_21 rfl ?_
    refine r_aload_n dJ23_copyOf_22 rfl rfl ?_
    obtain ⟨k6, H⟩ := H
    refine r_alen (m := 3) dJ23_copyOf_23 (by decide) k6 ?_
    refine r_iload_n dJ23_copyOf_24 rfl rfl ?_
    refine r_mmin dJ23_copyOf_25 q484 q485 q134 q486 (Nat.le_of_ble_eq_true rfl) ?_
    obtain ⟨k8, H⟩ := H
    obtain ⟨k9, H⟩ := H
    obtain ⟨k10, H⟩ := H
    obtain ⟨k12, H⟩ := H
    obtain ⟨k13, H⟩ := H
    obtain ⟨k14, H⟩ := H
    obtain ⟨k15, H⟩ := H
    replace H := H _ rfl
    refine r_copyA (m := 3) dJ23_copyOf_28 q487 (by decide) k6 k8 k9 k10 k10 k12 k13 k14 k15 (Nat.le_of_ble_eq_true rfl) ?_
    refine r_aload_n dJ23_copyOf_31 rfl rfl ?_
    exact r_aret dJ23_copyOf_32 rfl H
  · replace H := H.2 b2
    exact H.elim
theorem c_J23_copyOf_0 {g : PG} {d : Nat} {l0 : Nat} {l1 : Int32} {h : PH} {Q : Out → PH → Prop} (H : w_J23_copyOf_0 g d l0 l1 h Q) : C g (d + 1) m_J23_copyOf [.ref l0, .int l1] h Q := C_of_R rfl rfl (Nat.le_of_ble_eq_true rfl) rfl (v_J23_copyOf_0 H)
abbrev w_J23_copyOfRange_10 (g : PG) (d : Nat) (l0 : Nat) (l1 : Int32) (l2 : Int32) (h : PH) (Q : Out → PH → Prop) : Prop := C g d m_J23_copyOfRangeByte [.ref l0, .int l1, .int l2] h (oR (fun v2 h1 => Q (.inl (some (.ref v2))) h1) (fun r hx => Q (.inr r) hx))
theorem v_J23_copyOfRange_10 {g : PG} {d : Nat} {l0 : Nat} {l1 : Int32} {l2 : Int32} {h : PH} {Q : Out → PH → Prop} (H : w_J23_copyOfRange_10 g d l0 l1 l2 h Q) : R g d m_J23_copyOfRange 10 [.ref l0, .int l1, .int l2] [] h Q := by
  refine r_aload_n dJ23_copyOfRange_10 rfl rfl ?_
  refine r_iload_n dJ23_copyOfRange_11 rfl rfl ?_
  refine r_iload_n dJ23_copyOfRange_12 rfl rfl ?_
  refine r_invS (y := m_J23_copyOfRangeByte) dJ23_copyOfRange_13 rfl (lw_S q619 q620 q135 q621) py_J23_copyOfRangeByte (Nat.le_of_ble_eq_true rfl) (args := [_, _, _]) rfl rfl (Nat.le_of_ble_eq_true rfl) (C.monoE H (fun o h1 _ x3 K => cont_R K (fun v2 H => ?_) (fun r HX => XR_nc rfl HX)))
  exact r_aret dJ23_copyOfRange_16 rfl H
abbrev w_J23_copyOfRange_0 (g : PG) (d : Nat) (l0 : Nat) (l1 : Int32) (l2 : Int32) (h : PH) (Q : Out → PH → Prop) : Prop := ((¬ l1 = 0) → w_J23_copyOfRange_10 g d l0 l1 l2 h Q) ∧ ((l1 = 0) → hkd h l0 / 100 = 3 ∧ ((l2 = (nI (hln h l0))) → False) ∧ ((¬ l2 = (nI (hln h l0))) → w_J23_copyOfRange_10 g d l0 l1 l2 h Q))
theorem v_J23_copyOfRange_0 {g : PG} {d : Nat} {l0 : Nat} {l1 : Int32} {l2 : Int32} {h : PH} {Q : Out → PH → Prop} (H : w_J23_copyOfRange_0 g d l0 l1 l2 h Q) : R g d m_J23_copyOfRange 0 [.ref l0, .int l1, .int l2] [] h Q := by
  refine r_iload_n dJ23_copyOfRange_0 rfl rfl ?_
  refine r_if_ne (tgt := 10) dJ23_copyOfRange_1 rfl (fun b1 => ?_) (fun b1 => ?_)
  · replace H := H.1 b1
    exact v_J23_copyOfRange_10 H
  · replace H := H.2 b1
    refine r_iload_n dJ23_copyOfRange_4 rfl rfl ?_
    refine r_aload_n dJ23_copyOfRange_5 rfl rfl ?_
    obtain ⟨k2, H⟩ := H
    refine r_alen (m := 3) dJ23_copyOfRange_6 (by decide) k2 ?_
    refine r_icmp_eq (tgt := 17) dJ23_copyOfRange_7 rfl (fun b3 => ?_) (fun b3 => ?_)
    · replace H := H.1 b3
      exact H.elim
    · replace H := H.2 b3
      exact v_J23_copyOfRange_10 H
theorem c_J23_copyOfRange_0 {g : PG} {d : Nat} {l0 : Nat} {l1 : Int32} {l2 : Int32} {h : PH} {Q : Out → PH → Prop} (H : w_J23_copyOfRange_0 g d l0 l1 l2 h Q) : C g (d + 1) m_J23_copyOfRange [.ref l0, .int l1, .int l2] h Q := C_of_R rfl rfl (Nat.le_of_ble_eq_true rfl) rfl (v_J23_copyOfRange_0 H)
abbrev w_J23_copyOfRangeByte_0 (g : PG) (d : Nat) (l0 : Nat) (l1 : Int32) (l2 : Int32) (h : PH) (Q : Out → PH → Prop) : Prop := C g d m_J23_checkLength [.int l1, .int l2] h (oV (fun h1 => ¬ (l2 - l1) < 0 ∧ (l2 - l1).toNatClampNeg ≤ 67108864 ∧ ∀ h6, h6 = hnew 300 (l2 - l1).toNatClampNeg ((l2 - l1).toNatClampNeg + 1) h1 → hkd h6 l0 / 100 = 3 ∧ hkd h6 (hnx h1) / 100 = 3 ∧ hkd h6 (hnx h1) % 100 < 50 ∧ ¬ l1 < 0 ∧ ¬ (0 : Int32) < 0 ∧ ¬ (i32min ((nI (hln h6 l0)) - l1) (l2 - l1)) < 0 ∧ l1.toNatClampNeg + (i32min ((nI (hln h6 l0)) - l1) (l2 - l1)).toNatClampNeg ≤ hln h6 l0 ∧ (0 : Int32).toNatClampNeg + (i32min ((nI (hln h6 l0)) - l1) (l2 - l1)).toNatClampNeg ≤ hln h6 (hnx h1) ∧ (∀ i, i < (i32min ((nI (hln h6 l0)) - l1) (l2 - l1)).toNatClampNeg → fits .byte (.int (hA h6 l0 (l1.toNatClampNeg + i))) = true) ∧ ∀ h17, h17 = cpyA l0 l1.toNatClampNeg (hnx h1) (0 : Int32).toNatClampNeg (i32min ((nI (hln h6 l0)) - l1) (l2 - l1)).toNatClampNeg h6 → Q (.inl (some (.ref (hnx h1)))) h17) (fun r hx => Q (.inr r) hx))
theorem v_J23_copyOfRangeByte_0 {g : PG} {d : Nat} {l0 : Nat} {l1 : Int32} {l2 : Int32} {h : PH} {Q : Out → PH → Prop} (H : w_J23_copyOfRangeByte_0 g d l0 l1 l2 h Q) : R g d m_J23_copyOfRangeByte 0 [.ref l0, .int l1, .int l2, .null, .null] [] h Q := by
  refine r_iload_n dJ23_copyOfRangeByte_0 rfl rfl ?_
  refine r_iload_n dJ23_copyOfRangeByte_1 rfl rfl ?_
  refine r_invS (y := m_J23_checkLength) dJ23_copyOfRangeByte_2 rfl (lw_S q622 q623 q135 q624) py_J23_checkLength (Nat.le_of_ble_eq_true rfl) (args := [_, _]) rfl rfl (Nat.le_of_ble_eq_true rfl) (C.monoE H (fun o h1 _ x3 K => cont_V K (fun H => ?_) (fun r HX => XR_nc rfl HX)))
  refine r_iload_n dJ23_copyOfRangeByte_5 rfl rfl ?_
  refine r_iload_n dJ23_copyOfRangeByte_6 rfl rfl ?_
  refine r_isub dJ23_copyOfRangeByte_7 ?_
  refine r_istore_n dJ23_copyOfRangeByte_8 rfl (Nat.le_of_ble_eq_true rfl) rfl (slS (slS (slS sl0))) ?_
  refine r_iload_n dJ23_copyOfRangeByte_9 rfl rfl ?_
  obtain ⟨k4, H⟩ := H
  obtain ⟨k5, H⟩ := H
  replace H := H _ rfl
  refine r_newa (atype := .byte) (m := 3) (kk := 300) dJ23_copyOfRangeByte_10 rfl (by decide) (by decide) q398 k4 rfl (newB k5 (by decide)) ?_
  refine r_astore dJ23_copyOfRangeByte_12 (Nat.le_of_ble_eq_true rfl) rfl (slS (slS (slS (slS sl0)))) ?_
  refine r_aload_n dJ23_copyOfRangeByte_14 rfl rfl ?_
  refine r_iload_n dJ23_copyOfRangeByte_15 rfl rfl ?_
  refine r_aload dJ23_copyOfRangeByte_16 rfl ?_
  refine r_iconst dJ23_copyOfRangeByte_18 rfl ?_
  refine r_aload_n dJ23_copyOfRangeByte_19 rfl rfl ?_
  obtain ⟨k7, H⟩ := H
  refine r_alen (m := 3) dJ23_copyOfRangeByte_20 (by decide) k7 ?_
  refine r_iload_n dJ23_copyOfRangeByte_21 rfl rfl ?_
  refine r_isub dJ23_copyOfRangeByte_22 ?_
  refine r_iload_n dJ23_copyOfRangeByte_23 rfl rfl ?_
  refine r_mmin dJ23_copyOfRangeByte_24 q484 q485 q134 q486 (Nat.le_of_ble_eq_true rfl) ?_
  obtain ⟨k9, H⟩ := H
  obtain ⟨k10, H⟩ := H
  obtain ⟨k11, H⟩ := H
  obtain ⟨k12, H⟩ := H
  obtain ⟨k13, H⟩ := H
  obtain ⟨k14, H⟩ := H
  obtain ⟨k15, H⟩ := H
  obtain ⟨k16, H⟩ := H
  replace H := H _ rfl
  refine r_copyA (m := 3) dJ23_copyOfRangeByte_27 q487 (by decide) k7 k9 k10 k11 k12 k13 k14 k15 k16 (Nat.le_of_ble_eq_true rfl) ?_
  refine r_aload dJ23_copyOfRangeByte_30 rfl ?_
  exact r_aret dJ23_copyOfRangeByte_32 rfl H
theorem c_J23_copyOfRangeByte_0 {g : PG} {d : Nat} {l0 : Nat} {l1 : Int32} {l2 : Int32} {h : PH} {Q : Out → PH → Prop} (H : w_J23_copyOfRangeByte_0 g d l0 l1 l2 h Q) : C g (d + 1) m_J23_copyOfRangeByte [.ref l0, .int l1, .int l2] h Q := C_of_R rfl rfl (Nat.le_of_ble_eq_true rfl) rfl (v_J23_copyOfRangeByte_0 H)
abbrev w_J23_checkLength_0 (g : PG) (d : Nat) (l0 : Int32) (l1 : Int32) (h : PH) (Q : Out → PH → Prop) : Prop := ((l0 ≤ l1) → Q (.inl none) h) ∧ ((¬ l0 ≤ l1) → False)
theorem v_J23_checkLength_0 {g : PG} {d : Nat} {l0 : Int32} {l1 : Int32} {h : PH} {Q : Out → PH → Prop} (H : w_J23_checkLength_0 g d l0 l1 h Q) : R g d m_J23_checkLength 0 [.int l0, .int l1] [] h Q := by
  refine r_iload_n dJ23_checkLength_0 rfl rfl ?_
  refine r_iload_n dJ23_checkLength_1 rfl rfl ?_
  refine r_icmp_ge (tgt := 37) dJ23_checkLength_2 rfl (fun b1 => ?_) (fun b1 => ?_)
  · replace H := H.1 b1
    exact r_vret dJ23_checkLength_37 rfl H
  · replace H := H.2 b1
    exact H.elim
theorem c_J23_checkLength_0 {g : PG} {d : Nat} {l0 : Int32} {l1 : Int32} {h : PH} {Q : Out → PH → Prop} (H : w_J23_checkLength_0 g d l0 l1 h Q) : C g (d + 1) m_J23_checkLength [.int l0, .int l1] h Q := C_of_R rfl rfl (Nat.le_of_ble_eq_true rfl) rfl (v_J23_checkLength_0 H)
abbrev w_J23_fill_10 (g : PG) (d : Nat) (l0 : Nat) (l2 : Int32) (l3 : Int32) (l4 : Int32) (h : PH) (Q : Out → PH → Prop) : Prop := ((l2 ≤ l4) → Q (.inl none) h) ∧ ((¬ l2 ≤ l4) → hkd h l0 / 100 = 3 ∧ hkd h l0 % 100 < 50 ∧ vp_in l4 (hln h l0) ∧ narrow .byte (.int l3) = .int l3 ∧ ∀ h5, h5 = setA l0 l4.toNatClampNeg l3 h → R g d m_J23_fill 10 [.ref l0, .null, .int l2, .int l3, .int (l4 + 1)] [] h5 Q)
theorem v_J23_fill_10 {g : PG} {d : Nat} {l0 : Nat} {l2 : Int32} {l3 : Int32} {l4 : Int32} {h : PH} {Q : Out → PH → Prop} (H : w_J23_fill_10 g d l0 l2 l3 l4 h Q) : R g d m_J23_fill 10 [.ref l0, .null, .int l2, .int l3, .int l4] [] h Q := by
  refine r_iload dJ23_fill_10 rfl ?_
  refine r_iload_n dJ23_fill_12 rfl rfl ?_
  refine r_icmp_ge (tgt := 27) dJ23_fill_13 rfl (fun b1 => ?_) (fun b1 => ?_)
  · replace H := H.1 b1
    exact r_vret dJ23_fill_27 rfl H
  · replace H := H.2 b1
    refine r_aload_n dJ23_fill_16 rfl rfl ?_
    refine r_iload dJ23_fill_17 rfl ?_
    refine r_iload_n dJ23_fill_19 rfl rfl ?_
    obtain ⟨k2, H⟩ := H
    obtain ⟨k3, H⟩ := H
    obtain ⟨k4, H⟩ := H
    obtain ⟨k6, H⟩ := H
    replace H := H _ rfl
    refine r_bast dJ23_fill_20 k2 k3 k4 k6 ?_
    refine r_iinc dJ23_fill_21 rfl rfl (Nat.le_of_ble_eq_true rfl) rfl (slS (slS (slS (slS sl0)))) ?_
    refine r_goto (tgt := 10) dJ23_fill_24 rfl ?_
    exact H
abbrev w_J23_fill_0 (g : PG) (d : Nat) (l0 : Nat) (l1 : Int32) (l2 : Int32) (l3 : Int32) (h : PH) (Q : Out → PH → Prop) : Prop := hkd h l0 / 100 = 3 ∧ C g d m_J23_rangeCheck [.int (nI (hln h l0)), .int l1, .int l2] h (oV (fun h2 => R g d m_J23_fill 10 [.ref l0, .null, .int l2, .int l3, .int l1] [] h2 Q) (fun r hx => Q (.inr r) hx))
theorem v_J23_fill_0 {g : PG} {d : Nat} {l0 : Nat} {l1 : Int32} {l2 : Int32} {l3 : Int32} {h : PH} {Q : Out → PH → Prop} (H : w_J23_fill_0 g d l0 l1 l2 l3 h Q) : R g d m_J23_fill 0 [.ref l0, .int l1, .int l2, .int l3, .null] [] h Q := by
  refine r_aload_n dJ23_fill_0 rfl rfl ?_
  obtain ⟨k1, H⟩ := H
  refine r_alen (m := 3) dJ23_fill_1 (by decide) k1 ?_
  refine r_iload_n dJ23_fill_2 rfl rfl ?_
  refine r_iload_n dJ23_fill_3 rfl rfl ?_
  refine r_invS (y := m_J23_rangeCheck) dJ23_fill_4 rfl (lw_S q747 q748 q135 q749) py_J23_rangeCheck (Nat.le_of_ble_eq_true rfl) (args := [_, _, _]) rfl rfl (Nat.le_of_ble_eq_true rfl) (C.monoE H (fun o h2 _ x4 K => cont_V K (fun H => ?_) (fun r HX => XR_nc rfl HX)))
  refine r_iload_n dJ23_fill_7 rfl rfl ?_
  refine r_istore dJ23_fill_8 (Nat.le_of_ble_eq_true rfl) rfl (slS (slS (slS (slS sl0)))) ?_
  exact R.forget H ⟨Or.inl rfl, ⟨Or.inr rfl, ⟨Or.inl rfl, ⟨Or.inl rfl, ⟨Or.inl rfl, trivial⟩⟩⟩⟩⟩
theorem c_J23_fill_0 {g : PG} {d : Nat} {l0 : Nat} {l1 : Int32} {l2 : Int32} {l3 : Int32} {h : PH} {Q : Out → PH → Prop} (H : w_J23_fill_0 g d l0 l1 l2 l3 h Q) : C g (d + 1) m_J23_fill [.ref l0, .int l1, .int l2, .int l3] h Q := C_of_R rfl rfl (Nat.le_of_ble_eq_true rfl) rfl (v_J23_fill_0 H)
abbrev w_J23_rangeCheck_0 (g : PG) (d : Nat) (l0 : Int32) (l1 : Int32) (l2 : Int32) (h : PH) (Q : Out → PH → Prop) : Prop := ((l1 ≤ l2) → ((0 ≤ l1) → ((l2 ≤ l0) → Q (.inl none) h) ∧ ((¬ l2 ≤ l0) → False)) ∧ ((¬ 0 ≤ l1) → False)) ∧ ((¬ l1 ≤ l2) → False)
theorem v_J23_rangeCheck_0 {g : PG} {d : Nat} {l0 : Int32} {l1 : Int32} {l2 : Int32} {h : PH} {Q : Out → PH → Prop} (H : w_J23_rangeCheck_0 g d l0 l1 l2 h Q) : R g d m_J23_rangeCheck 0 [.int l0, .int l1, .int l2] [] h Q := by
  refine r_iload_n dJ23_rangeCheck_0 rfl rfl ?_
  refine r_iload_n dJ23_rangeCheck_1 rfl rfl ?_
  refine r_icmp_le (tgt := 46) dJ23_rangeCheck_2 rfl (fun b1 => ?_) (fun b1 => ?_)
  · replace H := H.1 b1
    refine r_iload_n dJ23_rangeCheck_46 rfl rfl ?_
    refine r_if_ge (tgt := 59) dJ23_rangeCheck_47 rfl (fun b2 => ?_) (fun b2 => ?_)
    · replace H := H.1 b2
      refine r_iload_n dJ23_rangeCheck_59 rfl rfl ?_
      refine r_iload_n dJ23_rangeCheck_60 rfl rfl ?_
      refine r_icmp_le (tgt := 73) dJ23_rangeCheck_61 rfl (fun b3 => ?_) (fun b3 => ?_)
      · replace H := H.1 b3
        exact r_vret dJ23_rangeCheck_73 rfl H
      · replace H := H.2 b3
        exact H.elim
    · replace H := H.2 b2
      exact H.elim
  · replace H := H.2 b1
    exact H.elim
theorem c_J23_rangeCheck_0 {g : PG} {d : Nat} {l0 : Int32} {l1 : Int32} {l2 : Int32} {h : PH} {Q : Out → PH → Prop} (H : w_J23_rangeCheck_0 g d l0 l1 l2 h Q) : C g (d + 1) m_J23_rangeCheck [.int l0, .int l1, .int l2] h Q := C_of_R rfl rfl (Nat.le_of_ble_eq_true rfl) rfl (v_J23_rangeCheck_0 H)
abbrev w_J23_copyOfRange_2_0 (g : PG) (d : Nat) (l0 : Nat) (l1 : Int32) (l2 : Int32) (l3 : Nat) (h : PH) (Q : Out → PH → Prop) : Prop := ((0 ≤ (l2 - l1)) → False) ∧ ((¬ 0 ≤ (l2 - l1)) → False)
theorem v_J23_copyOfRange_2_0 {g : PG} {d : Nat} {l0 : Nat} {l1 : Int32} {l2 : Int32} {l3 : Nat} {h : PH} {Q : Out → PH → Prop} (H : w_J23_copyOfRange_2_0 g d l0 l1 l2 l3 h Q) : R g d m_J23_copyOfRange_2 0 [.ref l0, .int l1, .int l2, .ref l3, .null, .null] [] h Q := by
  refine r_iload_n dJ23_copyOfRange_2_0 rfl rfl ?_
  refine r_iload_n dJ23_copyOfRange_2_1 rfl rfl ?_
  refine r_isub dJ23_copyOfRange_2_2 ?_
  refine r_istore dJ23_copyOfRange_2_3 (Nat.le_of_ble_eq_true rfl) rfl (slS (slS (slS (slS sl0)))) ?_
  refine r_iload dJ23_copyOfRange_2_5 rfl ?_
  refine r_if_ge (tgt := 42) dJ23_copyOfRange_2_7 rfl (fun b1 => ?_) (fun b1 => ?_)
  · replace H := H.1 b1
    refine r_aload_n dJ23_copyOfRange_2_42 rfl rfl ?_
    exact H.elim
  · replace H := H.2 b1
    exact H.elim
theorem c_J23_copyOfRange_2_0 {g : PG} {d : Nat} {l0 : Nat} {l1 : Int32} {l2 : Int32} {l3 : Nat} {h : PH} {Q : Out → PH → Prop} (H : w_J23_copyOfRange_2_0 g d l0 l1 l2 l3 h Q) : C g (d + 1) m_J23_copyOfRange_2 [.ref l0, .int l1, .int l2, .ref l3] h Q := C_of_R rfl rfl (Nat.le_of_ble_eq_true rfl) rfl (v_J23_copyOfRange_2_0 H)
abbrev w_J23_copyOf_3_0 (g : PG) (d : Nat) (l0 : Nat) (l1 : Int32) (l2 : Nat) (h : PH) (Q : Out → PH → Prop) : Prop := False
theorem v_J23_copyOf_3_0 {g : PG} {d : Nat} {l0 : Nat} {l1 : Int32} {l2 : Nat} {h : PH} {Q : Out → PH → Prop} (H : w_J23_copyOf_3_0 g d l0 l1 l2 h Q) : R g d m_J23_copyOf_3 0 [.ref l0, .int l1, .ref l2, .null] [] h Q := by
  refine r_aload_n dJ23_copyOf_3_0 rfl rfl ?_
  exact H.elim
theorem c_J23_copyOf_3_0 {g : PG} {d : Nat} {l0 : Nat} {l1 : Int32} {l2 : Nat} {h : PH} {Q : Out → PH → Prop} (H : w_J23_copyOf_3_0 g d l0 l1 l2 h Q) : C g (d + 1) m_J23_copyOf_3 [.ref l0, .int l1, .ref l2] h Q := C_of_R rfl rfl (Nat.le_of_ble_eq_true rfl) rfl (v_J23_copyOf_3_0 H)
abbrev w_J24_fillNull_0 (g : PG) (d : Nat) (l0 : Nat) (l1 : Int32) (l2 : Int32) (h : PH) (Q : Out → PH → Prop) : Prop := C g d m_J23_fill [.ref l0, .int l1, .int l2, .int 0] h (oV (fun h1 => Q (.inl none) h1) (fun r hx => Q (.inr r) hx))
theorem v_J24_fillNull_0 {g : PG} {d : Nat} {l0 : Nat} {l1 : Int32} {l2 : Int32} {h : PH} {Q : Out → PH → Prop} (H : w_J24_fillNull_0 g d l0 l1 l2 h Q) : R g d m_J24_fillNull 0 [.ref l0, .int l1, .int l2] [] h Q := by
  refine r_aload_n dJ24_fillNull_0 rfl rfl ?_
  refine r_iload_n dJ24_fillNull_1 rfl rfl ?_
  refine r_iload_n dJ24_fillNull_2 rfl rfl ?_
  refine r_iconst dJ24_fillNull_3 rfl ?_
  refine r_invS (y := m_J23_fill) dJ24_fillNull_4 rfl (lw_S q744 q745 q135 q746) py_J23_fill (Nat.le_of_ble_eq_true rfl) (args := [_, _, _, _]) rfl rfl (Nat.le_of_ble_eq_true rfl) (C.monoE H (fun o h1 _ x3 K => cont_V K (fun H => ?_) (fun r HX => XR_nc rfl HX)))
  exact r_vret dJ24_fillNull_7 rfl H
theorem c_J24_fillNull_0 {g : PG} {d : Nat} {l0 : Nat} {l1 : Int32} {l2 : Int32} {h : PH} {Q : Out → PH → Prop} (H : w_J24_fillNull_0 g d l0 l1 l2 h Q) : C g (d + 1) m_J24_fillNull [.ref l0, .int l1, .int l2] h Q := C_of_R rfl rfl (Nat.le_of_ble_eq_true rfl) rfl (v_J24_fillNull_0 H)
abbrev w_J24_canEncode_0 (g : PG) (d : Nat) (l0 : Int32) (h : PH) (Q : Out → PH → Prop) : Prop := (((255 : Int32) < l0) → Q (.inl (some (.int 0))) h) ∧ ((¬ (255 : Int32) < l0) → Q (.inl (some (.int 1))) h)
theorem v_J24_canEncode_0 {g : PG} {d : Nat} {l0 : Int32} {h : PH} {Q : Out → PH → Prop} (H : w_J24_canEncode_0 g d l0 h Q) : R g d m_J24_canEncode 0 [.int l0] [] h Q := by
  refine r_iload_n dJ24_canEncode_0 rfl rfl ?_
  refine r_sipush dJ24_canEncode_1 rfl ?_
  refine r_icmp_gt (tgt := 11) dJ24_canEncode_4 rfl (fun b1 => ?_) (fun b1 => ?_)
  · replace H := H.1 b1
    refine r_iconst dJ24_canEncode_11 rfl ?_
    exact r_zret dJ24_canEncode_12 rfl rfl H
  · replace H := H.2 b1
    refine r_iconst dJ24_canEncode_7 rfl ?_
    refine r_goto (tgt := 12) dJ24_canEncode_8 rfl ?_
    exact r_zret dJ24_canEncode_12 rfl rfl H
theorem c_J24_canEncode_0 {g : PG} {d : Nat} {l0 : Int32} {h : PH} {Q : Out → PH → Prop} (H : w_J24_canEncode_0 g d l0 h Q) : C g (d + 1) m_J24_canEncode [.int l0] h Q := C_of_R rfl rfl (Nat.le_of_ble_eq_true rfl) rfl (v_J24_canEncode_0 H)
abbrev w_J24_getChar_0 (g : PG) (d : Nat) (l0 : Nat) (l1 : Int32) (h : PH) (Q : Out → PH → Prop) : Prop := hkd h l0 / 100 = 3 ∧ vp_in l1 (hln h l0) ∧ narrow .char (.int ((((hA h l0 l1.toNatClampNeg) &&& (255 : Int32)).toUInt32 % 65536).toInt32)) = .int ((((hA h l0 l1.toNatClampNeg) &&& (255 : Int32)).toUInt32 % 65536).toInt32) ∧ Q (.inl (some (.int ((((hA h l0 l1.toNatClampNeg) &&& (255 : Int32)).toUInt32 % 65536).toInt32)))) h
theorem v_J24_getChar_0 {g : PG} {d : Nat} {l0 : Nat} {l1 : Int32} {h : PH} {Q : Out → PH → Prop} (H : w_J24_getChar_0 g d l0 l1 h Q) : R g d m_J24_getChar 0 [.ref l0, .int l1] [] h Q := by
  refine r_aload_n dJ24_getChar_0 rfl rfl ?_
  refine r_iload_n dJ24_getChar_1 rfl rfl ?_
  obtain ⟨k1, H⟩ := H
  obtain ⟨k2, H⟩ := H
  refine r_bald dJ24_getChar_2 k1 k2 ?_
  refine r_sipush dJ24_getChar_3 rfl ?_
  refine r_iand dJ24_getChar_6 ?_
  refine r_i2c dJ24_getChar_7 ?_
  exact r_zret dJ24_getChar_8 rfl H.1 H.2
theorem c_J24_getChar_0 {g : PG} {d : Nat} {l0 : Nat} {l1 : Int32} {h : PH} {Q : Out → PH → Prop} (H : w_J24_getChar_0 g d l0 l1 h Q) : C g (d + 1) m_J24_getChar [.ref l0, .int l1] h Q := C_of_R rfl rfl (Nat.le_of_ble_eq_true rfl) rfl (v_J24_getChar_0 H)
abbrev w_J24_length_0 (g : PG) (d : Nat) (l0 : Nat) (h : PH) (Q : Out → PH → Prop) : Prop := hkd h l0 / 100 = 3 ∧ Q (.inl (some (.int (nI (hln h l0))))) h
theorem v_J24_length_0 {g : PG} {d : Nat} {l0 : Nat} {h : PH} {Q : Out → PH → Prop} (H : w_J24_length_0 g d l0 h Q) : R g d m_J24_length 0 [.ref l0] [] h Q := by
  refine r_aload_n dJ24_length_0 rfl rfl ?_
  obtain ⟨k1, H⟩ := H
  refine r_alen (m := 3) dJ24_length_1 (by decide) k1 ?_
  exact r_iret dJ24_length_2 rfl H
theorem c_J24_length_0 {g : PG} {d : Nat} {l0 : Nat} {h : PH} {Q : Out → PH → Prop} (H : w_J24_length_0 g d l0 h Q) : C g (d + 1) m_J24_length [.ref l0] h Q := C_of_R rfl rfl (Nat.le_of_ble_eq_true rfl) rfl (v_J24_length_0 H)
abbrev w_J24_equals_9 (g : PG) (d : Nat) (l0 : Nat) (l1 : Nat) (l2 : Int32) (h : PH) (Q : Out → PH → Prop) : Prop := hkd h l0 / 100 = 3 ∧ (((nI (hln h l0)) ≤ l2) → Q (.inl (some (.int 1))) h) ∧ ((¬ (nI (hln h l0)) ≤ l2) → vp_in l2 (hln h l0) ∧ hkd h l1 / 100 = 3 ∧ vp_in l2 (hln h l1) ∧ (((hA h l0 l2.toNatClampNeg) = (hA h l1 l2.toNatClampNeg)) → R g d m_J24_equals 9 [.ref l0, .ref l1, .int (l2 + 1)] [] h Q) ∧ ((¬ (hA h l0 l2.toNatClampNeg) = (hA h l1 l2.toNatClampNeg)) → Q (.inl (some (.int 0))) h))
theorem v_J24_equals_9 {g : PG} {d : Nat} {l0 : Nat} {l1 : Nat} {l2 : Int32} {h : PH} {Q : Out → PH → Prop} (H : w_J24_equals_9 g d l0 l1 l2 h Q) : R g d m_J24_equals 9 [.ref l0, .ref l1, .int l2] [] h Q := by
  refine r_iload_n dJ24_equals_9 rfl rfl ?_
  refine r_aload_n dJ24_equals_10 rfl rfl ?_
  obtain ⟨k1, H⟩ := H
  refine r_alen (m := 3) dJ24_equals_11 (by decide) k1 ?_
  refine r_icmp_ge (tgt := 32) dJ24_equals_12 rfl (fun b2 => ?_) (fun b2 => ?_)
  · replace H := H.1 b2
    refine r_iconst dJ24_equals_32 rfl ?_
    exact r_zret dJ24_equals_33 rfl rfl H
  · replace H := H.2 b2
    refine r_aload_n dJ24_equals_15 rfl rfl ?_
    refine r_iload_n dJ24_equals_16 rfl rfl ?_
    obtain ⟨k4, H⟩ := H
    refine r_bald dJ24_equals_17 k1 k4 ?_
    refine r_aload_n dJ24_equals_18 rfl rfl ?_
    refine r_iload_n dJ24_equals_19 rfl rfl ?_
    obtain ⟨k5, H⟩ := H
    obtain ⟨k6, H⟩ := H
    refine r_bald dJ24_equals_20 k5 k6 ?_
    refine r_icmp_eq (tgt := 26) dJ24_equals_21 rfl (fun b7 => ?_) (fun b7 => ?_)
    · replace H := H.1 b7
      refine r_iinc dJ24_equals_26 rfl rfl (Nat.le_of_ble_eq_true rfl) rfl (slS (slS sl0)) ?_
      refine r_goto (tgt := 9) dJ24_equals_29 rfl ?_
      exact H
    · replace H := H.2 b7
      refine r_iconst dJ24_equals_24 rfl ?_
      exact r_zret dJ24_equals_25 rfl rfl H
abbrev w_J24_equals_0 (g : PG) (d : Nat) (l0 : Nat) (l1 : Nat) (h : PH) (Q : Out → PH → Prop) : Prop := hkd h l0 / 100 = 3 ∧ hkd h l1 / 100 = 3 ∧ ((¬ (nI (hln h l0)) = (nI (hln h l1))) → Q (.inl (some (.int 0))) h) ∧ (((nI (hln h l0)) = (nI (hln h l1))) → R g d m_J24_equals 9 [.ref l0, .ref l1, .int 0] [] h Q)
theorem v_J24_equals_0 {g : PG} {d : Nat} {l0 : Nat} {l1 : Nat} {h : PH} {Q : Out → PH → Prop} (H : w_J24_equals_0 g d l0 l1 h Q) : R g d m_J24_equals 0 [.ref l0, .ref l1, .null] [] h Q := by
  refine r_aload_n dJ24_equals_0 rfl rfl ?_
  obtain ⟨k1, H⟩ := H
  refine r_alen (m := 3) dJ24_equals_1 (by decide) k1 ?_
  refine r_aload_n dJ24_equals_2 rfl rfl ?_
  obtain ⟨k2, H⟩ := H
  refine r_alen (m := 3) dJ24_equals_3 (by decide) k2 ?_
  refine r_icmp_ne (tgt := 34) dJ24_equals_4 rfl (fun b3 => ?_) (fun b3 => ?_)
  · replace H := H.1 b3
    refine r_iconst dJ24_equals_34 rfl ?_
    exact r_zret dJ24_equals_35 rfl rfl H
  · replace H := H.2 b3
    refine r_iconst dJ24_equals_7 rfl ?_
    refine r_istore_n dJ24_equals_8 rfl (Nat.le_of_ble_eq_true rfl) rfl (slS (slS sl0)) ?_
    exact H
theorem c_J24_equals_0 {g : PG} {d : Nat} {l0 : Nat} {l1 : Nat} {h : PH} {Q : Out → PH → Prop} (H : w_J24_equals_0 g d l0 l1 h Q) : C g (d + 1) m_J24_equals [.ref l0, .ref l1] h Q := C_of_R rfl rfl (Nat.le_of_ble_eq_true rfl) rfl (v_J24_equals_0 H)
abbrev w_J24_hashCode_0 (g : PG) (d : Nat) (l0 : Nat) (h : PH) (Q : Out → PH → Prop) : Prop := hkd h l0 / 100 = 3 ∧ ((nI (hln h l0)) = 0 → Q (.inl (some (.int 0))) h) ∧ ((nI (hln h l0)) = 1 → vp_in (0 : Int32) (hln h l0) ∧ Q (.inl (some (.int ((hA h l0 (0 : Int32).toNatClampNeg) &&& (255 : Int32))))) h) ∧ (¬ (nI (hln h l0)) = 0 → ¬ (nI (hln h l0)) = 1 → C g d m_J21_vectorizedHashCode [.ref l0, .int 0, .int (nI (hln h l0)), .int 0, .int 4] h (oI (fun v8 h7 => Q (.inl (some (.int v8))) h7) (fun r hx => Q (.inr r) hx)))
theorem v_J24_hashCode_0 {g : PG} {d : Nat} {l0 : Nat} {h : PH} {Q : Out → PH → Prop} (H : w_J24_hashCode_0 g d l0 h Q) : R g d m_J24_hashCode 0 [.ref l0] [] h Q := by
  refine r_aload_n dJ24_hashCode_0 rfl rfl ?_
  obtain ⟨k1, H⟩ := H
  refine r_alen (m := 3) dJ24_hashCode_1 (by decide) k1 ?_
  refine R.tri (k9 := 0) (fun b2 => ?_) (fun b2 => ?_)
  · replace H := H.1 b2
    refine r_lookup (tgt := 28) dJ24_hashCode_2 (by decide) (by rw [b2]; first | done | rfl) rfl ?_
    refine r_iconst dJ24_hashCode_28 rfl ?_
    refine r_goto (tgt := 51) dJ24_hashCode_29 rfl ?_
    exact r_iret dJ24_hashCode_51 rfl H
  replace H := H.2
  refine R.tri (k9 := 1) (fun b3 => ?_) (fun b3 => ?_)
  · replace H := H.1 b3
    refine r_lookup (tgt := 32) dJ24_hashCode_2 (by decide) (by rw [b3]; first | done | rfl) rfl ?_
    refine r_aload_n dJ24_hashCode_32 rfl rfl ?_
    refine r_iconst dJ24_hashCode_33 rfl ?_
    obtain ⟨k5, H⟩ := H
    refine r_bald dJ24_hashCode_34 k1 k5 ?_
    refine r_sipush dJ24_hashCode_35 rfl ?_
    refine r_iand dJ24_hashCode_38 ?_
    refine r_goto (tgt := 51) dJ24_hashCode_39 rfl ?_
    exact r_iret dJ24_hashCode_51 rfl H
  replace H := H.2
  replace H := H b2 b3
  refine r_lookup (tgt := 42) (off := 40) dJ24_hashCode_2 (by decide) (lookDef (List.forall_mem_cons.mpr ⟨b2, (List.forall_mem_cons.mpr ⟨b3, (fun _ h => absurd h List.not_mem_nil)⟩)⟩)) rfl ?_
  refine r_aload_n dJ24_hashCode_42 rfl rfl ?_
  refine r_iconst dJ24_hashCode_43 rfl ?_
  refine r_aload_n dJ24_hashCode_44 rfl rfl ?_
  refine r_alen (m := 3) dJ24_hashCode_45 (by decide) k1 ?_
  refine r_iconst dJ24_hashCode_46 rfl ?_
  refine r_iconst dJ24_hashCode_47 rfl ?_
  refine r_invS (y := m_J21_vectorizedHashCode) dJ24_hashCode_48 rfl (lw_S q2335 q2336 q133 q2337) py_J21_vectorizedHashCode (Nat.le_of_ble_eq_true rfl) (args := [_, _, _, _, _]) rfl rfl (Nat.le_of_ble_eq_true rfl) (C.monoE H (fun o h7 _ x9 K => cont_I K (fun v8 H => ?_) (fun r HX => XR_nc rfl HX)))
  exact r_iret dJ24_hashCode_51 rfl H
theorem c_J24_hashCode_0 {g : PG} {d : Nat} {l0 : Nat} {h : PH} {Q : Out → PH → Prop} (H : w_J24_hashCode_0 g d l0 h Q) : C g (d + 1) m_J24_hashCode [.ref l0] h Q := C_of_R rfl rfl (Nat.le_of_ble_eq_true rfl) rfl (v_J24_hashCode_0 H)
abbrev w_J24_charAt_0 (g : PG) (d : Nat) (l0 : Nat) (l1 : Int32) (h : PH) (Q : Out → PH → Prop) : Prop := hkd h l0 / 100 = 3 ∧ C g d m_J10_checkIndex [.int l1, .int (nI (hln h l0))] h (oV (fun h2 => hkd h2 l0 / 100 = 3 ∧ vp_in l1 (hln h2 l0) ∧ narrow .char (.int ((((hA h2 l0 l1.toNatClampNeg) &&& (255 : Int32)).toUInt32 % 65536).toInt32)) = .int ((((hA h2 l0 l1.toNatClampNeg) &&& (255 : Int32)).toUInt32 % 65536).toInt32) ∧ Q (.inl (some (.int ((((hA h2 l0 l1.toNatClampNeg) &&& (255 : Int32)).toUInt32 % 65536).toInt32)))) h2) (fun r hx => Q (.inr r) hx))
theorem v_J24_charAt_0 {g : PG} {d : Nat} {l0 : Nat} {l1 : Int32} {h : PH} {Q : Out → PH → Prop} (H : w_J24_charAt_0 g d l0 l1 h Q) : R g d m_J24_charAt 0 [.ref l0, .int l1] [] h Q := by
  refine r_iload_n dJ24_charAt_0 rfl rfl ?_
  refine r_aload_n dJ24_charAt_1 rfl rfl ?_
  obtain ⟨k1, H⟩ := H
  refine r_alen (m := 3) dJ24_charAt_2 (by decide) k1 ?_
  refine r_invS (y := m_J10_checkIndex) dJ24_charAt_3 rfl (lw_S q2937 q806 q120 q807) py_J10_checkIndex (Nat.le_of_ble_eq_true rfl) (args := [_, _]) rfl rfl (Nat.le_of_ble_eq_true rfl) (C.monoE H (fun o h2 _ x4 K => cont_V K (fun H => ?_) (fun r HX => XR_nc rfl HX)))
  refine r_aload_n dJ24_charAt_6 rfl rfl ?_
  refine r_iload_n dJ24_charAt_7 rfl rfl ?_
  obtain ⟨k5, H⟩ := H
  obtain ⟨k6, H⟩ := H
  refine r_bald dJ24_charAt_8 k5 k6 ?_
  refine r_sipush dJ24_charAt_9 rfl ?_
  refine r_iand dJ24_charAt_12 ?_
  refine r_i2c dJ24_charAt_13 ?_
  exact r_zret dJ24_charAt_14 rfl H.1 H.2
theorem c_J24_charAt_0 {g : PG} {d : Nat} {l0 : Nat} {l1 : Int32} {h : PH} {Q : Out → PH → Prop} (H : w_J24_charAt_0 g d l0 l1 h Q) : C g (d + 1) m_J24_charAt [.ref l0, .int l1] h Q := C_of_R rfl rfl (Nat.le_of_ble_eq_true rfl) rfl (v_J24_charAt_0 H)
abbrev w_J24_indexOf_0 (g : PG) (d : Nat) (l0 : Nat) (l1 : Int32) (l2 : Int32) (l3 : Int32) (h : PH) (Q : Out → PH → Prop) : Prop := C g d m_J24_canEncode_2 [.int l1] h (oI (fun v2 h1 => ((¬ v2 = 0) → hkd h1 l0 / 100 = 3 ∧ (((i32max l2 (0 : Int32)) < (i32min l3 (nI (hln h1 l0)))) → C g d m_J24_indexOfChar [.ref l0, .int l1, .int (i32max l2 (0 : Int32)), .int (i32min l3 (nI (hln h1 l0)))] h1 (oI (fun v8 h7 => Q (.inl (some (.int v8))) h7) (fun r hx => Q (.inr r) hx))) ∧ ((¬ (i32max l2 (0 : Int32)) < (i32min l3 (nI (hln h1 l0)))) → Q (.inl (some (.int (-1 : Int32)))) h1)) ∧ ((v2 = 0) → Q (.inl (some (.int (-1 : Int32)))) h1)) (fun r hx => Q (.inr r) hx))
theorem v_J24_indexOf_0 {g : PG} {d : Nat} {l0 : Nat} {l1 : Int32} {l2 : Int32} {l3 : Int32} {h : PH} {Q : Out → PH → Prop} (H : w_J24_indexOf_0 g d l0 l1 l2 l3 h Q) : R g d m_J24_indexOf 0 [.ref l0, .int l1, .int l2, .int l3] [] h Q := by
  refine r_iload_n dJ24_indexOf_0 rfl rfl ?_
  refine r_invS (y := m_J24_canEncode_2) dJ24_indexOf_1 rfl (lw_S q3570 q3571 q137 q3572) py_J24_canEncode_2 (Nat.le_of_ble_eq_true rfl) (args := [_]) rfl rfl (Nat.le_of_ble_eq_true rfl) (C.monoE H (fun o h1 _ x3 K => cont_I K (fun v2 H => ?_) (fun r HX => XR_nc rfl HX)))
  refine r_if_ne (tgt := 9) dJ24_indexOf_4 rfl (fun b4 => ?_) (fun b4 => ?_)
  · replace H := H.1 b4
    refine r_iload_n dJ24_indexOf_9 rfl rfl ?_
    refine r_iconst dJ24_indexOf_10 rfl ?_
    refine r_mmax dJ24_indexOf_11 q3573 q467 q134 q468 (Nat.le_of_ble_eq_true rfl) ?_
    refine r_istore_n dJ24_indexOf_14 rfl (Nat.le_of_ble_eq_true rfl) rfl (slS (slS sl0)) ?_
    refine r_iload_n dJ24_indexOf_15 rfl rfl ?_
    refine r_aload_n dJ24_indexOf_16 rfl rfl ?_
    obtain ⟨k5, H⟩ := H
    refine r_alen (m := 3) dJ24_indexOf_17 (by decide) k5 ?_
    refine r_mmin dJ24_indexOf_18 q1371 q485 q134 q486 (Nat.le_of_ble_eq_true rfl) ?_
    refine r_istore_n dJ24_indexOf_21 rfl (Nat.le_of_ble_eq_true rfl) rfl (slS (slS (slS sl0))) ?_
    refine r_iload_n dJ24_indexOf_22 rfl rfl ?_
    refine r_iload_n dJ24_indexOf_23 rfl rfl ?_
    refine r_icmp_lt (tgt := 29) dJ24_indexOf_24 rfl (fun b6 => ?_) (fun b6 => ?_)
    · replace H := H.1 b6
      refine r_aload_n dJ24_indexOf_29 rfl rfl ?_
      refine r_iload_n dJ24_indexOf_30 rfl rfl ?_
      refine r_iload_n dJ24_indexOf_31 rfl rfl ?_
      refine r_iload_n dJ24_indexOf_32 rfl rfl ?_
      refine r_invS (y := m_J24_indexOfChar) dJ24_indexOf_33 rfl (lw_S q3574 q3575 q137 q3576) py_J24_indexOfChar (Nat.le_of_ble_eq_true rfl) (args := [_, _, _, _]) rfl rfl (Nat.le_of_ble_eq_true rfl) (C.monoE H (fun o h7 _ x9 K => cont_I K (fun v8 H => ?_) (fun r HX => XR_nc rfl HX)))
      exact r_iret dJ24_indexOf_36 rfl H
    · replace H := H.2 b6
      refine r_iconst dJ24_indexOf_27 rfl ?_
      exact r_iret dJ24_indexOf_28 rfl H
  · replace H := H.2 b4
    refine r_iconst dJ24_indexOf_7 rfl ?_
    exact r_iret dJ24_indexOf_8 rfl H
theorem c_J24_indexOf_0 {g : PG} {d : Nat} {l0 : Nat} {l1 : Int32} {l2 : Int32} {l3 : Int32} {h : PH} {Q : Out → PH → Prop} (H : w_J24_indexOf_0 g d l0 l1 l2 l3 h Q) : C g (d + 1) m_J24_indexOf [.ref l0, .int l1, .int l2, .int l3] h Q := C_of_R rfl rfl (Nat.le_of_ble_eq_true rfl) rfl (v_J24_indexOf_0 H)
abbrev w_J24_canEncode_2_0 (g : PG) (d : Nat) (l0 : Int32) (h : PH) (Q : Out → PH → Prop) : Prop := ((l0 < 0) → Q (.inl (some (.int 0))) h) ∧ ((¬ l0 < 0) → (((255 : Int32) < l0) → Q (.inl (some (.int 0))) h) ∧ ((¬ (255 : Int32) < l0) → Q (.inl (some (.int 1))) h))
theorem v_J24_canEncode_2_0 {g : PG} {d : Nat} {l0 : Int32} {h : PH} {Q : Out → PH → Prop} (H : w_J24_canEncode_2_0 g d l0 h Q) : R g d m_J24_canEncode_2 0 [.int l0] [] h Q := by
  refine r_iload_n dJ24_canEncode_2_0 rfl rfl ?_
  refine r_if_lt (tgt := 15) dJ24_canEncode_2_1 rfl (fun b1 => ?_) (fun b1 => ?_)
  · replace H := H.1 b1
    refine r_iconst dJ24_canEncode_2_15 rfl ?_
    exact r_zret dJ24_canEncode_2_16 rfl rfl H
  · replace H := H.2 b1
    refine r_iload_n dJ24_canEncode_2_4 rfl rfl ?_
    refine r_sipush dJ24_canEncode_2_5 rfl ?_
    refine r_icmp_gt (tgt := 15) dJ24_canEncode_2_8 rfl (fun b2 => ?_) (fun b2 => ?_)
    · replace H := H.1 b2
      refine r_iconst dJ24_canEncode_2_15 rfl ?_
      exact r_zret dJ24_canEncode_2_16 rfl rfl H
    · replace H := H.2 b2
      refine r_iconst dJ24_canEncode_2_11 rfl ?_
      refine r_goto (tgt := 16) dJ24_canEncode_2_12 rfl ?_
      exact r_zret dJ24_canEncode_2_16 rfl rfl H
theorem c_J24_canEncode_2_0 {g : PG} {d : Nat} {l0 : Int32} {h : PH} {Q : Out → PH → Prop} (H : w_J24_canEncode_2_0 g d l0 h Q) : C g (d + 1) m_J24_canEncode_2 [.int l0] h Q := C_of_R rfl rfl (Nat.le_of_ble_eq_true rfl) rfl (v_J24_canEncode_2_0 H)
abbrev w_J24_indexOfChar_7 (g : PG) (d : Nat) (l0 : Nat) (l3 : Int32) (l4 : Int32) (l5 : Int32) (h : PH) (Q : Out → PH → Prop) : Prop := ((l3 ≤ l5) → Q (.inl (some (.int (-1 : Int32)))) h) ∧ ((¬ l3 ≤ l5) → hkd h l0 / 100 = 3 ∧ vp_in l5 (hln h l0) ∧ ((¬ (hA h l0 l5.toNatClampNeg) = l4) → R g d m_J24_indexOfChar 7 [.ref l0, .null, .null, .int l3, .int l4, .int (l5 + 1)] [] h Q) ∧ (((hA h l0 l5.toNatClampNeg) = l4) → Q (.inl (some (.int l5))) h))
theorem v_J24_indexOfChar_7 {g : PG} {d : Nat} {l0 : Nat} {l3 : Int32} {l4 : Int32} {l5 : Int32} {h : PH} {Q : Out → PH → Prop} (H : w_J24_indexOfChar_7 g d l0 l3 l4 l5 h Q) : R g d m_J24_indexOfChar 7 [.ref l0, .null, .null, .int l3, .int l4, .int l5] [] h Q := by
  refine r_iload dJ24_indexOfChar_7 rfl ?_
  refine r_iload_n dJ24_indexOfChar_9 rfl rfl ?_
  refine r_icmp_ge (tgt := 31) dJ24_indexOfChar_10 rfl (fun b1 => ?_) (fun b1 => ?_)
  · replace H := H.1 b1
    refine r_iconst dJ24_indexOfChar_31 rfl ?_
    exact r_iret dJ24_indexOfChar_32 rfl H
  · replace H := H.2 b1
    refine r_aload_n dJ24_indexOfChar_13 rfl rfl ?_
    refine r_iload dJ24_indexOfChar_14 rfl ?_
    obtain ⟨k2, H⟩ := H
    obtain ⟨k3, H⟩ := H
    refine r_bald dJ24_indexOfChar_16 k2 k3 ?_
    refine r_iload dJ24_indexOfChar_17 rfl ?_
    refine r_icmp_ne (tgt := 25) dJ24_indexOfChar_19 rfl (fun b4 => ?_) (fun b4 => ?_)
    · replace H := H.1 b4
      refine r_iinc dJ24_indexOfChar_25 rfl rfl (Nat.le_of_ble_eq_true rfl) rfl (slS (slS (slS (slS (slS sl0))))) ?_
      refine r_goto (tgt := 7) dJ24_indexOfChar_28 rfl ?_
      exact H
    · replace H := H.2 b4
      refine r_iload dJ24_indexOfChar_22 rfl ?_
      exact r_iret dJ24_indexOfChar_24 rfl H
abbrev w_J24_indexOfChar_0 (g : PG) (d : Nat) (l0 : Nat) (l1 : Int32) (l2 : Int32) (l3 : Int32) (h : PH) (Q : Out → PH → Prop) : Prop := R g d m_J24_indexOfChar 7 [.ref l0, .null, .null, .int l3, .int l1.toInt8.toInt32, .int l2] [] h Q
theorem v_J24_indexOfChar_0 {g : PG} {d : Nat} {l0 : Nat} {l1 : Int32} {l2 : Int32} {l3 : Int32} {h : PH} {Q : Out → PH → Prop} (H : w_J24_indexOfChar_0 g d l0 l1 l2 l3 h Q) : R g d m_J24_indexOfChar 0 [.ref l0, .int l1, .int l2, .int l3, .null, .null] [] h Q := by
  refine r_iload_n dJ24_indexOfChar_0 rfl rfl ?_
  refine r_i2b dJ24_indexOfChar_1 ?_
  refine r_istore dJ24_indexOfChar_2 (Nat.le_of_ble_eq_true rfl) rfl (slS (slS (slS (slS sl0)))) ?_
  refine r_iload_n dJ24_indexOfChar_4 rfl rfl ?_
  refine r_istore dJ24_indexOfChar_5 (Nat.le_of_ble_eq_true rfl) rfl (slS (slS (slS (slS (slS sl0))))) ?_
  exact R.forget H ⟨Or.inl rfl, ⟨Or.inr rfl, ⟨Or.inr rfl, ⟨Or.inl rfl, ⟨Or.inl rfl, ⟨Or.inl rfl, trivial⟩⟩⟩⟩⟩⟩
theorem c_J24_indexOfChar_0 {g : PG} {d : Nat} {l0 : Nat} {l1 : Int32} {l2 : Int32} {l3 : Int32} {h : PH} {Q : Out → PH → Prop} (H : w_J24_indexOfChar_0 g d l0 l1 l2 l3 h Q) : C g (d + 1) m_J24_indexOfChar [.ref l0, .int l1, .int l2, .int l3] h Q := C_of_R rfl rfl (Nat.le_of_ble_eq_true rfl) rfl (v_J24_indexOfChar_0 H)
abbrev w_J24_newString_0 (g : PG) (d : Nat) (l0 : Nat) (l1 : Int32) (l2 : Int32) (h : PH) (Q : Out → PH → Prop) : Prop := ((¬ l2 = 0) → ∀ h2, h2 = hnew 29 0 5 h → C g d m_J23_copyOfRange [.ref l0, .int l1, .int (l1 + l2)] h2 (oR (fun v4 h3 => 0 < (hnx h) ∧ C g d m_J10_init_3 [.ref (hnx h), .ref v4, .int 0] h3 (oV (fun h7 => Q (.inl (some (.ref (hnx h)))) h7) (fun r hx => Q (.inr r) hx))) (fun r hx => Q (.inr r) hx))) ∧ ((l2 = 0) → Q (.inl (some (.ref (gSr g 43 + 1)))) h)
theorem v_J24_newString_0 {g : PG} {d : Nat} {l0 : Nat} {l1 : Int32} {l2 : Int32} {h : PH} {Q : Out → PH → Prop} (H : w_J24_newString_0 g d l0 l1 l2 h Q) : R g d m_J24_newString 0 [.ref l0, .int l1, .int l2] [] h Q := by
  refine r_iload_n dJ24_newString_0 rfl rfl ?_
  refine r_if_ne (tgt := 7) dJ24_newString_1 rfl (fun b1 => ?_) (fun b1 => ?_)
  · replace H := H.1 b1
    replace H := H _ rfl
    refine r_new (ci := 29) dJ24_newString_7 rfl (by decide) q3612 q594 q120 ?_
    refine r_dup dJ24_newString_10 rfl ?_
    refine r_aload_n dJ24_newString_11 rfl rfl ?_
    refine r_iload_n dJ24_newString_12 rfl rfl ?_
    refine r_iload_n dJ24_newString_13 rfl rfl ?_
    refine r_iload_n dJ24_newString_14 rfl rfl ?_
    refine r_iadd dJ24_newString_15 ?_
    refine r_invS (y := m_J23_copyOfRange) dJ24_newString_16 rfl (lw_S q3613 q617 q135 q618) py_J23_copyOfRange (Nat.le_of_ble_eq_true rfl) (args := [_, _, _]) rfl rfl (Nat.le_of_ble_eq_true rfl) (C.monoE H (fun o h3 _ x5 K => cont_R K (fun v4 H => ?_) (fun r HX => XR_nc rfl HX)))
    refine r_iconst dJ24_newString_19 rfl ?_
    obtain ⟨k6, H⟩ := H
    refine r_invI (y := m_J10_init_3) dJ24_newString_20 rfl rfl q3616 q120 q3614 q3615 rfl py_J10_init_3 (Nat.le_of_ble_eq_true rfl) (args := [_, _]) rfl rfl (Nat.le_of_ble_eq_true rfl) k6 (C.monoE H (fun o h7 _ x9 K => cont_V K (fun H => ?_) (fun r HX => XR_nc rfl HX)))
    exact r_aret dJ24_newString_23 rfl H
  · replace H := H.2 b1
    refine r_ldcS (n := 43) dJ24_newString_4 rfl ?_
    exact r_aret dJ24_newString_6 rfl H
theorem c_J24_newString_0 {g : PG} {d : Nat} {l0 : Nat} {l1 : Int32} {l2 : Int32} {h : PH} {Q : Out → PH → Prop} (H : w_J24_newString_0 g d l0 l1 l2 h Q) : C g (d + 1) m_J24_newString [.ref l0, .int l1, .int l2] h Q := C_of_R rfl rfl (Nat.le_of_ble_eq_true rfl) rfl (v_J24_newString_0 H)
abbrev w_J25_init_0 (g : PG) (d : Nat) (l0 : Nat) (h : PH) (Q : Out → PH → Prop) : Prop := 0 < l0 ∧ Q (.inl none) h
theorem v_J25_init_0 {g : PG} {d : Nat} {l0 : Nat} {h : PH} {Q : Out → PH → Prop} (H : w_J25_init_0 g d l0 h Q) : R g d m_J25_init 0 [.ref l0] [] h Q := by
  refine r_aload_n dJ25_init_0 rfl rfl ?_
  obtain ⟨k1, H⟩ := H
  refine r_oinit dJ25_init_1 q1269 q182 q183 k1 (Nat.le_of_ble_eq_true rfl) ?_
  exact r_vret dJ25_init_4 rfl H
theorem c_J25_init_0 {g : PG} {d : Nat} {l0 : Nat} {h : PH} {Q : Out → PH → Prop} (H : w_J25_init_0 g d l0 h Q) : C g (d + 1) m_J25_init [.ref l0] h Q := C_of_R rfl rfl (Nat.le_of_ble_eq_true rfl) rfl (v_J25_init_0 H)
abbrev w_J26_stringSize_16 (g : PG) (d : Nat) (l0 : Int32) (l1 : Int32) (l2 : Int32) (l3 : Int32) (h : PH) (Q : Out → PH → Prop) : Prop := (((10 : Int32) ≤ l3) → Q (.inl (some (.int ((10 : Int32) + l1)))) h) ∧ ((¬ (10 : Int32) ≤ l3) → ((l0 ≤ l2) → R g d m_J26_stringSize 16 [.int l0, .int l1, .int ((10 : Int32) * l2), .int (l3 + 1)] [] h Q) ∧ ((¬ l0 ≤ l2) → Q (.inl (some (.int (l3 + l1)))) h))
theorem v_J26_stringSize_16 {g : PG} {d : Nat} {l0 : Int32} {l1 : Int32} {l2 : Int32} {l3 : Int32} {h : PH} {Q : Out → PH → Prop} (H : w_J26_stringSize_16 g d l0 l1 l2 l3 h Q) : R g d m_J26_stringSize 16 [.int l0, .int l1, .int l2, .int l3] [] h Q := by
  refine r_iload_n dJ26_stringSize_16 rfl rfl ?_
  refine r_bipush dJ26_stringSize_17 rfl ?_
  refine r_icmp_ge (tgt := 42) dJ26_stringSize_19 rfl (fun b1 => ?_) (fun b1 => ?_)
  · replace H := H.1 b1
    refine r_bipush dJ26_stringSize_42 rfl ?_
    refine r_iload_n dJ26_stringSize_44 rfl rfl ?_
    refine r_iadd dJ26_stringSize_45 ?_
    exact r_iret dJ26_stringSize_46 rfl H
  · replace H := H.2 b1
    refine r_iload_n dJ26_stringSize_22 rfl rfl ?_
    refine r_iload_n dJ26_stringSize_23 rfl rfl ?_
    refine r_icmp_le (tgt := 31) dJ26_stringSize_24 rfl (fun b2 => ?_) (fun b2 => ?_)
    · replace H := H.1 b2
      refine r_bipush dJ26_stringSize_31 rfl ?_
      refine r_iload_n dJ26_stringSize_33 rfl rfl ?_
      refine r_imul dJ26_stringSize_34 ?_
      refine r_istore_n dJ26_stringSize_35 rfl (Nat.le_of_ble_eq_true rfl) rfl (slS (slS sl0)) ?_
      refine r_iinc dJ26_stringSize_36 rfl rfl (Nat.le_of_ble_eq_true rfl) rfl (slS (slS (slS sl0))) ?_
      refine r_goto (tgt := 16) dJ26_stringSize_39 rfl ?_
      exact H
    · replace H := H.2 b2
      refine r_iload_n dJ26_stringSize_27 rfl rfl ?_
      refine r_iload_n dJ26_stringSize_28 rfl rfl ?_
      refine r_iadd dJ26_stringSize_29 ?_
      exact r_iret dJ26_stringSize_30 rfl H
abbrev w_J26_stringSize_11 (g : PG) (d : Nat) (l0 : Int32) (l1 : Int32) (h : PH) (Q : Out → PH → Prop) : Prop := R g d m_J26_stringSize 16 [.int l0, .int l1, .int (-10 : Int32), .int 1] [] h Q
theorem v_J26_stringSize_11 {g : PG} {d : Nat} {l0 : Int32} {l1 : Int32} {h : PH} {Q : Out → PH → Prop} (H : w_J26_stringSize_11 g d l0 l1 h Q) : R g d m_J26_stringSize 11 [.int l0, .int l1, .null, .null] [] h Q := by
  refine r_bipush dJ26_stringSize_11 rfl ?_
  refine r_istore_n dJ26_stringSize_13 rfl (Nat.le_of_ble_eq_true rfl) rfl (slS (slS sl0)) ?_
  refine r_iconst dJ26_stringSize_14 rfl ?_
  refine r_istore_n dJ26_stringSize_15 rfl (Nat.le_of_ble_eq_true rfl) rfl (slS (slS (slS sl0))) ?_
  exact H
abbrev w_J26_stringSize_0 (g : PG) (d : Nat) (l0 : Int32) (h : PH) (Q : Out → PH → Prop) : Prop := ((l0 < 0) → w_J26_stringSize_11 g d l0 (1 : Int32) h Q) ∧ ((¬ l0 < 0) → w_J26_stringSize_11 g d (-l0) (0 : Int32) h Q)
theorem v_J26_stringSize_0 {g : PG} {d : Nat} {l0 : Int32} {h : PH} {Q : Out → PH → Prop} (H : w_J26_stringSize_0 g d l0 h Q) : R g d m_J26_stringSize 0 [.int l0, .null, .null, .null] [] h Q := by
  refine r_iconst dJ26_stringSize_0 rfl ?_
  refine r_istore_n dJ26_stringSize_1 rfl (Nat.le_of_ble_eq_true rfl) rfl (slS sl0) ?_
  refine r_iload_n dJ26_stringSize_2 rfl rfl ?_
  refine r_if_lt (tgt := 11) dJ26_stringSize_3 rfl (fun b1 => ?_) (fun b1 => ?_)
  · replace H := H.1 b1
    exact v_J26_stringSize_11 H
  · replace H := H.2 b1
    refine r_iconst dJ26_stringSize_6 rfl ?_
    refine r_istore_n dJ26_stringSize_7 rfl (Nat.le_of_ble_eq_true rfl) rfl (slS sl0) ?_
    refine r_iload_n dJ26_stringSize_8 rfl rfl ?_
    refine r_ineg dJ26_stringSize_9 ?_
    refine r_istore_n dJ26_stringSize_10 rfl (Nat.le_of_ble_eq_true rfl) rfl sl0 ?_
    exact v_J26_stringSize_11 H
theorem c_J26_stringSize_0 {g : PG} {d : Nat} {l0 : Int32} {h : PH} {Q : Out → PH → Prop} (H : w_J26_stringSize_0 g d l0 h Q) : C g (d + 1) m_J26_stringSize [.int l0] h Q := C_of_R rfl rfl (Nat.le_of_ble_eq_true rfl) rfl (v_J26_stringSize_0 H)
abbrev w_J26_getChars_104 (g : PG) (d : Nat) (l2 : Nat) (l5 : Int32) (l6 : Int32) (h : PH) (Q : Out → PH → Prop) : Prop := ((l6 = 0) → Q (.inl (some (.int l5))) h) ∧ ((¬ l6 = 0) → hkd h l2 / 100 = 3 ∧ hkd h l2 % 100 < 50 ∧ vp_in (l5 + (-1)) (hln h l2) ∧ narrow .byte (.int 45) = .int 45 ∧ ∀ h5, h5 = setA l2 (l5 + (-1)).toNatClampNeg (45 : Int32) h → Q (.inl (some (.int (l5 + (-1))))) h5)
theorem v_J26_getChars_104 {g : PG} {d : Nat} {l2 : Nat} {l5 : Int32} {l6 : Int32} {h : PH} {Q : Out → PH → Prop} (H : w_J26_getChars_104 g d l2 l5 l6 h Q) : R g d m_J26_getChars 104 [.null, .null, .ref l2, .null, .null, .int l5, .int l6] [] h Q := by
  refine r_iload dJ26_getChars_104 rfl ?_
  refine r_if_eq (tgt := 118) dJ26_getChars_106 rfl (fun b1 => ?_) (fun b1 => ?_)
  · replace H := H.1 b1
    refine r_iload dJ26_getChars_118 rfl ?_
    exact r_iret dJ26_getChars_120 rfl H
  · replace H := H.2 b1
    refine r_aload_n dJ26_getChars_109 rfl rfl ?_
    refine r_iinc dJ26_getChars_110 rfl rfl (Nat.le_of_ble_eq_true rfl) rfl (slS (slS (slS (slS (slS sl0))))) ?_
    refine r_iload dJ26_getChars_113 rfl ?_
    refine r_bipush dJ26_getChars_115 rfl ?_
    obtain ⟨k2, H⟩ := H
    obtain ⟨k3, H⟩ := H
    obtain ⟨k4, H⟩ := H
    obtain ⟨k6, H⟩ := H
    replace H := H _ rfl
    refine r_bast dJ26_getChars_117 k2 k3 k4 k6 ?_
    refine r_iload dJ26_getChars_118 rfl ?_
    exact r_iret dJ26_getChars_120 rfl H
abbrev w_J26_getChars_22 (g : PG) (d : Nat) (l0 : Int32) (l2 : Nat) (l5 : Int32) (l6 : Int32) (h : PH) (Q : Out → PH → Prop) : Prop := (((-100 : Int32) < l0) → isSR g 6 ∧ hkd h (sR g 6) / 100 = 3 ∧ vp_in (-l0) (hln h (sR g 6)) ∧ hkd h l2 / 100 = 3 ∧ hkd h l2 % 100 < 50 ∧ vp_in (l5 + (-1)) (hln h l2) ∧ narrow .byte (.int (hA h (sR g 6) (-l0).toNatClampNeg)) = .int (hA h (sR g 6) (-l0).toNatClampNeg) ∧ ∀ h8, h8 = setA l2 (l5 + (-1)).toNatClampNeg (hA h (sR g 6) (-l0).toNatClampNeg) h → (((-9 : Int32) ≤ l0) → w_J26_getChars_104 g d l2 (l5 + (-1)) l6 h8 Q) ∧ ((¬ (-9 : Int32) ≤ l0) → isSR g 7 ∧ hkd h8 (sR g 7) / 100 = 3 ∧ vp_in (-l0) (hln h8 (sR g 7)) ∧ hkd h8 l2 / 100 = 3 ∧ hkd h8 l2 % 100 < 50 ∧ vp_in (l5 + (-1) + (-1)) (hln h8 l2) ∧ narrow .byte (.int (hA h8 (sR g 7) (-l0).toNatClampNeg)) = .int (hA h8 (sR g 7) (-l0).toNatClampNeg) ∧ ∀ h16, h16 = setA l2 (l5 + (-1) + (-1)).toNatClampNeg (hA h8 (sR g 7) (-l0).toNatClampNeg) h8 → w_J26_getChars_104 g d l2 (l5 + (-1) + (-1)) l6 h16 Q)) ∧ ((¬ (-100 : Int32) < l0) → isSR g 6 ∧ hkd h (sR g 6) / 100 = 3 ∧ vp_in (((l0 / (100 : Int32)) * (100 : Int32)) - l0) (hln h (sR g 6)) ∧ hkd h l2 / 100 = 3 ∧ hkd h l2 % 100 < 50 ∧ vp_in (l5 + (-1)) (hln h l2) ∧ narrow .byte (.int (hA h (sR g 6) (((l0 / (100 : Int32)) * (100 : Int32)) - l0).toNatClampNeg)) = .int (hA h (sR g 6) (((l0 / (100 : Int32)) * (100 : Int32)) - l0).toNatClampNeg) ∧ ∀ h26, h26 = setA l2 (l5 + (-1)).toNatClampNeg (hA h (sR g 6) (((l0 / (100 : Int32)) * (100 : Int32)) - l0).toNatClampNeg) h → isSR g 7 ∧ hkd h26 (sR g 7) / 100 = 3 ∧ vp_in (((l0 / (100 : Int32)) * (100 : Int32)) - l0) (hln h26 (sR g 7)) ∧ hkd h26 l2 / 100 = 3 ∧ hkd h26 l2 % 100 < 50 ∧ vp_in (l5 + (-1) + (-1)) (hln h26 l2) ∧ narrow .byte (.int (hA h26 (sR g 7) (((l0 / (100 : Int32)) * (100 : Int32)) - l0).toNatClampNeg)) = .int (hA h26 (sR g 7) (((l0 / (100 : Int32)) * (100 : Int32)) - l0).toNatClampNeg) ∧ ∀ h33, h33 = setA l2 (l5 + (-1) + (-1)).toNatClampNeg (hA h26 (sR g 7) (((l0 / (100 : Int32)) * (100 : Int32)) - l0).toNatClampNeg) h26 → R g d m_J26_getChars 22 [.int (l0 / (100 : Int32)), .null, .ref l2, .null, .null, .int (l5 + (-1) + (-1)), .int l6] [] h33 Q)
theorem v_J26_getChars_22 {g : PG} {d : Nat} {l0 : Int32} {l2 : Nat} {l5 : Int32} {l6 : Int32} {h : PH} {Q : Out → PH → Prop} (H : w_J26_getChars_22 g d l0 l2 l5 l6 h Q) : R g d m_J26_getChars 22 [.int l0, .null, .ref l2, .null, .null, .int l5, .int l6] [] h Q := by
  refine r_iload_n dJ26_getChars_22 rfl rfl ?_
  refine r_bipush dJ26_getChars_23 rfl ?_
  refine r_icmp_gt (tgt := 72) dJ26_getChars_25 rfl (fun b1 => ?_) (fun b1 => ?_)
  · replace H := H.1 b1
    refine r_aload_n dJ26_getChars_72 rfl rfl ?_
    refine r_iinc dJ26_getChars_73 rfl rfl (Nat.le_of_ble_eq_true rfl) rfl (slS (slS (slS (slS (slS sl0))))) ?_
    refine r_iload dJ26_getChars_76 rfl ?_
    obtain ⟨k2, H⟩ := H
    refine r_getsR (ref := "") (n := 6) dJ26_getChars_78 rfl q577 k2 ?_
    refine r_iload_n dJ26_getChars_81 rfl rfl ?_
    refine r_ineg dJ26_getChars_82 ?_
    obtain ⟨k3, H⟩ := H
    obtain ⟨k4, H⟩ := H
    refine r_bald dJ26_getChars_83 k3 k4 ?_
    obtain ⟨k5, H⟩ := H
    obtain ⟨k6, H⟩ := H
    obtain ⟨k7, H⟩ := H
    obtain ⟨k18, H⟩ := H
    replace H := H _ rfl
    refine r_bast dJ26_getChars_84 k5 k6 k7 k18 ?_
    refine r_iload_n dJ26_getChars_85 rfl rfl ?_
    refine r_bipush dJ26_getChars_86 rfl ?_
    refine r_icmp_ge (tgt := 104) dJ26_getChars_88 rfl (fun b9 => ?_) (fun b9 => ?_)
    · replace H := H.1 b9
      exact R.forget (v_J26_getChars_104 H) ⟨Or.inr rfl, ⟨Or.inl rfl, ⟨Or.inl rfl, ⟨Or.inl rfl, ⟨Or.inl rfl, ⟨Or.inl rfl, ⟨Or.inl rfl, trivial⟩⟩⟩⟩⟩⟩⟩
    · replace H := H.2 b9
      refine r_aload_n dJ26_getChars_91 rfl rfl ?_
      refine r_iinc dJ26_getChars_92 rfl rfl (Nat.le_of_ble_eq_true rfl) rfl (slS (slS (slS (slS (slS sl0))))) ?_
      refine r_iload dJ26_getChars_95 rfl ?_
      obtain ⟨k10, H⟩ := H
      refine r_getsR (ref := "") (n := 7) dJ26_getChars_97 rfl q579 k10 ?_
      refine r_iload_n dJ26_getChars_100 rfl rfl ?_
      refine r_ineg dJ26_getChars_101 ?_
      obtain ⟨k11, H⟩ := H
      obtain ⟨k12, H⟩ := H
      refine r_bald dJ26_getChars_102 k11 k12 ?_
      obtain ⟨k13, H⟩ := H
      obtain ⟨k14, H⟩ := H
      obtain ⟨k15, H⟩ := H
      obtain ⟨k17, H⟩ := H
      replace H := H _ rfl
      refine r_bast dJ26_getChars_103 k13 k14 k15 k17 ?_
      exact R.forget (v_J26_getChars_104 H) ⟨Or.inr rfl, ⟨Or.inl rfl, ⟨Or.inl rfl, ⟨Or.inl rfl, ⟨Or.inl rfl, ⟨Or.inl rfl, ⟨Or.inl rfl, trivial⟩⟩⟩⟩⟩⟩⟩
  · replace H := H.2 b1
    refine r_iload_n dJ26_getChars_28 rfl rfl ?_
    refine r_bipush dJ26_getChars_29 rfl ?_
    refine r_idiv dJ26_getChars_31 (by decide) ?_
    refine r_istore_n dJ26_getChars_32 rfl (Nat.le_of_ble_eq_true rfl) rfl (slS (slS (slS sl0))) ?_
    refine r_iload_n dJ26_getChars_33 rfl rfl ?_
    refine r_bipush dJ26_getChars_34 rfl ?_
    refine r_imul dJ26_getChars_36 ?_
    refine r_iload_n dJ26_getChars_37 rfl rfl ?_
    refine r_isub dJ26_getChars_38 ?_
    refine r_istore dJ26_getChars_39 (Nat.le_of_ble_eq_true rfl) rfl (slS (slS (slS (slS sl0)))) ?_
    refine r_iload_n dJ26_getChars_41 rfl rfl ?_
    refine r_istore_n dJ26_getChars_42 rfl (Nat.le_of_ble_eq_true rfl) rfl sl0 ?_
    refine r_aload_n dJ26_getChars_43 rfl rfl ?_
    refine r_iinc dJ26_getChars_44 rfl rfl (Nat.le_of_ble_eq_true rfl) rfl (slS (slS (slS (slS (slS sl0))))) ?_
    refine r_iload dJ26_getChars_47 rfl ?_
    obtain ⟨k20, H⟩ := H
    refine r_getsR (ref := "") (n := 6) dJ26_getChars_49 rfl q577 k20 ?_
    refine r_iload dJ26_getChars_52 rfl ?_
    obtain ⟨k21, H⟩ := H
    obtain ⟨k22, H⟩ := H
    refine r_bald dJ26_getChars_54 k21 k22 ?_
    obtain ⟨k23, H⟩ := H
    obtain ⟨k24, H⟩ := H
    obtain ⟨k25, H⟩ := H
    obtain ⟨k35, H⟩ := H
    replace H := H _ rfl
    refine r_bast dJ26_getChars_55 k23 k24 k25 k35 ?_
    refine r_aload_n dJ26_getChars_56 rfl rfl ?_
    refine r_iinc dJ26_getChars_57 rfl rfl (Nat.le_of_ble_eq_true rfl) rfl (slS (slS (slS (slS (slS sl0))))) ?_
    refine r_iload dJ26_getChars_60 rfl ?_
    obtain ⟨k27, H⟩ := H
    refine r_getsR (ref := "") (n := 7) dJ26_getChars_62 rfl q579 k27 ?_
    refine r_iload dJ26_getChars_65 rfl ?_
    obtain ⟨k28, H⟩ := H
    obtain ⟨k29, H⟩ := H
    refine r_bald dJ26_getChars_67 k28 k29 ?_
    obtain ⟨k30, H⟩ := H
    obtain ⟨k31, H⟩ := H
    obtain ⟨k32, H⟩ := H
    obtain ⟨k34, H⟩ := H
    replace H := H _ rfl
    refine r_bast dJ26_getChars_68 k30 k31 k32 k34 ?_
    refine r_goto (tgt := 22) dJ26_getChars_69 rfl ?_
    exact R.forget H ⟨Or.inl rfl, ⟨Or.inl rfl, ⟨Or.inl rfl, ⟨Or.inr rfl, ⟨Or.inr rfl, ⟨Or.inl rfl, ⟨Or.inl rfl, trivial⟩⟩⟩⟩⟩⟩⟩
abbrev w_J26_getChars_12 (g : PG) (d : Nat) (l0 : Int32) (l2 : Nat) (l5 : Int32) (s0 : Int32) (h : PH) (Q : Out → PH → Prop) : Prop := ((¬ s0 = 0) → R g d m_J26_getChars 22 [.int l0, .null, .ref l2, .null, .null, .int l5, .int s0] [] h Q) ∧ ((s0 = 0) → R g d m_J26_getChars 22 [.int (-l0), .null, .ref l2, .null, .null, .int l5, .int s0] [] h Q)
theorem v_J26_getChars_12 {g : PG} {d : Nat} {l0 : Int32} {l2 : Nat} {l5 : Int32} {s0 : Int32} {h : PH} {Q : Out → PH → Prop} (H : w_J26_getChars_12 g d l0 l2 l5 s0 h Q) : R g d m_J26_getChars 12 [.int l0, .null, .ref l2, .null, .null, .int l5, .null] [.int s0] h Q := by
  refine r_istore dJ26_getChars_12 (Nat.le_of_ble_eq_true rfl) rfl (slS (slS (slS (slS (slS (slS sl0)))))) ?_
  refine r_iload dJ26_getChars_14 rfl ?_
  refine r_if_ne (tgt := 22) dJ26_getChars_16 rfl (fun b1 => ?_) (fun b1 => ?_)
  · replace H := H.1 b1
    exact H
  · replace H := H.2 b1
    refine r_iload_n dJ26_getChars_19 rfl rfl ?_
    refine r_ineg dJ26_getChars_20 ?_
    refine r_istore_n dJ26_getChars_21 rfl (Nat.le_of_ble_eq_true rfl) rfl sl0 ?_
    exact H
abbrev w_J26_getChars_0 (g : PG) (d : Nat) (l0 : Int32) (l1 : Int32) (l2 : Nat) (h : PH) (Q : Out → PH → Prop) : Prop := ((0 ≤ l0) → w_J26_getChars_12 g d l0 l2 l1 (0 : Int32) h Q) ∧ ((¬ 0 ≤ l0) → w_J26_getChars_12 g d l0 l2 l1 (1 : Int32) h Q)
theorem v_J26_getChars_0 {g : PG} {d : Nat} {l0 : Int32} {l1 : Int32} {l2 : Nat} {h : PH} {Q : Out → PH → Prop} (H : w_J26_getChars_0 g d l0 l1 l2 h Q) : R g d m_J26_getChars 0 [.int l0, .int l1, .ref l2, .null, .null, .null, .null] [] h Q := by
  refine r_iload_n dJ26_getChars_0 rfl rfl ?_
  refine r_istore dJ26_getChars_1 (Nat.le_of_ble_eq_true rfl) rfl (slS (slS (slS (slS (slS sl0))))) ?_
  refine r_iload_n dJ26_getChars_3 rfl rfl ?_
  refine r_if_ge (tgt := 11) dJ26_getChars_4 rfl (fun b1 => ?_) (fun b1 => ?_)
  · replace H := H.1 b1
    refine r_iconst dJ26_getChars_11 rfl ?_
    exact R.forget (v_J26_getChars_12 H) ⟨Or.inl rfl, ⟨Or.inr rfl, ⟨Or.inl rfl, ⟨Or.inl rfl, ⟨Or.inl rfl, ⟨Or.inl rfl, ⟨Or.inl rfl, trivial⟩⟩⟩⟩⟩⟩⟩
  · replace H := H.2 b1
    refine r_iconst dJ26_getChars_7 rfl ?_
    refine r_goto (tgt := 12) dJ26_getChars_8 rfl ?_
    exact R.forget (v_J26_getChars_12 H) ⟨Or.inl rfl, ⟨Or.inr rfl, ⟨Or.inl rfl, ⟨Or.inl rfl, ⟨Or.inl rfl, ⟨Or.inl rfl, ⟨Or.inl rfl, trivial⟩⟩⟩⟩⟩⟩⟩
theorem c_J26_getChars_0 {g : PG} {d : Nat} {l0 : Int32} {l1 : Int32} {l2 : Nat} {h : PH} {Q : Out → PH → Prop} (H : w_J26_getChars_0 g d l0 l1 l2 h Q) : C g (d + 1) m_J26_getChars [.int l0, .int l1, .ref l2] h Q := C_of_R rfl rfl (Nat.le_of_ble_eq_true rfl) rfl (v_J26_getChars_0 H)
abbrev w_J26_intValue_0 (g : PG) (d : Nat) (l0 : Nat) (h : PH) (Q : Out → PH → Prop) : Prop := ko h l0 30 ∧ Q (.inl (some (.int (hF h 56 l0)))) h
theorem v_J26_intValue_0 {g : PG} {d : Nat} {l0 : Nat} {h : PH} {Q : Out → PH → Prop} (H : w_J26_intValue_0 g d l0 h Q) : R g d m_J26_intValue 0 [.ref l0] [] h Q := by
  refine r_aload_n dJ26_intValue_0 rfl rfl ?_
  obtain ⟨k1, H⟩ := H
  refine r_getFo fr_J26_205_30 (by decide) dJ26_intValue_1 (by decide) k1 ?_
  exact r_iret dJ26_intValue_4 rfl H
theorem c_J26_intValue_0 {g : PG} {d : Nat} {l0 : Nat} {h : PH} {Q : Out → PH → Prop} (H : w_J26_intValue_0 g d l0 h Q) : C g (d + 1) m_J26_intValue [.ref l0] h Q := C_of_R rfl rfl (Nat.le_of_ble_eq_true rfl) rfl (v_J26_intValue_0 H)
abbrev w_J26_valueOf_23 (g : PG) (d : Nat) (l0 : Int32) (h : PH) (Q : Out → PH → Prop) : Prop := ∀ h1, h1 = hnew 30 0 2 h → 0 < (hnx h) ∧ C g d m_J26_init [.ref (hnx h), .int l0] h1 (oV (fun h3 => Q (.inl (some (.ref (hnx h)))) h3) (fun r hx => Q (.inr r) hx))
theorem v_J26_valueOf_23 {g : PG} {d : Nat} {l0 : Int32} {h : PH} {Q : Out → PH → Prop} (H : w_J26_valueOf_23 g d l0 h Q) : R g d m_J26_valueOf 23 [.int l0] [] h Q := by
  replace H := H _ rfl
  refine r_new (ci := 30) dJ26_valueOf_23 rfl (by decide) q1261 q1262 q139 ?_
  refine r_dup dJ26_valueOf_26 rfl ?_
  refine r_iload_n dJ26_valueOf_27 rfl rfl ?_
  obtain ⟨k2, H⟩ := H
  refine r_invI (y := m_J26_init) dJ26_valueOf_28 rfl rfl q1265 q139 q1263 q1264 rfl py_J26_init (Nat.le_of_ble_eq_true rfl) (args := [_]) rfl rfl (Nat.le_of_ble_eq_true rfl) k2 (C.monoE H (fun o h3 _ x5 K => cont_V K (fun H => ?_) (fun r HX => XR_nc rfl HX)))
  exact r_aret dJ26_valueOf_31 rfl H
abbrev w_J26_valueOf_0 (g : PG) (d : Nat) (l0 : Int32) (h : PH) (Q : Out → PH → Prop) : Prop := ((l0 < (-128 : Int32)) → w_J26_valueOf_23 g d l0 h Q) ∧ ((¬ l0 < (-128 : Int32)) → isSI g 10 ∧ (((sI g 10) < l0) → w_J26_valueOf_23 g d l0 h Q) ∧ ((¬ (sI g 10) < l0) → isSR g 11 ∧ hkd h (sR g 11) / 100 = 8 ∧ vp_in (l0 + (128 : Int32)) (hln h (sR g 11)) ∧ Q (.inl (some (.ref (hB h (sR g 11) (l0 + (128 : Int32)).toNatClampNeg)))) h))
theorem v_J26_valueOf_0 {g : PG} {d : Nat} {l0 : Int32} {h : PH} {Q : Out → PH → Prop} (H : w_J26_valueOf_0 g d l0 h Q) : R g d m_J26_valueOf 0 [.int l0] [] h Q := by
  refine r_iload_n dJ26_valueOf_0 rfl rfl ?_
  refine r_bipush dJ26_valueOf_1 rfl ?_
  refine r_icmp_lt (tgt := 23) dJ26_valueOf_3 rfl (fun b1 => ?_) (fun b1 => ?_)
  · replace H := H.1 b1
    exact v_J26_valueOf_23 H
  · replace H := H.2 b1
    refine r_iload_n dJ26_valueOf_6 rfl rfl ?_
    obtain ⟨k2, H⟩ := H
    refine r_getsI (ref := "") (n := 10) dJ26_valueOf_7 rfl q1257 k2 ?_
    refine r_icmp_gt (tgt := 23) dJ26_valueOf_10 rfl (fun b3 => ?_) (fun b3 => ?_)
    · replace H := H.1 b3
      exact v_J26_valueOf_23 H
    · replace H := H.2 b3
      obtain ⟨k4, H⟩ := H
      refine r_getsR (ref := "") (n := 11) dJ26_valueOf_13 rfl q1259 k4 ?_
      refine r_iload_n dJ26_valueOf_16 rfl rfl ?_
      refine r_sipush dJ26_valueOf_17 rfl ?_
      refine r_iadd dJ26_valueOf_20 ?_
      obtain ⟨k5, H⟩ := H
      obtain ⟨k6, H⟩ := H
      refine r_aald dJ26_valueOf_21 (m := 8) (by decide) k5 k6 ?_
      exact r_aret dJ26_valueOf_22 rfl H
theorem c_J26_valueOf_0 {g : PG} {d : Nat} {l0 : Int32} {h : PH} {Q : Out → PH → Prop} (H : w_J26_valueOf_0 g d l0 h Q) : C g (d + 1) m_J26_valueOf [.int l0] h Q := C_of_R rfl rfl (Nat.le_of_ble_eq_true rfl) rfl (v_J26_valueOf_0 H)
abbrev w_J26_init_0 (g : PG) (d : Nat) (l0 : Nat) (l1 : Int32) (h : PH) (Q : Out → PH → Prop) : Prop := 0 < l0 ∧ C g d m_J25_init [.ref l0] h (oV (fun h2 => hkd h2 l0 = 30 ∧ ∀ h6, h6 = setF 56 l0 l1 h2 → Q (.inl none) h6) (fun r hx => Q (.inr r) hx))
theorem v_J26_init_0 {g : PG} {d : Nat} {l0 : Nat} {l1 : Int32} {h : PH} {Q : Out → PH → Prop} (H : w_J26_init_0 g d l0 l1 h Q) : R g d m_J26_init 0 [.ref l0, .int l1] [] h Q := by
  refine r_aload_n dJ26_init_0 rfl rfl ?_
  obtain ⟨k1, H⟩ := H
  refine r_invI (y := m_J25_init) dJ26_init_1 rfl rfl q1268 q138 q1266 q1267 rfl py_J25_init (Nat.le_of_ble_eq_true rfl) (args := []) rfl rfl (Nat.le_of_ble_eq_true rfl) k1 (C.monoE H (fun o h2 _ x4 K => cont_V K (fun H => ?_) (fun r HX => XR_nc rfl HX)))
  refine r_aload_n dJ26_init_4 rfl rfl ?_
  refine r_iload_n dJ26_init_5 rfl rfl ?_
  obtain ⟨k5, H⟩ := H
  replace H := H _ rfl
  refine r_putF fw_J26_205_30_i (by decide) dJ26_init_6 k5 (by decide) rfl rfl ?_
  exact r_vret dJ26_init_9 rfl H
theorem c_J26_init_0 {g : PG} {d : Nat} {l0 : Nat} {l1 : Int32} {h : PH} {Q : Out → PH → Prop} (H : w_J26_init_0 g d l0 l1 h Q) : C g (d + 1) m_J26_init [.ref l0, .int l1] h Q := C_of_R rfl rfl (Nat.le_of_ble_eq_true rfl) rfl (v_J26_init_0 H)
abbrev w_J26_compare_0 (g : PG) (d : Nat) (l0 : Int32) (l1 : Int32) (h : PH) (Q : Out → PH → Prop) : Prop := ((l1 ≤ l0) → ((¬ l0 = l1) → Q (.inl (some (.int 1))) h) ∧ ((l0 = l1) → Q (.inl (some (.int 0))) h)) ∧ ((¬ l1 ≤ l0) → Q (.inl (some (.int (-1 : Int32)))) h)
theorem v_J26_compare_0 {g : PG} {d : Nat} {l0 : Int32} {l1 : Int32} {h : PH} {Q : Out → PH → Prop} (H : w_J26_compare_0 g d l0 l1 h Q) : R g d m_J26_compare 0 [.int l0, .int l1] [] h Q := by
  refine r_iload_n dJ26_compare_0 rfl rfl ?_
  refine r_iload_n dJ26_compare_1 rfl rfl ?_
  refine r_icmp_ge (tgt := 9) dJ26_compare_2 rfl (fun b1 => ?_) (fun b1 => ?_)
  · replace H := H.1 b1
    refine r_iload_n dJ26_compare_9 rfl rfl ?_
    refine r_iload_n dJ26_compare_10 rfl rfl ?_
    refine r_icmp_ne (tgt := 18) dJ26_compare_11 rfl (fun b2 => ?_) (fun b2 => ?_)
    · replace H := H.1 b2
      refine r_iconst dJ26_compare_18 rfl ?_
      exact r_iret dJ26_compare_19 rfl H
    · replace H := H.2 b2
      refine r_iconst dJ26_compare_14 rfl ?_
      refine r_goto (tgt := 19) dJ26_compare_15 rfl ?_
      exact r_iret dJ26_compare_19 rfl H
  · replace H := H.2 b1
    refine r_iconst dJ26_compare_5 rfl ?_
    refine r_goto (tgt := 19) dJ26_compare_6 rfl ?_
    exact r_iret dJ26_compare_19 rfl H
theorem c_J26_compare_0 {g : PG} {d : Nat} {l0 : Int32} {l1 : Int32} {h : PH} {Q : Out → PH → Prop} (H : w_J26_compare_0 g d l0 l1 h Q) : C g (d + 1) m_J26_compare [.int l0, .int l1] h Q := C_of_R rfl rfl (Nat.le_of_ble_eq_true rfl) rfl (v_J26_compare_0 H)
abbrev w_J26_compareTo_0 (g : PG) (d : Nat) (l0 : Nat) (l1 : Nat) (h : PH) (Q : Out → PH → Prop) : Prop := (l1 = 0 ∨ ko h l1 30) ∧ ko h l0 30 ∧ C g d m_J26_compareTo_2 [.ref l0, .ref l1] h (oI (fun v5 h4 => Q (.inl (some (.int v5))) h4) (fun r hx => Q (.inr r) hx))
theorem v_J26_compareTo_0 {g : PG} {d : Nat} {l0 : Nat} {l1 : Nat} {h : PH} {Q : Out → PH → Prop} (H : w_J26_compareTo_0 g d l0 l1 h Q) : R g d m_J26_compareTo 0 [.ref l0, .ref l1] [] h Q := by
  refine r_aload_n dJ26_compareTo_0 rfl rfl ?_
  refine r_aload_n dJ26_compareTo_1 rfl rfl ?_
  obtain ⟨k1, H⟩ := H
  refine r_castOc (kv := 30) dJ26_compareTo_2 q1261 (by decide) (Or.inr rfl) k1 ?_
  obtain ⟨k2, H⟩ := H
  obtain ⟨_, k3, k3a, k3b⟩ := ko_use (by decide) k2
  refine r_invV (y := m_J26_compareTo_2) dJ26_compareTo_5 rfl (lw_V q1349 q1350 q1351 q139 q1352) py_J26_compareTo_2 (Nat.le_of_ble_eq_true rfl) (args := [_]) rfl rfl (Nat.le_of_ble_eq_true rfl) k3 k3a (k3b.trans rfl) (C.monoE H (fun o h4 _ x6 K => cont_I K (fun v5 H => ?_) (fun r HX => XR_nc rfl HX)))
  exact r_iret dJ26_compareTo_8 rfl H
theorem c_J26_compareTo_0 {g : PG} {d : Nat} {l0 : Nat} {l1 : Nat} {h : PH} {Q : Out → PH → Prop} (H : w_J26_compareTo_0 g d l0 l1 h Q) : C g (d + 1) m_J26_compareTo [.ref l0, .ref l1] h Q := C_of_R rfl rfl (Nat.le_of_ble_eq_true rfl) rfl (v_J26_compareTo_0 H)
abbrev w_J26_compareTo_2_0 (g : PG) (d : Nat) (l0 : Nat) (l1 : Nat) (h : PH) (Q : Out → PH → Prop) : Prop := ko h l0 30 ∧ ko h l1 30 ∧ C g d m_J26_compare [.int (hF h 56 l0), .int (hF h 56 l1)] h (oI (fun v4 h3 => Q (.inl (some (.int v4))) h3) (fun r hx => Q (.inr r) hx))
theorem v_J26_compareTo_2_0 {g : PG} {d : Nat} {l0 : Nat} {l1 : Nat} {h : PH} {Q : Out → PH → Prop} (H : w_J26_compareTo_2_0 g d l0 l1 h Q) : R g d m_J26_compareTo_2 0 [.ref l0, .ref l1] [] h Q := by
  refine r_aload_n dJ26_compareTo_2_0 rfl rfl ?_
  obtain ⟨k1, H⟩ := H
  refine r_getFo fr_J26_205_30 (by decide) dJ26_compareTo_2_1 (by decide) k1 ?_
  refine r_aload_n dJ26_compareTo_2_4 rfl rfl ?_
  obtain ⟨k2, H⟩ := H
  refine r_getFo fr_J26_205_30 (by decide) dJ26_compareTo_2_5 (by decide) k2 ?_
  refine r_invS (y := m_J26_compare) dJ26_compareTo_2_8 rfl (lw_S q1353 q1320 q139 q1321) py_J26_compare (Nat.le_of_ble_eq_true rfl) (args := [_, _]) rfl rfl (Nat.le_of_ble_eq_true rfl) (C.monoE H (fun o h3 _ x5 K => cont_I K (fun v4 H => ?_) (fun r HX => XR_nc rfl HX)))
  exact r_iret dJ26_compareTo_2_11 rfl H
theorem c_J26_compareTo_2_0 {g : PG} {d : Nat} {l0 : Nat} {l1 : Nat} {h : PH} {Q : Out → PH → Prop} (H : w_J26_compareTo_2_0 g d l0 l1 h Q) : C g (d + 1) m_J26_compareTo_2 [.ref l0, .ref l1] h Q := C_of_R rfl rfl (Nat.le_of_ble_eq_true rfl) rfl (v_J26_compareTo_2_0 H)
abbrev w_J26_numberOfLeadingZeros_73 (g : PG) (d : Nat) (l0 : Int32) (l1 : Int32) (h : PH) (Q : Out → PH → Prop) : Prop := Q (.inl (some (.int (l1 - (iushr9 l0 (1 : Int32)))))) h
theorem v_J26_numberOfLeadingZeros_73 {g : PG} {d : Nat} {l0 : Int32} {l1 : Int32} {h : PH} {Q : Out → PH → Prop} (H : w_J26_numberOfLeadingZeros_73 g d l0 l1 h Q) : R g d m_J26_numberOfLeadingZeros 73 [.int l0, .int l1] [] h Q := by
  refine r_iload_n dJ26_numberOfLeadingZeros_73 rfl rfl ?_
  refine r_iload_n dJ26_numberOfLeadingZeros_74 rfl rfl ?_
  refine r_iconst dJ26_numberOfLeadingZeros_75 rfl ?_
  refine r_iushr dJ26_numberOfLeadingZeros_76 rfl ?_
  refine r_isub dJ26_numberOfLeadingZeros_77 ?_
  exact r_iret dJ26_numberOfLeadingZeros_78 rfl H
abbrev w_J26_numberOfLeadingZeros_61 (g : PG) (d : Nat) (l0 : Int32) (l1 : Int32) (h : PH) (Q : Out → PH → Prop) : Prop := ((l0 < (4 : Int32)) → w_J26_numberOfLeadingZeros_73 g d l0 l1 h Q) ∧ ((¬ l0 < (4 : Int32)) → w_J26_numberOfLeadingZeros_73 g d (iushr9 l0 (2 : Int32)) (l1 + (-2)) h Q)
theorem v_J26_numberOfLeadingZeros_61 {g : PG} {d : Nat} {l0 : Int32} {l1 : Int32} {h : PH} {Q : Out → PH → Prop} (H : w_J26_numberOfLeadingZeros_61 g d l0 l1 h Q) : R g d m_J26_numberOfLeadingZeros 61 [.int l0, .int l1] [] h Q := by
  refine r_iload_n dJ26_numberOfLeadingZeros_61 rfl rfl ?_
  refine r_iconst dJ26_numberOfLeadingZeros_62 rfl ?_
  refine r_icmp_lt (tgt := 73) dJ26_numberOfLeadingZeros_63 rfl (fun b1 => ?_) (fun b1 => ?_)
  · replace H := H.1 b1
    exact v_J26_numberOfLeadingZeros_73 H
  · replace H := H.2 b1
    refine r_iinc dJ26_numberOfLeadingZeros_66 rfl rfl (Nat.le_of_ble_eq_true rfl) rfl (slS sl0) ?_
    refine r_iload_n dJ26_numberOfLeadingZeros_69 rfl rfl ?_
    refine r_iconst dJ26_numberOfLeadingZeros_70 rfl ?_
    refine r_iushr dJ26_numberOfLeadingZeros_71 rfl ?_
    refine r_istore_n dJ26_numberOfLeadingZeros_72 rfl (Nat.le_of_ble_eq_true rfl) rfl sl0 ?_
    exact v_J26_numberOfLeadingZeros_73 H
abbrev w_J26_numberOfLeadingZeros_48 (g : PG) (d : Nat) (l0 : Int32) (l1 : Int32) (h : PH) (Q : Out → PH → Prop) : Prop := ((l0 < (16 : Int32)) → w_J26_numberOfLeadingZeros_61 g d l0 l1 h Q) ∧ ((¬ l0 < (16 : Int32)) → w_J26_numberOfLeadingZeros_61 g d (iushr9 l0 (4 : Int32)) (l1 + (-4)) h Q)
theorem v_J26_numberOfLeadingZeros_48 {g : PG} {d : Nat} {l0 : Int32} {l1 : Int32} {h : PH} {Q : Out → PH → Prop} (H : w_J26_numberOfLeadingZeros_48 g d l0 l1 h Q) : R g d m_J26_numberOfLeadingZeros 48 [.int l0, .int l1] [] h Q := by
  refine r_iload_n dJ26_numberOfLeadingZeros_48 rfl rfl ?_
  refine r_bipush dJ26_numberOfLeadingZeros_49 rfl ?_
  refine r_icmp_lt (tgt := 61) dJ26_numberOfLeadingZeros_51 rfl (fun b1 => ?_) (fun b1 => ?_)
  · replace H := H.1 b1
    exact v_J26_numberOfLeadingZeros_61 H
  · replace H := H.2 b1
    refine r_iinc dJ26_numberOfLeadingZeros_54 rfl rfl (Nat.le_of_ble_eq_true rfl) rfl (slS sl0) ?_
    refine r_iload_n dJ26_numberOfLeadingZeros_57 rfl rfl ?_
    refine r_iconst dJ26_numberOfLeadingZeros_58 rfl ?_
    refine r_iushr dJ26_numberOfLeadingZeros_59 rfl ?_
    refine r_istore_n dJ26_numberOfLeadingZeros_60 rfl (Nat.le_of_ble_eq_true rfl) rfl sl0 ?_
    exact v_J26_numberOfLeadingZeros_61 H
abbrev w_J26_numberOfLeadingZeros_33 (g : PG) (d : Nat) (l0 : Int32) (l1 : Int32) (h : PH) (Q : Out → PH → Prop) : Prop := ((l0 < (256 : Int32)) → w_J26_numberOfLeadingZeros_48 g d l0 l1 h Q) ∧ ((¬ l0 < (256 : Int32)) → w_J26_numberOfLeadingZeros_48 g d (iushr9 l0 (8 : Int32)) (l1 + (-8)) h Q)
theorem v_J26_numberOfLeadingZeros_33 {g : PG} {d : Nat} {l0 : Int32} {l1 : Int32} {h : PH} {Q : Out → PH → Prop} (H : w_J26_numberOfLeadingZeros_33 g d l0 l1 h Q) : R g d m_J26_numberOfLeadingZeros 33 [.int l0, .int l1] [] h Q := by
  refine r_iload_n dJ26_numberOfLeadingZeros_33 rfl rfl ?_
  refine r_sipush dJ26_numberOfLeadingZeros_34 rfl ?_
  refine r_icmp_lt (tgt := 48) dJ26_numberOfLeadingZeros_37 rfl (fun b1 => ?_) (fun b1 => ?_)
  · replace H := H.1 b1
    exact v_J26_numberOfLeadingZeros_48 H
  · replace H := H.2 b1
    refine r_iinc dJ26_numberOfLeadingZeros_40 rfl rfl (Nat.le_of_ble_eq_true rfl) rfl (slS sl0) ?_
    refine r_iload_n dJ26_numberOfLeadingZeros_43 rfl rfl ?_
    refine r_bipush dJ26_numberOfLeadingZeros_44 rfl ?_
    refine r_iushr dJ26_numberOfLeadingZeros_46 rfl ?_
    refine r_istore_n dJ26_numberOfLeadingZeros_47 rfl (Nat.le_of_ble_eq_true rfl) rfl sl0 ?_
    exact v_J26_numberOfLeadingZeros_48 H
abbrev w_J26_numberOfLeadingZeros_0 (g : PG) (d : Nat) (l0 : Int32) (h : PH) (Q : Out → PH → Prop) : Prop := ((0 < l0) → ((l0 < (65536 : Int32)) → w_J26_numberOfLeadingZeros_33 g d l0 (31 : Int32) h Q) ∧ ((¬ l0 < (65536 : Int32)) → w_J26_numberOfLeadingZeros_33 g d (iushr9 l0 (16 : Int32)) (31 + (-16)) h Q)) ∧ ((¬ 0 < l0) → ((¬ l0 = 0) → Q (.inl (some (.int 0))) h) ∧ ((l0 = 0) → Q (.inl (some (.int 32))) h))
theorem v_J26_numberOfLeadingZeros_0 {g : PG} {d : Nat} {l0 : Int32} {h : PH} {Q : Out → PH → Prop} (H : w_J26_numberOfLeadingZeros_0 g d l0 h Q) : R g d m_J26_numberOfLeadingZeros 0 [.int l0, .null] [] h Q := by
  refine r_iload_n dJ26_numberOfLeadingZeros_0 rfl rfl ?_
  refine r_if_gt (tgt := 15) dJ26_numberOfLeadingZeros_1 rfl (fun b1 => ?_) (fun b1 => ?_)
  · replace H := H.1 b1
    refine r_bipush dJ26_numberOfLeadingZeros_15 rfl ?_
    refine r_istore_n dJ26_numberOfLeadingZeros_17 rfl (Nat.le_of_ble_eq_true rfl) rfl (slS sl0) ?_
    refine r_iload_n dJ26_numberOfLeadingZeros_18 rfl rfl ?_
    refine r_ldcw dJ26_numberOfLeadingZeros_19 q1446 ?_
    refine r_icmp_lt (tgt := 33) dJ26_numberOfLeadingZeros_22 rfl (fun b2 => ?_) (fun b2 => ?_)
    · replace H := H.1 b2
      exact v_J26_numberOfLeadingZeros_33 H
    · replace H := H.2 b2
      refine r_iinc dJ26_numberOfLeadingZeros_25 rfl rfl (Nat.le_of_ble_eq_true rfl) rfl (slS sl0) ?_
      refine r_iload_n dJ26_numberOfLeadingZeros_28 rfl rfl ?_
      refine r_bipush dJ26_numberOfLeadingZeros_29 rfl ?_
      refine r_iushr dJ26_numberOfLeadingZeros_31 rfl ?_
      refine r_istore_n dJ26_numberOfLeadingZeros_32 rfl (Nat.le_of_ble_eq_true rfl) rfl sl0 ?_
      exact v_J26_numberOfLeadingZeros_33 H
  · replace H := H.2 b1
    refine r_iload_n dJ26_numberOfLeadingZeros_4 rfl rfl ?_
    refine r_if_ne (tgt := 13) dJ26_numberOfLeadingZeros_5 rfl (fun b3 => ?_) (fun b3 => ?_)
    · replace H := H.1 b3
      refine r_iconst dJ26_numberOfLeadingZeros_13 rfl ?_
      exact r_iret dJ26_numberOfLeadingZeros_14 rfl H
    · replace H := H.2 b3
      refine r_bipush dJ26_numberOfLeadingZeros_8 rfl ?_
      refine r_goto (tgt := 14) dJ26_numberOfLeadingZeros_10 rfl ?_
      exact r_iret dJ26_numberOfLeadingZeros_14 rfl H
theorem c_J26_numberOfLeadingZeros_0 {g : PG} {d : Nat} {l0 : Int32} {h : PH} {Q : Out → PH → Prop} (H : w_J26_numberOfLeadingZeros_0 g d l0 h Q) : C g (d + 1) m_J26_numberOfLeadingZeros [.int l0] h Q := C_of_R rfl rfl (Nat.le_of_ble_eq_true rfl) rfl (v_J26_numberOfLeadingZeros_0 H)
abbrev w_J26_numberOfTrailingZeros_74 (g : PG) (d : Nat) (l0 : Int32) (l1 : Int32) (h : PH) (Q : Out → PH → Prop) : Prop := Q (.inl (some (.int (l1 + (iushr9 l0 (1 : Int32)))))) h
theorem v_J26_numberOfTrailingZeros_74 {g : PG} {d : Nat} {l0 : Int32} {l1 : Int32} {h : PH} {Q : Out → PH → Prop} (H : w_J26_numberOfTrailingZeros_74 g d l0 l1 h Q) : R g d m_J26_numberOfTrailingZeros 74 [.int l0, .int l1] [] h Q := by
  refine r_iload_n dJ26_numberOfTrailingZeros_74 rfl rfl ?_
  refine r_iload_n dJ26_numberOfTrailingZeros_75 rfl rfl ?_
  refine r_iconst dJ26_numberOfTrailingZeros_76 rfl ?_
  refine r_iushr dJ26_numberOfTrailingZeros_77 rfl ?_
  refine r_iadd dJ26_numberOfTrailingZeros_78 ?_
  exact r_iret dJ26_numberOfTrailingZeros_79 rfl H
abbrev w_J26_numberOfTrailingZeros_62 (g : PG) (d : Nat) (l0 : Int32) (l1 : Int32) (h : PH) (Q : Out → PH → Prop) : Prop := ((l0 ≤ (4 : Int32)) → w_J26_numberOfTrailingZeros_74 g d l0 l1 h Q) ∧ ((¬ l0 ≤ (4 : Int32)) → w_J26_numberOfTrailingZeros_74 g d (iushr9 l0 (2 : Int32)) (l1 + 2) h Q)
theorem v_J26_numberOfTrailingZeros_62 {g : PG} {d : Nat} {l0 : Int32} {l1 : Int32} {h : PH} {Q : Out → PH → Prop} (H : w_J26_numberOfTrailingZeros_62 g d l0 l1 h Q) : R g d m_J26_numberOfTrailingZeros 62 [.int l0, .int l1] [] h Q := by
  refine r_iload_n dJ26_numberOfTrailingZeros_62 rfl rfl ?_
  refine r_iconst dJ26_numberOfTrailingZeros_63 rfl ?_
  refine r_icmp_le (tgt := 74) dJ26_numberOfTrailingZeros_64 rfl (fun b1 => ?_) (fun b1 => ?_)
  · replace H := H.1 b1
    exact v_J26_numberOfTrailingZeros_74 H
  · replace H := H.2 b1
    refine r_iinc dJ26_numberOfTrailingZeros_67 rfl rfl (Nat.le_of_ble_eq_true rfl) rfl (slS sl0) ?_
    refine r_iload_n dJ26_numberOfTrailingZeros_70 rfl rfl ?_
    refine r_iconst dJ26_numberOfTrailingZeros_71 rfl ?_
    refine r_iushr dJ26_numberOfTrailingZeros_72 rfl ?_
    refine r_istore_n dJ26_numberOfTrailingZeros_73 rfl (Nat.le_of_ble_eq_true rfl) rfl sl0 ?_
    exact v_J26_numberOfTrailingZeros_74 H
abbrev w_J26_numberOfTrailingZeros_49 (g : PG) (d : Nat) (l0 : Int32) (l1 : Int32) (h : PH) (Q : Out → PH → Prop) : Prop := ((l0 ≤ (16 : Int32)) → w_J26_numberOfTrailingZeros_62 g d l0 l1 h Q) ∧ ((¬ l0 ≤ (16 : Int32)) → w_J26_numberOfTrailingZeros_62 g d (iushr9 l0 (4 : Int32)) (l1 + 4) h Q)
theorem v_J26_numberOfTrailingZeros_49 {g : PG} {d : Nat} {l0 : Int32} {l1 : Int32} {h : PH} {Q : Out → PH → Prop} (H : w_J26_numberOfTrailingZeros_49 g d l0 l1 h Q) : R g d m_J26_numberOfTrailingZeros 49 [.int l0, .int l1] [] h Q := by
  refine r_iload_n dJ26_numberOfTrailingZeros_49 rfl rfl ?_
  refine r_bipush dJ26_numberOfTrailingZeros_50 rfl ?_
  refine r_icmp_le (tgt := 62) dJ26_numberOfTrailingZeros_52 rfl (fun b1 => ?_) (fun b1 => ?_)
  · replace H := H.1 b1
    exact v_J26_numberOfTrailingZeros_62 H
  · replace H := H.2 b1
    refine r_iinc dJ26_numberOfTrailingZeros_55 rfl rfl (Nat.le_of_ble_eq_true rfl) rfl (slS sl0) ?_
    refine r_iload_n dJ26_numberOfTrailingZeros_58 rfl rfl ?_
    refine r_iconst dJ26_numberOfTrailingZeros_59 rfl ?_
    refine r_iushr dJ26_numberOfTrailingZeros_60 rfl ?_
    refine r_istore_n dJ26_numberOfTrailingZeros_61 rfl (Nat.le_of_ble_eq_true rfl) rfl sl0 ?_
    exact v_J26_numberOfTrailingZeros_62 H
abbrev w_J26_numberOfTrailingZeros_34 (g : PG) (d : Nat) (l0 : Int32) (l1 : Int32) (h : PH) (Q : Out → PH → Prop) : Prop := ((l0 ≤ (256 : Int32)) → w_J26_numberOfTrailingZeros_49 g d l0 l1 h Q) ∧ ((¬ l0 ≤ (256 : Int32)) → w_J26_numberOfTrailingZeros_49 g d (iushr9 l0 (8 : Int32)) (l1 + 8) h Q)
theorem v_J26_numberOfTrailingZeros_34 {g : PG} {d : Nat} {l0 : Int32} {l1 : Int32} {h : PH} {Q : Out → PH → Prop} (H : w_J26_numberOfTrailingZeros_34 g d l0 l1 h Q) : R g d m_J26_numberOfTrailingZeros 34 [.int l0, .int l1] [] h Q := by
  refine r_iload_n dJ26_numberOfTrailingZeros_34 rfl rfl ?_
  refine r_sipush dJ26_numberOfTrailingZeros_35 rfl ?_
  refine r_icmp_le (tgt := 49) dJ26_numberOfTrailingZeros_38 rfl (fun b1 => ?_) (fun b1 => ?_)
  · replace H := H.1 b1
    exact v_J26_numberOfTrailingZeros_49 H
  · replace H := H.2 b1
    refine r_iinc dJ26_numberOfTrailingZeros_41 rfl rfl (Nat.le_of_ble_eq_true rfl) rfl (slS sl0) ?_
    refine r_iload_n dJ26_numberOfTrailingZeros_44 rfl rfl ?_
    refine r_bipush dJ26_numberOfTrailingZeros_45 rfl ?_
    refine r_iushr dJ26_numberOfTrailingZeros_47 rfl ?_
    refine r_istore_n dJ26_numberOfTrailingZeros_48 rfl (Nat.le_of_ble_eq_true rfl) rfl sl0 ?_
    exact v_J26_numberOfTrailingZeros_49 H
abbrev w_J26_numberOfTrailingZeros_0 (g : PG) (d : Nat) (l0 : Int32) (h : PH) (Q : Out → PH → Prop) : Prop := ((0 < ((l0 ^^^ (-1 : Int32)) &&& (l0 - (1 : Int32)))) → ((((l0 ^^^ (-1 : Int32)) &&& (l0 - (1 : Int32))) ≤ (65536 : Int32)) → w_J26_numberOfTrailingZeros_34 g d ((l0 ^^^ (-1 : Int32)) &&& (l0 - (1 : Int32))) (1 : Int32) h Q) ∧ ((¬ ((l0 ^^^ (-1 : Int32)) &&& (l0 - (1 : Int32))) ≤ (65536 : Int32)) → w_J26_numberOfTrailingZeros_34 g d (iushr9 ((l0 ^^^ (-1 : Int32)) &&& (l0 - (1 : Int32))) (16 : Int32)) (1 + 16) h Q)) ∧ ((¬ 0 < ((l0 ^^^ (-1 : Int32)) &&& (l0 - (1 : Int32)))) → Q (.inl (some (.int (((l0 ^^^ (-1 : Int32)) &&& (l0 - (1 : Int32))) &&& (32 : Int32))))) h)
theorem v_J26_numberOfTrailingZeros_0 {g : PG} {d : Nat} {l0 : Int32} {h : PH} {Q : Out → PH → Prop} (H : w_J26_numberOfTrailingZeros_0 g d l0 h Q) : R g d m_J26_numberOfTrailingZeros 0 [.int l0, .null] [] h Q := by
  refine r_iload_n dJ26_numberOfTrailingZeros_0 rfl rfl ?_
  refine r_iconst dJ26_numberOfTrailingZeros_1 rfl ?_
  refine r_ixor dJ26_numberOfTrailingZeros_2 ?_
  refine r_iload_n dJ26_numberOfTrailingZeros_3 rfl rfl ?_
  refine r_iconst dJ26_numberOfTrailingZeros_4 rfl ?_
  refine r_isub dJ26_numberOfTrailingZeros_5 ?_
  refine r_iand dJ26_numberOfTrailingZeros_6 ?_
  refine r_istore_n dJ26_numberOfTrailingZeros_7 rfl (Nat.le_of_ble_eq_true rfl) rfl sl0 ?_
  refine r_iload_n dJ26_numberOfTrailingZeros_8 rfl rfl ?_
  refine r_if_gt (tgt := 17) dJ26_numberOfTrailingZeros_9 rfl (fun b1 => ?_) (fun b1 => ?_)
  · replace H := H.1 b1
    refine r_iconst dJ26_numberOfTrailingZeros_17 rfl ?_
    refine r_istore_n dJ26_numberOfTrailingZeros_18 rfl (Nat.le_of_ble_eq_true rfl) rfl (slS sl0) ?_
    refine r_iload_n dJ26_numberOfTrailingZeros_19 rfl rfl ?_
    refine r_ldcw dJ26_numberOfTrailingZeros_20 q1446 ?_
    refine r_icmp_le (tgt := 34) dJ26_numberOfTrailingZeros_23 rfl (fun b2 => ?_) (fun b2 => ?_)
    · replace H := H.1 b2
      exact v_J26_numberOfTrailingZeros_34 H
    · replace H := H.2 b2
      refine r_iinc dJ26_numberOfTrailingZeros_26 rfl rfl (Nat.le_of_ble_eq_true rfl) rfl (slS sl0) ?_
      refine r_iload_n dJ26_numberOfTrailingZeros_29 rfl rfl ?_
      refine r_bipush dJ26_numberOfTrailingZeros_30 rfl ?_
      refine r_iushr dJ26_numberOfTrailingZeros_32 rfl ?_
      refine r_istore_n dJ26_numberOfTrailingZeros_33 rfl (Nat.le_of_ble_eq_true rfl) rfl sl0 ?_
      exact v_J26_numberOfTrailingZeros_34 H
  · replace H := H.2 b1
    refine r_iload_n dJ26_numberOfTrailingZeros_12 rfl rfl ?_
    refine r_bipush dJ26_numberOfTrailingZeros_13 rfl ?_
    refine r_iand dJ26_numberOfTrailingZeros_15 ?_
    exact r_iret dJ26_numberOfTrailingZeros_16 rfl H
theorem c_J26_numberOfTrailingZeros_0 {g : PG} {d : Nat} {l0 : Int32} {h : PH} {Q : Out → PH → Prop} (H : w_J26_numberOfTrailingZeros_0 g d l0 h Q) : C g (d + 1) m_J26_numberOfTrailingZeros [.int l0] h Q := C_of_R rfl rfl (Nat.le_of_ble_eq_true rfl) rfl (v_J26_numberOfTrailingZeros_0 H)
abbrev w_J26_bitCount_0 (g : PG) (d : Nat) (l0 : Int32) (h : PH) (Q : Out → PH → Prop) : Prop := Q (.inl (some (.int ((((((((l0 - ((iushr9 l0 (1 : Int32)) &&& (1431655765 : Int32))) &&& (858993459 : Int32)) + ((iushr9 (l0 - ((iushr9 l0 (1 : Int32)) &&& (1431655765 : Int32))) (2 : Int32)) &&& (858993459 : Int32))) + (iushr9 (((l0 - ((iushr9 l0 (1 : Int32)) &&& (1431655765 : Int32))) &&& (858993459 : Int32)) + ((iushr9 (l0 - ((iushr9 l0 (1 : Int32)) &&& (1431655765 : Int32))) (2 : Int32)) &&& (858993459 : Int32))) (4 : Int32))) &&& (252645135 : Int32)) + (iushr9 (((((l0 - ((iushr9 l0 (1 : Int32)) &&& (1431655765 : Int32))) &&& (858993459 : Int32)) + ((iushr9 (l0 - ((iushr9 l0 (1 : Int32)) &&& (1431655765 : Int32))) (2 : Int32)) &&& (858993459 : Int32))) + (iushr9 (((l0 - ((iushr9 l0 (1 : Int32)) &&& (1431655765 : Int32))) &&& (858993459 : Int32)) + ((iushr9 (l0 - ((iushr9 l0 (1 : Int32)) &&& (1431655765 : Int32))) (2 : Int32)) &&& (858993459 : Int32))) (4 : Int32))) &&& (252645135 : Int32)) (8 : Int32))) + (iushr9 ((((((l0 - ((iushr9 l0 (1 : Int32)) &&& (1431655765 : Int32))) &&& (858993459 : Int32)) + ((iushr9 (l0 - ((iushr9 l0 (1 : Int32)) &&& (1431655765 : Int32))) (2 : Int32)) &&& (858993459 : Int32))) + (iushr9 (((l0 - ((iushr9 l0 (1 : Int32)) &&& (1431655765 : Int32))) &&& (858993459 : Int32)) + ((iushr9 (l0 - ((iushr9 l0 (1 : Int32)) &&& (1431655765 : Int32))) (2 : Int32)) &&& (858993459 : Int32))) (4 : Int32))) &&& (252645135 : Int32)) + (iushr9 (((((l0 - ((iushr9 l0 (1 : Int32)) &&& (1431655765 : Int32))) &&& (858993459 : Int32)) + ((iushr9 (l0 - ((iushr9 l0 (1 : Int32)) &&& (1431655765 : Int32))) (2 : Int32)) &&& (858993459 : Int32))) + (iushr9 (((l0 - ((iushr9 l0 (1 : Int32)) &&& (1431655765 : Int32))) &&& (858993459 : Int32)) + ((iushr9 (l0 - ((iushr9 l0 (1 : Int32)) &&& (1431655765 : Int32))) (2 : Int32)) &&& (858993459 : Int32))) (4 : Int32))) &&& (252645135 : Int32)) (8 : Int32))) (16 : Int32))) &&& (63 : Int32))))) h
theorem v_J26_bitCount_0 {g : PG} {d : Nat} {l0 : Int32} {h : PH} {Q : Out → PH → Prop} (H : w_J26_bitCount_0 g d l0 h Q) : R g d m_J26_bitCount 0 [.int l0] [] h Q := by
  refine r_iload_n dJ26_bitCount_0 rfl rfl ?_
  refine r_iload_n dJ26_bitCount_1 rfl rfl ?_
  refine r_iconst dJ26_bitCount_2 rfl ?_
  refine r_iushr dJ26_bitCount_3 rfl ?_
  refine r_ldcw dJ26_bitCount_4 q1539 ?_
  refine r_iand dJ26_bitCount_7 ?_
  refine r_isub dJ26_bitCount_8 ?_
  refine r_istore_n dJ26_bitCount_9 rfl (Nat.le_of_ble_eq_true rfl) rfl sl0 ?_
  refine r_iload_n dJ26_bitCount_10 rfl rfl ?_
  refine r_ldcw dJ26_bitCount_11 q1540 ?_
  refine r_iand dJ26_bitCount_14 ?_
  refine r_iload_n dJ26_bitCount_15 rfl rfl ?_
  refine r_iconst dJ26_bitCount_16 rfl ?_
  refine r_iushr dJ26_bitCount_17 rfl ?_
  refine r_ldcw dJ26_bitCount_18 q1540 ?_
  refine r_iand dJ26_bitCount_21 ?_
  refine r_iadd dJ26_bitCount_22 ?_
  refine r_istore_n dJ26_bitCount_23 rfl (Nat.le_of_ble_eq_true rfl) rfl sl0 ?_
  refine r_iload_n dJ26_bitCount_24 rfl rfl ?_
  refine r_iload_n dJ26_bitCount_25 rfl rfl ?_
  refine r_iconst dJ26_bitCount_26 rfl ?_
  refine r_iushr dJ26_bitCount_27 rfl ?_
  refine r_iadd dJ26_bitCount_28 ?_
  refine r_ldcw dJ26_bitCount_29 q1541 ?_
  refine r_iand dJ26_bitCount_32 ?_
  refine r_istore_n dJ26_bitCount_33 rfl (Nat.le_of_ble_eq_true rfl) rfl sl0 ?_
  refine r_iload_n dJ26_bitCount_34 rfl rfl ?_
  refine r_iload_n dJ26_bitCount_35 rfl rfl ?_
  refine r_bipush dJ26_bitCount_36 rfl ?_
  refine r_iushr dJ26_bitCount_38 rfl ?_
  refine r_iadd dJ26_bitCount_39 ?_
  refine r_istore_n dJ26_bitCount_40 rfl (Nat.le_of_ble_eq_true rfl) rfl sl0 ?_
  refine r_iload_n dJ26_bitCount_41 rfl rfl ?_
  refine r_iload_n dJ26_bitCount_42 rfl rfl ?_
  refine r_bipush dJ26_bitCount_43 rfl ?_
  refine r_iushr dJ26_bitCount_45 rfl ?_
  refine r_iadd dJ26_bitCount_46 ?_
  refine r_istore_n dJ26_bitCount_47 rfl (Nat.le_of_ble_eq_true rfl) rfl sl0 ?_
  refine r_iload_n dJ26_bitCount_48 rfl rfl ?_
  refine r_bipush dJ26_bitCount_49 rfl ?_
  refine r_iand dJ26_bitCount_51 ?_
  exact r_iret dJ26_bitCount_52 rfl H
theorem c_J26_bitCount_0 {g : PG} {d : Nat} {l0 : Int32} {h : PH} {Q : Out → PH → Prop} (H : w_J26_bitCount_0 g d l0 h Q) : C g (d + 1) m_J26_bitCount [.int l0] h Q := C_of_R rfl rfl (Nat.le_of_ble_eq_true rfl) rfl (v_J26_bitCount_0 H)
abbrev w_J26_equals_0 (g : PG) (d : Nat) (l0 : Nat) (l1 : Nat) (h : PH) (Q : Out → PH → Prop) : Prop := (l1 = 0 → (((0 : Int32) = 0) → Q (.inl (some (.int 0))) h) ∧ ((¬ (0 : Int32) = 0) → ko h l0 30 ∧ (l1 = 0 ∨ ko h l1 30) ∧ ko h l1 30 ∧ C g d m_J26_intValue [.ref l1] h (oI (fun v8 h7 => ((¬ (hF h 56 l0) = v8) → Q (.inl (some (.int 0))) h7) ∧ (((hF h 56 l0) = v8) → Q (.inl (some (.int 1))) h7)) (fun r hx => Q (.inr r) hx)))) ∧ (¬ l1 = 0 → ko h l1 30 ∧ (((1 : Int32) = 0) → Q (.inl (some (.int 0))) h) ∧ ((¬ (1 : Int32) = 0) → ko h l0 30 ∧ (l1 = 0 ∨ ko h l1 30) ∧ ko h l1 30 ∧ C g d m_J26_intValue [.ref l1] h (oI (fun v17 h16 => ((¬ (hF h 56 l0) = v17) → Q (.inl (some (.int 0))) h16) ∧ (((hF h 56 l0) = v17) → Q (.inl (some (.int 1))) h16)) (fun r hx => Q (.inr r) hx))))
theorem v_J26_equals_0 {g : PG} {d : Nat} {l0 : Nat} {l1 : Nat} {h : PH} {Q : Out → PH → Prop} (H : w_J26_equals_0 g d l0 l1 h Q) : R g d m_J26_equals 0 [.ref l0, .ref l1] [] h Q := by
  refine r_aload_n dJ26_equals_0 rfl rfl ?_
  refine r_instOc (kv := 30) dJ26_equals_1 q1261 (by decide) (Or.inr rfl) (fun k1 => ?_) (fun k1 => ⟨(H.2 k1).1, ?_⟩)
  · replace H := H.1 k1
    refine r_if_eq (tgt := 27) dJ26_equals_4 rfl (fun b2 => ?_) (fun b2 => ?_)
    · replace H := H.1 b2
      refine r_iconst dJ26_equals_27 rfl ?_
      exact r_zret dJ26_equals_28 rfl rfl H
    · replace H := H.2 b2
      refine r_aload_n dJ26_equals_7 rfl rfl ?_
      obtain ⟨k3, H⟩ := H
      refine r_getFo fr_J26_205_30 (by decide) dJ26_equals_8 (by decide) k3 ?_
      refine r_aload_n dJ26_equals_11 rfl rfl ?_
      obtain ⟨k4, H⟩ := H
      refine r_castOc (kv := 30) dJ26_equals_12 q1261 (by decide) (Or.inr rfl) k4 ?_
      obtain ⟨k5, H⟩ := H
      obtain ⟨_, k6, k6a, k6b⟩ := ko_use (by decide) k5
      refine r_invV (y := m_J26_intValue) dJ26_equals_15 rfl (lw_V q2190 q1251 q1252 q139 q1253) py_J26_intValue (Nat.le_of_ble_eq_true rfl) (args := []) rfl rfl (Nat.le_of_ble_eq_true rfl) k6 k6a (k6b.trans rfl) (C.monoE H (fun o h7 _ x9 K => cont_I K (fun v8 H => ?_) (fun r HX => XR_nc rfl HX)))
      refine r_icmp_ne (tgt := 25) dJ26_equals_18 rfl (fun b10 => ?_) (fun b10 => ?_)
      · replace H := H.1 b10
        refine r_iconst dJ26_equals_25 rfl ?_
        exact r_zret dJ26_equals_26 rfl rfl H
      · replace H := H.2 b10
        refine r_iconst dJ26_equals_21 rfl ?_
        refine r_goto (tgt := 26) dJ26_equals_22 rfl ?_
        exact r_zret dJ26_equals_26 rfl rfl H
  · replace H := (H.2 k1).2
    refine r_if_eq (tgt := 27) dJ26_equals_4 rfl (fun b11 => ?_) (fun b11 => ?_)
    · replace H := H.1 b11
      refine r_iconst dJ26_equals_27 rfl ?_
      exact r_zret dJ26_equals_28 rfl rfl H
    · replace H := H.2 b11
      refine r_aload_n dJ26_equals_7 rfl rfl ?_
      obtain ⟨k12, H⟩ := H
      refine r_getFo fr_J26_205_30 (by decide) dJ26_equals_8 (by decide) k12 ?_
      refine r_aload_n dJ26_equals_11 rfl rfl ?_
      obtain ⟨k13, H⟩ := H
      refine r_castOc (kv := 30) dJ26_equals_12 q1261 (by decide) (Or.inr rfl) k13 ?_
      obtain ⟨k14, H⟩ := H
      obtain ⟨_, k15, k15a, k15b⟩ := ko_use (by decide) k14
      refine r_invV (y := m_J26_intValue) dJ26_equals_15 rfl (lw_V q2190 q1251 q1252 q139 q1253) py_J26_intValue (Nat.le_of_ble_eq_true rfl) (args := []) rfl rfl (Nat.le_of_ble_eq_true rfl) k15 k15a (k15b.trans rfl) (C.monoE H (fun o h16 _ x18 K => cont_I K (fun v17 H => ?_) (fun r HX => XR_nc rfl HX)))
      refine r_icmp_ne (tgt := 25) dJ26_equals_18 rfl (fun b19 => ?_) (fun b19 => ?_)
      · replace H := H.1 b19
        refine r_iconst dJ26_equals_25 rfl ?_
        exact r_zret dJ26_equals_26 rfl rfl H
      · replace H := H.2 b19
        refine r_iconst dJ26_equals_21 rfl ?_
        refine r_goto (tgt := 26) dJ26_equals_22 rfl ?_
        exact r_zret dJ26_equals_26 rfl rfl H
theorem c_J26_equals_0 {g : PG} {d : Nat} {l0 : Nat} {l1 : Nat} {h : PH} {Q : Out → PH → Prop} (H : w_J26_equals_0 g d l0 l1 h Q) : C g (d + 1) m_J26_equals [.ref l0, .ref l1] h Q := C_of_R rfl rfl (Nat.le_of_ble_eq_true rfl) rfl (v_J26_equals_0 H)
abbrev w_J29_init_0 (g : PG) (d : Nat) (l0 : Nat) (h : PH) (Q : Out → PH → Prop) : Prop := 0 < l0 ∧ C g d m_J0_init [.ref l0] h (oV (fun h2 => Q (.inl none) h2) (fun r hx => Q (.inr r) hx))
theorem v_J29_init_0 {g : PG} {d : Nat} {l0 : Nat} {h : PH} {Q : Out → PH → Prop} (H : w_J29_init_0 g d l0 h Q) : R g d m_J29_init 0 [.ref l0] [] h Q := by
  refine r_aload_n dJ29_init_0 rfl rfl ?_
  obtain ⟨k1, H⟩ := H
  refine r_invI (y := m_J0_init) dJ29_init_1 rfl rfl q202 q109 q831 q201 rfl py_J0_init (Nat.le_of_ble_eq_true rfl) (args := []) rfl rfl (Nat.le_of_ble_eq_true rfl) k1 (C.monoE H (fun o h2 _ x4 K => cont_V K (fun H => ?_) (fun r HX => XR_nc rfl HX)))
  exact r_vret dJ29_init_4 rfl H
theorem c_J29_init_0 {g : PG} {d : Nat} {l0 : Nat} {h : PH} {Q : Out → PH → Prop} (H : w_J29_init_0 g d l0 h Q) : C g (d + 1) m_J29_init [.ref l0] h Q := C_of_R rfl rfl (Nat.le_of_ble_eq_true rfl) rfl (v_J29_init_0 H)
abbrev w_J3_init_0 (g : PG) (d : Nat) (l0 : Nat) (h : PH) (Q : Out → PH → Prop) : Prop := 0 < l0 ∧ Q (.inl none) h
theorem v_J3_init_0 {g : PG} {d : Nat} {l0 : Nat} {h : PH} {Q : Out → PH → Prop} (H : w_J3_init_0 g d l0 h Q) : R g d m_J3_init 0 [.ref l0] [] h Q := by
  refine r_aload_n dJ3_init_0 rfl rfl ?_
  obtain ⟨k1, H⟩ := H
  refine r_oinit dJ3_init_1 q233 q182 q183 k1 (Nat.le_of_ble_eq_true rfl) ?_
  exact r_vret dJ3_init_4 rfl H
theorem c_J3_init_0 {g : PG} {d : Nat} {l0 : Nat} {h : PH} {Q : Out → PH → Prop} (H : w_J3_init_0 g d l0 h Q) : C g (d + 1) m_J3_init [.ref l0] h Q := C_of_R rfl rfl (Nat.le_of_ble_eq_true rfl) rfl (v_J3_init_0 H)
abbrev w_J3_putAll_k15_12 (g : PG) (d : Nat) (l0 : Nat) (l2 : Nat) (h : PH) (Q : Out → PH → Prop) : Prop := hkd h l2 = 20 ∧ C g d m_J31_hasNext [.ref l2] h (oI (fun v3 h2 => ((v3 = 0) → Q (.inl none) h2) ∧ ((¬ v3 = 0) → C g d m_J32_next [.ref l2] h2 (oR (fun v7 h6 => (v7 = 0 ∨ hkd h6 v7 = 16) ∧ hkd h6 v7 = 16 ∧ C g d m_J34_getKey [.ref v7] h6 (oR (fun v12 h11 => C g d m_J34_getValue [.ref v7] h11 (oR (fun v15 h14 => hkd h14 l0 = 15 ∧ C g d m_J4_put [.ref l0, .ref v12, .ref v15] h14 (oR (fun v19 h18 => R g d m_J3_putAll 12 [.ref l0, .null, .ref l2, .null] [] h18 Q) (fun r hx => Q (.inr r) hx))) (fun r hx => Q (.inr r) hx))) (fun r hx => Q (.inr r) hx))) (fun r hx => Q (.inr r) hx)))) (fun r hx => Q (.inr r) hx))
theorem v_J3_putAll_k15_12 {g : PG} {d : Nat} {l0 : Nat} {l2 : Nat} {h : PH} {Q : Out → PH → Prop} (H : w_J3_putAll_k15_12 g d l0 l2 h Q) : R g d m_J3_putAll 12 [.ref l0, .null, .ref l2, .null] [] h Q := by
  refine r_aload_n dJ3_putAll_12 rfl rfl ?_
  obtain ⟨k1, H⟩ := H
  refine r_invF (y := m_J31_hasNext) (Cn := "java/util/TreeMap$EntryIterator") (x := ⟨"java/util/Iterator", "hasNext", "()Z"⟩) dJ3_putAll_13 rfl (lw_F q2266 q950 q952 q145 q954) fw_t4 (n := 0) (by decide +kernel) (Nat.le_of_ble_eq_true rfl) (args := []) rfl rfl (Nat.le_of_ble_eq_true rfl) k1 (by decide) rfl (C.monoE H (fun o h2 _ x4 K => cont_I K (fun v3 H => ?_) (fun r HX => XR_nc rfl HX)))
  refine r_if_eq (tgt := 51) dJ3_putAll_18 rfl (fun b5 => ?_) (fun b5 => ?_)
  · replace H := H.1 b5
    exact r_vret dJ3_putAll_51 rfl H
  · replace H := H.2 b5
    refine r_aload_n dJ3_putAll_21 rfl rfl ?_
    refine r_invF (y := m_J32_next) (Cn := "java/util/TreeMap$EntryIterator") (x := ⟨"java/util/Iterator", "next", "()Ljava/lang/Object;"⟩) dJ3_putAll_22 rfl (lw_F q2268 q1213 q1215 q146 q1217) fw_t9 (n := 0) (by decide +kernel) (Nat.le_of_ble_eq_true rfl) (args := []) rfl rfl (Nat.le_of_ble_eq_true rfl) (x4.kd k1 (by decide)) (by decide) rfl (C.monoE H (fun o h6 _ x8 K => cont_R K (fun v7 H => ?_) (fun r HX => XR_nc rfl HX)))
    obtain ⟨k9, H⟩ := H
    refine r_castO (kv := 16) dJ3_putAll_27 q2269 (by decide) (Or.inl q2243) k9 ?_
    refine r_astore_n dJ3_putAll_30 rfl (Nat.le_of_ble_eq_true rfl) rfl (slS (slS (slS sl0))) ?_
    refine r_aload_n dJ3_putAll_31 rfl rfl ?_
    refine r_aload_n dJ3_putAll_32 rfl rfl ?_
    obtain ⟨k10, H⟩ := H
    refine r_invF (y := m_J34_getKey) (Cn := "java/util/TreeMap$Entry") (x := ⟨"java/util/Map$Entry", "getKey", "()Ljava/lang/Object;"⟩) dJ3_putAll_33 rfl (lw_F q2271 q2244 q2246 q148 q2248) fw_t34 (n := 0) (by decide +kernel) (Nat.le_of_ble_eq_true rfl) (args := []) rfl rfl (Nat.le_of_ble_eq_true rfl) k10 (by decide) rfl (C.monoE H (fun o h11 _ x13 K => cont_R K (fun v12 H => ?_) (fun r HX => XR_nc rfl HX)))
    refine r_aload_n dJ3_putAll_38 rfl rfl ?_
    refine r_invF (y := m_J34_getValue) (Cn := "java/util/TreeMap$Entry") (x := ⟨"java/util/Map$Entry", "getValue", "()Ljava/lang/Object;"⟩) dJ3_putAll_39 rfl (lw_F q2273 q2253 q2255 q148 q2257) fw_t35 (n := 0) (by decide +kernel) (Nat.le_of_ble_eq_true rfl) (args := []) rfl rfl (Nat.le_of_ble_eq_true rfl) (x13.kd k10 (by decide)) (by decide) rfl (C.monoE H (fun o h14 _ x16 K => cont_R K (fun v15 H => ?_) (fun r HX => XR_nc rfl HX)))
    obtain ⟨k17, H⟩ := H
    refine r_invU (y := m_J4_put) (owner := "java/util/AbstractMap") (Cn := "java/util/TreeMap") (x := ⟨"java/util/AbstractMap", "put", "(Ljava/lang/Object;Ljava/lang/Object;)Ljava/lang/Object;"⟩) dJ3_putAll_44 (n := 2) ⟨rfl, by decide +kernel, by decide, by decide, Or.inl ⟨lw_U q2274 q2276 q2277 q1674 q113 q1676, Or.inr q2278⟩⟩ (Nat.le_of_ble_eq_true rfl) (args := [_, _]) rfl rfl (Nat.le_of_ble_eq_true rfl) k17 (by decide) rfl (C.monoE H (fun o h18 _ x20 K => cont_R K (fun v19 H => ?_) (fun r HX => XR_nc rfl HX)))
    refine r_pop dJ3_putAll_47 rfl ?_
    refine r_goto (tgt := 12) dJ3_putAll_48 rfl ?_
    exact R.forget H ⟨Or.inl rfl, ⟨Or.inl rfl, ⟨Or.inl rfl, ⟨Or.inr rfl, trivial⟩⟩⟩⟩
abbrev w_J3_putAll_k15_0 (g : PG) (d : Nat) (l0 : Nat) (l1 : Nat) (h : PH) (Q : Out → PH → Prop) : Prop := hkd h l1 = 15 ∧ C g d m_J4_entrySet [.ref l1] h (oR (fun v3 h2 => hkd h2 v3 = 17 ∧ C g d m_J30_iterator [.ref v3] h2 (oR (fun v7 h6 => R g d m_J3_putAll 12 [.ref l0, .null, .ref v7, .null] [] h6 Q) (fun r hx => Q (.inr r) hx))) (fun r hx => Q (.inr r) hx))
theorem v_J3_putAll_k15_0 {g : PG} {d : Nat} {l0 : Nat} {l1 : Nat} {h : PH} {Q : Out → PH → Prop} (H : w_J3_putAll_k15_0 g d l0 l1 h Q) : R g d m_J3_putAll 0 [.ref l0, .ref l1, .null, .null] [] h Q := by
  refine r_aload_n dJ3_putAll_0 rfl rfl ?_
  obtain ⟨k1, H⟩ := H
  refine r_invF (y := m_J4_entrySet) (Cn := "java/util/TreeMap") (x := ⟨"java/util/Map", "entrySet", "()Ljava/util/Set;"⟩) dJ3_putAll_1 rfl (lw_F q2262 q2207 q2209 q113 q2211) fw_t33 (n := 0) (by decide +kernel) (Nat.le_of_ble_eq_true rfl) (args := []) rfl rfl (Nat.le_of_ble_eq_true rfl) k1 (by decide) rfl (C.monoE H (fun o h2 _ x4 K => cont_R K (fun v3 H => ?_) (fun r HX => XR_nc rfl HX)))
  obtain ⟨k5, H⟩ := H
  refine r_invF (y := m_J30_iterator) (Cn := "java/util/TreeMap$EntrySet") (x := ⟨"java/util/Set", "iterator", "()Ljava/util/Iterator;"⟩) dJ3_putAll_6 rfl (lw_F q2264 q841 q843 q144 q845) fw_t0 (n := 0) (by decide +kernel) (Nat.le_of_ble_eq_true rfl) (args := []) rfl rfl (Nat.le_of_ble_eq_true rfl) k5 (by decide) rfl (C.monoE H (fun o h6 _ x8 K => cont_R K (fun v7 H => ?_) (fun r HX => XR_nc rfl HX)))
  refine r_astore_n dJ3_putAll_11 rfl (Nat.le_of_ble_eq_true rfl) rfl (slS (slS sl0)) ?_
  exact R.forget H ⟨Or.inl rfl, ⟨Or.inr rfl, ⟨Or.inl rfl, ⟨Or.inl rfl, trivial⟩⟩⟩⟩
theorem c_J3_putAll_k15_0 {g : PG} {d : Nat} {l0 : Nat} {l1 : Nat} {h : PH} {Q : Out → PH → Prop} (H : w_J3_putAll_k15_0 g d l0 l1 h Q) : C g (d + 1) m_J3_putAll [.ref l0, .ref l1] h Q := C_of_R rfl rfl (Nat.le_of_ble_eq_true rfl) rfl (v_J3_putAll_k15_0 H)
abbrev w_J30_iterator_0 (g : PG) (d : Nat) (l0 : Nat) (h : PH) (Q : Out → PH → Prop) : Prop := ∀ h1, h1 = hnew 20 0 5 h → hkd h1 l0 = 17 ∧ hkd h1 (hG h1 545 l0) = 15 ∧ C g d m_J4_getFirstEntry [.ref (hG h1 545 l0)] h1 (oR (fun v5 h4 => 0 < (hnx h) ∧ C g d m_J32_init [.ref (hnx h), .ref (hG h1 545 l0), .ref v5] h4 (oV (fun h8 => Q (.inl (some (.ref (hnx h)))) h8) (fun r hx => Q (.inr r) hx))) (fun r hx => Q (.inr r) hx))
theorem v_J30_iterator_0 {g : PG} {d : Nat} {l0 : Nat} {h : PH} {Q : Out → PH → Prop} (H : w_J30_iterator_0 g d l0 h Q) : R g d m_J30_iterator 0 [.ref l0] [] h Q := by
  replace H := H _ rfl
  refine r_new (ci := 20) dJ30_iterator_0 rfl (by decide) q846 q847 q146 ?_
  refine r_dup dJ30_iterator_3 rfl ?_
  refine r_aload_n dJ30_iterator_4 rfl rfl ?_
  obtain ⟨k2, H⟩ := H
  refine r_getG fr_J30_1_17 (by decide) dJ30_iterator_5 k2 (by decide) ?_
  refine r_aload_n dJ30_iterator_8 rfl rfl ?_
  refine r_getG fr_J30_1_17 (by decide) dJ30_iterator_9 k2 (by decide) ?_
  obtain ⟨k3, H⟩ := H
  refine r_invV (y := m_J4_getFirstEntry) dJ30_iterator_12 rfl (lw_V q848 q849 q850 q113 q851) py_J4_getFirstEntry (Nat.le_of_ble_eq_true rfl) (args := []) rfl rfl (Nat.le_of_ble_eq_true rfl) k3 (by decide) rfl (C.monoE H (fun o h4 _ x6 K => cont_R K (fun v5 H => ?_) (fun r HX => XR_nc rfl HX)))
  obtain ⟨k7, H⟩ := H
  refine r_invI (y := m_J32_init) dJ30_iterator_15 rfl rfl q854 q146 q852 q853 rfl py_J32_init (Nat.le_of_ble_eq_true rfl) (args := [_, _]) rfl rfl (Nat.le_of_ble_eq_true rfl) k7 (C.monoE H (fun o h8 _ x10 K => cont_V K (fun H => ?_) (fun r HX => XR_nc rfl HX)))
  exact r_aret dJ30_iterator_18 rfl H
theorem c_J30_iterator_0 {g : PG} {d : Nat} {l0 : Nat} {h : PH} {Q : Out → PH → Prop} (H : w_J30_iterator_0 g d l0 h Q) : C g (d + 1) m_J30_iterator [.ref l0] h Q := C_of_R rfl rfl (Nat.le_of_ble_eq_true rfl) rfl (v_J30_iterator_0 H)
abbrev w_J30_size_0 (g : PG) (d : Nat) (l0 : Nat) (h : PH) (Q : Out → PH → Prop) : Prop := hkd h l0 = 17 ∧ hkd h (hG h 545 l0) = 15 ∧ C g d m_J4_size [.ref (hG h 545 l0)] h (oI (fun v4 h3 => Q (.inl (some (.int v4))) h3) (fun r hx => Q (.inr r) hx))
theorem v_J30_size_0 {g : PG} {d : Nat} {l0 : Nat} {h : PH} {Q : Out → PH → Prop} (H : w_J30_size_0 g d l0 h Q) : R g d m_J30_size 0 [.ref l0] [] h Q := by
  refine r_aload_n dJ30_size_0 rfl rfl ?_
  obtain ⟨k1, H⟩ := H
  refine r_getG fr_J30_1_17 (by decide) dJ30_size_1 k1 (by decide) ?_
  obtain ⟨k2, H⟩ := H
  refine r_invV (y := m_J4_size) dJ30_size_4 rfl (lw_V q2004 q2005 q2006 q113 q2007) py_J4_size (Nat.le_of_ble_eq_true rfl) (args := []) rfl rfl (Nat.le_of_ble_eq_true rfl) k2 (by decide) rfl (C.monoE H (fun o h3 _ x5 K => cont_I K (fun v4 H => ?_) (fun r HX => XR_nc rfl HX)))
  exact r_iret dJ30_size_7 rfl H
theorem c_J30_size_0 {g : PG} {d : Nat} {l0 : Nat} {h : PH} {Q : Out → PH → Prop} (H : w_J30_size_0 g d l0 h Q) : C g (d + 1) m_J30_size [.ref l0] h Q := C_of_R rfl rfl (Nat.le_of_ble_eq_true rfl) rfl (v_J30_size_0 H)
abbrev w_J30_init_0 (g : PG) (d : Nat) (l0 : Nat) (l1 : Nat) (h : PH) (Q : Out → PH → Prop) : Prop := hkd h l0 = 17 ∧ ∀ h2, h2 = setG 545 l0 l1 h → 0 < l0 ∧ C g d m_J29_init [.ref l0] h2 (oV (fun h4 => Q (.inl none) h4) (fun r hx => Q (.inr r) hx))
theorem v_J30_init_0 {g : PG} {d : Nat} {l0 : Nat} {l1 : Nat} {h : PH} {Q : Out → PH → Prop} (H : w_J30_init_0 g d l0 l1 h Q) : R g d m_J30_init 0 [.ref l0, .ref l1] [] h Q := by
  refine r_aload_n dJ30_init_0 rfl rfl ?_
  refine r_aload_n dJ30_init_1 rfl rfl ?_
  obtain ⟨k1, H⟩ := H
  replace H := H _ rfl
  refine r_putG fw_J30_1_17_i (by decide) dJ30_init_2 k1 (by decide) rfl ?_
  refine r_aload_n dJ30_init_5 rfl rfl ?_
  obtain ⟨k3, H⟩ := H
  refine r_invI (y := m_J29_init) dJ30_init_6 rfl rfl q830 q143 q2217 q829 rfl py_J29_init (Nat.le_of_ble_eq_true rfl) (args := []) rfl rfl (Nat.le_of_ble_eq_true rfl) k3 (C.monoE H (fun o h4 _ x6 K => cont_V K (fun H => ?_) (fun r HX => XR_nc rfl HX)))
  exact r_vret dJ30_init_9 rfl H
theorem c_J30_init_0 {g : PG} {d : Nat} {l0 : Nat} {l1 : Nat} {h : PH} {Q : Out → PH → Prop} (H : w_J30_init_0 g d l0 l1 h Q) : C g (d + 1) m_J30_init [.ref l0, .ref l1] h Q := C_of_R rfl rfl (Nat.le_of_ble_eq_true rfl) rfl (v_J30_init_0 H)
abbrev w_J31_init_k20_0 (g : PG) (d : Nat) (l0 : Nat) (l1 : Nat) (l2 : Nat) (h : PH) (Q : Out → PH → Prop) : Prop := hkd h l0 = 20 ∧ ∀ h2, h2 = setG 550 l0 l1 h → 0 < l0 ∧ hkd h2 l1 = 15 ∧ ∀ h5, h5 = setF 42 l0 (hF h2 40 l1) h2 → ∀ h6, h6 = setG 549 l0 (0 : Nat) h5 → ∀ h7, h7 = setG 548 l0 l2 h6 → Q (.inl none) h7
theorem v_J31_init_k20_0 {g : PG} {d : Nat} {l0 : Nat} {l1 : Nat} {l2 : Nat} {h : PH} {Q : Out → PH → Prop} (H : w_J31_init_k20_0 g d l0 l1 l2 h Q) : R g d m_J31_init 0 [.ref l0, .ref l1, .ref l2] [] h Q := by
  refine r_aload_n dJ31_init_0 rfl rfl ?_
  refine r_aload_n dJ31_init_1 rfl rfl ?_
  obtain ⟨k1, H⟩ := H
  replace H := H _ rfl
  refine r_putG fw_J31_1_20_i (by decide) dJ31_init_2 k1 (by decide) rfl ?_
  refine r_aload_n dJ31_init_5 rfl rfl ?_
  obtain ⟨k3, H⟩ := H
  refine r_oinit dJ31_init_6 q858 q182 q183 k3 (Nat.le_of_ble_eq_true rfl) ?_
  refine r_aload_n dJ31_init_9 rfl rfl ?_
  refine r_aload_n dJ31_init_10 rfl rfl ?_
  obtain ⟨k4, H⟩ := H
  refine r_getF fr_J31_13_15 (by decide) dJ31_init_11 k4 (by decide) ?_
  replace H := H _ rfl
  refine r_putF fw_J31_19_20_i (by decide) dJ31_init_14 k1 (by decide) rfl rfl ?_
  refine r_aload_n dJ31_init_17 rfl rfl ?_
  refine r_null dJ31_init_18 ?_
  replace H := H _ rfl
  refine r_putG fw_J31_22_20_i (by decide) dJ31_init_19 k1 (by decide) rfl ?_
  refine r_aload_n dJ31_init_22 rfl rfl ?_
  refine r_aload_n dJ31_init_23 rfl rfl ?_
  replace H := H _ rfl
  refine r_putG fw_J31_26_20_i (by decide) dJ31_init_24 k1 (by decide) rfl ?_
  exact r_vret dJ31_init_27 rfl H
theorem c_J31_init_k20_0 {g : PG} {d : Nat} {l0 : Nat} {l1 : Nat} {l2 : Nat} {h : PH} {Q : Out → PH → Prop} (H : w_J31_init_k20_0 g d l0 l1 l2 h Q) : C g (d + 1) m_J31_init [.ref l0, .ref l1, .ref l2] h Q := C_of_R rfl rfl (Nat.le_of_ble_eq_true rfl) rfl (v_J31_init_k20_0 H)
abbrev w_J31_init_k21_0 (g : PG) (d : Nat) (l0 : Nat) (l1 : Nat) (l2 : Nat) (h : PH) (Q : Out → PH → Prop) : Prop := hkd h l0 = 21 ∧ ∀ h2, h2 = setG 550 l0 l1 h → 0 < l0 ∧ hkd h2 l1 = 15 ∧ ∀ h5, h5 = setF 42 l0 (hF h2 40 l1) h2 → ∀ h6, h6 = setG 549 l0 (0 : Nat) h5 → ∀ h7, h7 = setG 548 l0 l2 h6 → Q (.inl none) h7
theorem v_J31_init_k21_0 {g : PG} {d : Nat} {l0 : Nat} {l1 : Nat} {l2 : Nat} {h : PH} {Q : Out → PH → Prop} (H : w_J31_init_k21_0 g d l0 l1 l2 h Q) : R g d m_J31_init 0 [.ref l0, .ref l1, .ref l2] [] h Q := by
  refine r_aload_n dJ31_init_0 rfl rfl ?_
  refine r_aload_n dJ31_init_1 rfl rfl ?_
  obtain ⟨k1, H⟩ := H
  replace H := H _ rfl
  refine r_putG fw_J31_1_21_i (by decide) dJ31_init_2 k1 (by decide) rfl ?_
  refine r_aload_n dJ31_init_5 rfl rfl ?_
  obtain ⟨k3, H⟩ := H
  refine r_oinit dJ31_init_6 q858 q182 q183 k3 (Nat.le_of_ble_eq_true rfl) ?_
  refine r_aload_n dJ31_init_9 rfl rfl ?_
  refine r_aload_n dJ31_init_10 rfl rfl ?_
  obtain ⟨k4, H⟩ := H
  refine r_getF fr_J31_13_15 (by decide) dJ31_init_11 k4 (by decide) ?_
  replace H := H _ rfl
  refine r_putF fw_J31_19_21_i (by decide) dJ31_init_14 k1 (by decide) rfl rfl ?_
  refine r_aload_n dJ31_init_17 rfl rfl ?_
  refine r_null dJ31_init_18 ?_
  replace H := H _ rfl
  refine r_putG fw_J31_22_21_i (by decide) dJ31_init_19 k1 (by decide) rfl ?_
  refine r_aload_n dJ31_init_22 rfl rfl ?_
  refine r_aload_n dJ31_init_23 rfl rfl ?_
  replace H := H _ rfl
  refine r_putG fw_J31_26_21_i (by decide) dJ31_init_24 k1 (by decide) rfl ?_
  exact r_vret dJ31_init_27 rfl H
theorem c_J31_init_k21_0 {g : PG} {d : Nat} {l0 : Nat} {l1 : Nat} {l2 : Nat} {h : PH} {Q : Out → PH → Prop} (H : w_J31_init_k21_0 g d l0 l1 l2 h Q) : C g (d + 1) m_J31_init [.ref l0, .ref l1, .ref l2] h Q := C_of_R rfl rfl (Nat.le_of_ble_eq_true rfl) rfl (v_J31_init_k21_0 H)
abbrev w_J31_init_k22_0 (g : PG) (d : Nat) (l0 : Nat) (l1 : Nat) (l2 : Nat) (h : PH) (Q : Out → PH → Prop) : Prop := hkd h l0 = 22 ∧ ∀ h2, h2 = setG 550 l0 l1 h → 0 < l0 ∧ hkd h2 l1 = 15 ∧ ∀ h5, h5 = setF 42 l0 (hF h2 40 l1) h2 → ∀ h6, h6 = setG 549 l0 (0 : Nat) h5 → ∀ h7, h7 = setG 548 l0 l2 h6 → Q (.inl none) h7
theorem v_J31_init_k22_0 {g : PG} {d : Nat} {l0 : Nat} {l1 : Nat} {l2 : Nat} {h : PH} {Q : Out → PH → Prop} (H : w_J31_init_k22_0 g d l0 l1 l2 h Q) : R g d m_J31_init 0 [.ref l0, .ref l1, .ref l2] [] h Q := by
  refine r_aload_n dJ31_init_0 rfl rfl ?_
  refine r_aload_n dJ31_init_1 rfl rfl ?_
  obtain ⟨k1, H⟩ := H
  replace H := H _ rfl
  refine r_putG fw_J31_1_22_i (by decide) dJ31_init_2 k1 (by decide) rfl ?_
  refine r_aload_n dJ31_init_5 rfl rfl ?_
  obtain ⟨k3, H⟩ := H
  refine r_oinit dJ31_init_6 q858 q182 q183 k3 (Nat.le_of_ble_eq_true rfl) ?_
  refine r_aload_n dJ31_init_9 rfl rfl ?_
  refine r_aload_n dJ31_init_10 rfl rfl ?_
  obtain ⟨k4, H⟩ := H
  refine r_getF fr_J31_13_15 (by decide) dJ31_init_11 k4 (by decide) ?_
  replace H := H _ rfl
  refine r_putF fw_J31_19_22_i (by decide) dJ31_init_14 k1 (by decide) rfl rfl ?_
  refine r_aload_n dJ31_init_17 rfl rfl ?_
  refine r_null dJ31_init_18 ?_
  replace H := H _ rfl
  refine r_putG fw_J31_22_22_i (by decide) dJ31_init_19 k1 (by decide) rfl ?_
  refine r_aload_n dJ31_init_22 rfl rfl ?_
  refine r_aload_n dJ31_init_23 rfl rfl ?_
  replace H := H _ rfl
  refine r_putG fw_J31_26_22_i (by decide) dJ31_init_24 k1 (by decide) rfl ?_
  exact r_vret dJ31_init_27 rfl H
theorem c_J31_init_k22_0 {g : PG} {d : Nat} {l0 : Nat} {l1 : Nat} {l2 : Nat} {h : PH} {Q : Out → PH → Prop} (H : w_J31_init_k22_0 g d l0 l1 l2 h Q) : C g (d + 1) m_J31_init [.ref l0, .ref l1, .ref l2] h Q := C_of_R rfl rfl (Nat.le_of_ble_eq_true rfl) rfl (v_J31_init_k22_0 H)
abbrev w_J31_hasNext_k20_0 (g : PG) (d : Nat) (l0 : Nat) (h : PH) (Q : Out → PH → Prop) : Prop := hkd h l0 = 20 ∧ (((hG h 548 l0) = 0) → Q (.inl (some (.int 0))) h) ∧ ((¬ (hG h 548 l0) = 0) → Q (.inl (some (.int 1))) h)
theorem v_J31_hasNext_k20_0 {g : PG} {d : Nat} {l0 : Nat} {h : PH} {Q : Out → PH → Prop} (H : w_J31_hasNext_k20_0 g d l0 h Q) : R g d m_J31_hasNext 0 [.ref l0] [] h Q := by
  refine r_aload_n dJ31_hasNext_0 rfl rfl ?_
  obtain ⟨k1, H⟩ := H
  refine r_getG fr_J31_26_20 (by decide) dJ31_hasNext_1 k1 (by decide) ?_
  refine r_ifnull (tgt := 11) dJ31_hasNext_4 rfl (fun b2 => ?_) (fun b2 => ?_)
  · replace H := H.1 b2
    refine r_iconst dJ31_hasNext_11 rfl ?_
    exact r_zret dJ31_hasNext_12 rfl rfl H
  · replace H := H.2 b2
    refine r_iconst dJ31_hasNext_7 rfl ?_
    refine r_goto (tgt := 12) dJ31_hasNext_8 rfl ?_
    exact r_zret dJ31_hasNext_12 rfl rfl H
theorem c_J31_hasNext_k20_0 {g : PG} {d : Nat} {l0 : Nat} {h : PH} {Q : Out → PH → Prop} (H : w_J31_hasNext_k20_0 g d l0 h Q) : C g (d + 1) m_J31_hasNext [.ref l0] h Q := C_of_R rfl rfl (Nat.le_of_ble_eq_true rfl) rfl (v_J31_hasNext_k20_0 H)
abbrev w_J31_hasNext_k21_0 (g : PG) (d : Nat) (l0 : Nat) (h : PH) (Q : Out → PH → Prop) : Prop := hkd h l0 = 21 ∧ (((hG h 548 l0) = 0) → Q (.inl (some (.int 0))) h) ∧ ((¬ (hG h 548 l0) = 0) → Q (.inl (some (.int 1))) h)
theorem v_J31_hasNext_k21_0 {g : PG} {d : Nat} {l0 : Nat} {h : PH} {Q : Out → PH → Prop} (H : w_J31_hasNext_k21_0 g d l0 h Q) : R g d m_J31_hasNext 0 [.ref l0] [] h Q := by
  refine r_aload_n dJ31_hasNext_0 rfl rfl ?_
  obtain ⟨k1, H⟩ := H
  refine r_getG fr_J31_26_21 (by decide) dJ31_hasNext_1 k1 (by decide) ?_
  refine r_ifnull (tgt := 11) dJ31_hasNext_4 rfl (fun b2 => ?_) (fun b2 => ?_)
  · replace H := H.1 b2
    refine r_iconst dJ31_hasNext_11 rfl ?_
    exact r_zret dJ31_hasNext_12 rfl rfl H
  · replace H := H.2 b2
    refine r_iconst dJ31_hasNext_7 rfl ?_
    refine r_goto (tgt := 12) dJ31_hasNext_8 rfl ?_
    exact r_zret dJ31_hasNext_12 rfl rfl H
theorem c_J31_hasNext_k21_0 {g : PG} {d : Nat} {l0 : Nat} {h : PH} {Q : Out → PH → Prop} (H : w_J31_hasNext_k21_0 g d l0 h Q) : C g (d + 1) m_J31_hasNext [.ref l0] h Q := C_of_R rfl rfl (Nat.le_of_ble_eq_true rfl) rfl (v_J31_hasNext_k21_0 H)
abbrev w_J31_hasNext_k22_0 (g : PG) (d : Nat) (l0 : Nat) (h : PH) (Q : Out → PH → Prop) : Prop := hkd h l0 = 22 ∧ (((hG h 548 l0) = 0) → Q (.inl (some (.int 0))) h) ∧ ((¬ (hG h 548 l0) = 0) → Q (.inl (some (.int 1))) h)
theorem v_J31_hasNext_k22_0 {g : PG} {d : Nat} {l0 : Nat} {h : PH} {Q : Out → PH → Prop} (H : w_J31_hasNext_k22_0 g d l0 h Q) : R g d m_J31_hasNext 0 [.ref l0] [] h Q := by
  refine r_aload_n dJ31_hasNext_0 rfl rfl ?_
  obtain ⟨k1, H⟩ := H
  refine r_getG fr_J31_26_22 (by decide) dJ31_hasNext_1 k1 (by decide) ?_
  refine r_ifnull (tgt := 11) dJ31_hasNext_4 rfl (fun b2 => ?_) (fun b2 => ?_)
  · replace H := H.1 b2
    refine r_iconst dJ31_hasNext_11 rfl ?_
    exact r_zret dJ31_hasNext_12 rfl rfl H
  · replace H := H.2 b2
    refine r_iconst dJ31_hasNext_7 rfl ?_
    refine r_goto (tgt := 12) dJ31_hasNext_8 rfl ?_
    exact r_zret dJ31_hasNext_12 rfl rfl H
theorem c_J31_hasNext_k22_0 {g : PG} {d : Nat} {l0 : Nat} {h : PH} {Q : Out → PH → Prop} (H : w_J31_hasNext_k22_0 g d l0 h Q) : C g (d + 1) m_J31_hasNext [.ref l0] h Q := C_of_R rfl rfl (Nat.le_of_ble_eq_true rfl) rfl (v_J31_hasNext_k22_0 H)
abbrev w_J31_nextEntry_k20_0 (g : PG) (d : Nat) (l0 : Nat) (h : PH) (Q : Out → PH → Prop) : Prop := hkd h l0 = 20 ∧ ((¬ (hG h 548 l0) = 0) → hkd h (hG h 550 l0) = 15 ∧ (((hF h 40 (hG h 550 l0)) = (hF h 42 l0)) → C g d m_J4_successor [.ref (hG h 548 l0)] h (oR (fun v6 h5 => ∀ h8, h8 = setG 548 l0 v6 h5 → ∀ h9, h9 = setG 549 l0 (hG h 548 l0) h8 → Q (.inl (some (.ref (hG h 548 l0)))) h9) (fun r hx => Q (.inr r) hx))) ∧ ((¬ (hF h 40 (hG h 550 l0)) = (hF h 42 l0)) → False)) ∧ (((hG h 548 l0) = 0) → 5 ≤ d ∧ Q (.inr (hnx h)) (hnew 34 0 7 h))
theorem v_J31_nextEntry_k20_0 {g : PG} {d : Nat} {l0 : Nat} {h : PH} {Q : Out → PH → Prop} (H : w_J31_nextEntry_k20_0 g d l0 h Q) : R g d m_J31_nextEntry 0 [.ref l0, .null] [] h Q := by
  refine r_aload_n dJ31_nextEntry_0 rfl rfl ?_
  obtain ⟨k1, H⟩ := H
  refine r_getG fr_J31_26_20 (by decide) dJ31_nextEntry_1 k1 (by decide) ?_
  refine r_astore_n dJ31_nextEntry_4 rfl (Nat.le_of_ble_eq_true rfl) rfl (slS sl0) ?_
  refine r_aload_n dJ31_nextEntry_5 rfl rfl ?_
  refine r_ifnonnull (tgt := 17) dJ31_nextEntry_6 rfl (fun b2 => ?_) (fun b2 => ?_)
  · replace H := H.1 b2
    refine r_aload_n dJ31_nextEntry_17 rfl rfl ?_
    refine r_getG fr_J31_1_20 (by decide) dJ31_nextEntry_18 k1 (by decide) ?_
    obtain ⟨k3, H⟩ := H
    refine r_getF fr_J31_13_15 (by decide) dJ31_nextEntry_21 k3 (by decide) ?_
    refine r_aload_n dJ31_nextEntry_24 rfl rfl ?_
    refine r_getF fr_J31_19_20 (by decide) dJ31_nextEntry_25 k1 (by decide) ?_
    refine r_icmp_eq (tgt := 39) dJ31_nextEntry_28 rfl (fun b4 => ?_) (fun b4 => ?_)
    · replace H := H.1 b4
      refine r_aload_n dJ31_nextEntry_39 rfl rfl ?_
      refine r_aload_n dJ31_nextEntry_40 rfl rfl ?_
      refine r_invS (y := m_J4_successor) dJ31_nextEntry_41 rfl (lw_S q1230 q1231 q113 q1232) py_J4_successor (Nat.le_of_ble_eq_true rfl) (args := [_]) rfl rfl (Nat.le_of_ble_eq_true rfl) (C.monoE H (fun o h5 _ x7 K => cont_R K (fun v6 H => ?_) (fun r HX => XR_nc rfl HX)))
      replace H := H _ rfl
      refine r_putG fw_J31_26_20 (by decide) dJ31_nextEntry_44 (x7.kd k1 (by decide)) (by decide) rfl ?_
      refine r_aload_n dJ31_nextEntry_47 rfl rfl ?_
      refine r_aload_n dJ31_nextEntry_48 rfl rfl ?_
      replace H := H _ rfl
      refine r_putG fw_J31_22_20 (by decide) dJ31_nextEntry_49 (x7.kd k1 (by decide)) (by decide) rfl ?_
      refine r_aload_n dJ31_nextEntry_52 rfl rfl ?_
      exact r_aret dJ31_nextEntry_53 rfl H
    · replace H := H.2 b4
      exact H.elim
  · replace H := H.2 b2
    exact r_throw0 (kE := 34) (names := ["java/lang/RuntimeException", "java/lang/Exception"]) (by decide) dJ31_nextEntry_9 dJ31_nextEntry_12 dJ31_nextEntry_13 dJ31_nextEntry_16 (by decide +kernel) (by decide +kernel) tw_J31_29_31 rfl H.1 (Nat.le_of_ble_eq_true rfl) H.2
theorem c_J31_nextEntry_k20_0 {g : PG} {d : Nat} {l0 : Nat} {h : PH} {Q : Out → PH → Prop} (H : w_J31_nextEntry_k20_0 g d l0 h Q) : C g (d + 1) m_J31_nextEntry [.ref l0] h Q := C_of_R rfl rfl (Nat.le_of_ble_eq_true rfl) rfl (v_J31_nextEntry_k20_0 H)
abbrev w_J31_nextEntry_k21_0 (g : PG) (d : Nat) (l0 : Nat) (h : PH) (Q : Out → PH → Prop) : Prop := hkd h l0 = 21 ∧ ((¬ (hG h 548 l0) = 0) → hkd h (hG h 550 l0) = 15 ∧ (((hF h 40 (hG h 550 l0)) = (hF h 42 l0)) → C g d m_J4_successor [.ref (hG h 548 l0)] h (oR (fun v6 h5 => ∀ h8, h8 = setG 548 l0 v6 h5 → ∀ h9, h9 = setG 549 l0 (hG h 548 l0) h8 → Q (.inl (some (.ref (hG h 548 l0)))) h9) (fun r hx => Q (.inr r) hx))) ∧ ((¬ (hF h 40 (hG h 550 l0)) = (hF h 42 l0)) → False)) ∧ (((hG h 548 l0) = 0) → 5 ≤ d ∧ Q (.inr (hnx h)) (hnew 34 0 7 h))
theorem v_J31_nextEntry_k21_0 {g : PG} {d : Nat} {l0 : Nat} {h : PH} {Q : Out → PH → Prop} (H : w_J31_nextEntry_k21_0 g d l0 h Q) : R g d m_J31_nextEntry 0 [.ref l0, .null] [] h Q := by
  refine r_aload_n dJ31_nextEntry_0 rfl rfl ?_
  obtain ⟨k1, H⟩ := H
  refine r_getG fr_J31_26_21 (by decide) dJ31_nextEntry_1 k1 (by decide) ?_
  refine r_astore_n dJ31_nextEntry_4 rfl (Nat.le_of_ble_eq_true rfl) rfl (slS sl0) ?_
  refine r_aload_n dJ31_nextEntry_5 rfl rfl ?_
  refine r_ifnonnull (tgt := 17) dJ31_nextEntry_6 rfl (fun b2 => ?_) (fun b2 => ?_)
  · replace H := H.1 b2
    refine r_aload_n dJ31_nextEntry_17 rfl rfl ?_
    refine r_getG fr_J31_1_21 (by decide) dJ31_nextEntry_18 k1 (by decide) ?_
    obtain ⟨k3, H⟩ := H
    refine r_getF fr_J31_13_15 (by decide) dJ31_nextEntry_21 k3 (by decide) ?_
    refine r_aload_n dJ31_nextEntry_24 rfl rfl ?_
    refine r_getF fr_J31_19_21 (by decide) dJ31_nextEntry_25 k1 (by decide) ?_
    refine r_icmp_eq (tgt := 39) dJ31_nextEntry_28 rfl (fun b4 => ?_) (fun b4 => ?_)
    · replace H := H.1 b4
      refine r_aload_n dJ31_nextEntry_39 rfl rfl ?_
      refine r_aload_n dJ31_nextEntry_40 rfl rfl ?_
      refine r_invS (y := m_J4_successor) dJ31_nextEntry_41 rfl (lw_S q1230 q1231 q113 q1232) py_J4_successor (Nat.le_of_ble_eq_true rfl) (args := [_]) rfl rfl (Nat.le_of_ble_eq_true rfl) (C.monoE H (fun o h5 _ x7 K => cont_R K (fun v6 H => ?_) (fun r HX => XR_nc rfl HX)))
      replace H := H _ rfl
      refine r_putG fw_J31_26_21 (by decide) dJ31_nextEntry_44 (x7.kd k1 (by decide)) (by decide) rfl ?_
      refine r_aload_n dJ31_nextEntry_47 rfl rfl ?_
      refine r_aload_n dJ31_nextEntry_48 rfl rfl ?_
      replace H := H _ rfl
      refine r_putG fw_J31_22_21 (by decide) dJ31_nextEntry_49 (x7.kd k1 (by decide)) (by decide) rfl ?_
      refine r_aload_n dJ31_nextEntry_52 rfl rfl ?_
      exact r_aret dJ31_nextEntry_53 rfl H
    · replace H := H.2 b4
      exact H.elim
  · replace H := H.2 b2
    exact r_throw0 (kE := 34) (names := ["java/lang/RuntimeException", "java/lang/Exception"]) (by decide) dJ31_nextEntry_9 dJ31_nextEntry_12 dJ31_nextEntry_13 dJ31_nextEntry_16 (by decide +kernel) (by decide +kernel) tw_J31_29_31 rfl H.1 (Nat.le_of_ble_eq_true rfl) H.2
theorem c_J31_nextEntry_k21_0 {g : PG} {d : Nat} {l0 : Nat} {h : PH} {Q : Out → PH → Prop} (H : w_J31_nextEntry_k21_0 g d l0 h Q) : C g (d + 1) m_J31_nextEntry [.ref l0] h Q := C_of_R rfl rfl (Nat.le_of_ble_eq_true rfl) rfl (v_J31_nextEntry_k21_0 H)
abbrev w_J31_nextEntry_k22_0 (g : PG) (d : Nat) (l0 : Nat) (h : PH) (Q : Out → PH → Prop) : Prop := hkd h l0 = 22 ∧ ((¬ (hG h 548 l0) = 0) → hkd h (hG h 550 l0) = 15 ∧ (((hF h 40 (hG h 550 l0)) = (hF h 42 l0)) → C g d m_J4_successor [.ref (hG h 548 l0)] h (oR (fun v6 h5 => ∀ h8, h8 = setG 548 l0 v6 h5 → ∀ h9, h9 = setG 549 l0 (hG h 548 l0) h8 → Q (.inl (some (.ref (hG h 548 l0)))) h9) (fun r hx => Q (.inr r) hx))) ∧ ((¬ (hF h 40 (hG h 550 l0)) = (hF h 42 l0)) → False)) ∧ (((hG h 548 l0) = 0) → 5 ≤ d ∧ Q (.inr (hnx h)) (hnew 34 0 7 h))
theorem v_J31_nextEntry_k22_0 {g : PG} {d : Nat} {l0 : Nat} {h : PH} {Q : Out → PH → Prop} (H : w_J31_nextEntry_k22_0 g d l0 h Q) : R g d m_J31_nextEntry 0 [.ref l0, .null] [] h Q := by
  refine r_aload_n dJ31_nextEntry_0 rfl rfl ?_
  obtain ⟨k1, H⟩ := H
  refine r_getG fr_J31_26_22 (by decide) dJ31_nextEntry_1 k1 (by decide) ?_
  refine r_astore_n dJ31_nextEntry_4 rfl (Nat.le_of_ble_eq_true rfl) rfl (slS sl0) ?_
  refine r_aload_n dJ31_nextEntry_5 rfl rfl ?_
  refine r_ifnonnull (tgt := 17) dJ31_nextEntry_6 rfl (fun b2 => ?_) (fun b2 => ?_)
  · replace H := H.1 b2
    refine r_aload_n dJ31_nextEntry_17 rfl rfl ?_
    refine r_getG fr_J31_1_22 (by decide) dJ31_nextEntry_18 k1 (by decide) ?_
    obtain ⟨k3, H⟩ := H
    refine r_getF fr_J31_13_15 (by decide) dJ31_nextEntry_21 k3 (by decide) ?_
    refine r_aload_n dJ31_nextEntry_24 rfl rfl ?_
    refine r_getF fr_J31_19_22 (by decide) dJ31_nextEntry_25 k1 (by decide) ?_
    refine r_icmp_eq (tgt := 39) dJ31_nextEntry_28 rfl (fun b4 => ?_) (fun b4 => ?_)
    · replace H := H.1 b4
      refine r_aload_n dJ31_nextEntry_39 rfl rfl ?_
      refine r_aload_n dJ31_nextEntry_40 rfl rfl ?_
      refine r_invS (y := m_J4_successor) dJ31_nextEntry_41 rfl (lw_S q1230 q1231 q113 q1232) py_J4_successor (Nat.le_of_ble_eq_true rfl) (args := [_]) rfl rfl (Nat.le_of_ble_eq_true rfl) (C.monoE H (fun o h5 _ x7 K => cont_R K (fun v6 H => ?_) (fun r HX => XR_nc rfl HX)))
      replace H := H _ rfl
      refine r_putG fw_J31_26_22 (by decide) dJ31_nextEntry_44 (x7.kd k1 (by decide)) (by decide) rfl ?_
      refine r_aload_n dJ31_nextEntry_47 rfl rfl ?_
      refine r_aload_n dJ31_nextEntry_48 rfl rfl ?_
      replace H := H _ rfl
      refine r_putG fw_J31_22_22 (by decide) dJ31_nextEntry_49 (x7.kd k1 (by decide)) (by decide) rfl ?_
      refine r_aload_n dJ31_nextEntry_52 rfl rfl ?_
      exact r_aret dJ31_nextEntry_53 rfl H
    · replace H := H.2 b4
      exact H.elim
  · replace H := H.2 b2
    exact r_throw0 (kE := 34) (names := ["java/lang/RuntimeException", "java/lang/Exception"]) (by decide) dJ31_nextEntry_9 dJ31_nextEntry_12 dJ31_nextEntry_13 dJ31_nextEntry_16 (by decide +kernel) (by decide +kernel) tw_J31_29_31 rfl H.1 (Nat.le_of_ble_eq_true rfl) H.2
theorem c_J31_nextEntry_k22_0 {g : PG} {d : Nat} {l0 : Nat} {h : PH} {Q : Out → PH → Prop} (H : w_J31_nextEntry_k22_0 g d l0 h Q) : C g (d + 1) m_J31_nextEntry [.ref l0] h Q := C_of_R rfl rfl (Nat.le_of_ble_eq_true rfl) rfl (v_J31_nextEntry_k22_0 H)
abbrev w_J32_init_0 (g : PG) (d : Nat) (l0 : Nat) (l1 : Nat) (l2 : Nat) (h : PH) (Q : Out → PH → Prop) : Prop := 0 < l0 ∧ C g d m_J31_init [.ref l0, .ref l1, .ref l2] h (oV (fun h2 => Q (.inl none) h2) (fun r hx => Q (.inr r) hx))
theorem v_J32_init_0 {g : PG} {d : Nat} {l0 : Nat} {l1 : Nat} {l2 : Nat} {h : PH} {Q : Out → PH → Prop} (H : w_J32_init_0 g d l0 l1 l2 h Q) : R g d m_J32_init 0 [.ref l0, .ref l1, .ref l2] [] h Q := by
  refine r_aload_n dJ32_init_0 rfl rfl ?_
  refine r_aload_n dJ32_init_1 rfl rfl ?_
  refine r_aload_n dJ32_init_2 rfl rfl ?_
  obtain ⟨k1, H⟩ := H
  refine r_invI (y := m_J31_init) dJ32_init_3 rfl rfl q857 q145 q855 q856 rfl py_J31_init (Nat.le_of_ble_eq_true rfl) (args := [_, _]) rfl rfl (Nat.le_of_ble_eq_true rfl) k1 (C.monoE H (fun o h2 _ x4 K => cont_V K (fun H => ?_) (fun r HX => XR_nc rfl HX)))
  exact r_vret dJ32_init_6 rfl H
theorem c_J32_init_0 {g : PG} {d : Nat} {l0 : Nat} {l1 : Nat} {l2 : Nat} {h : PH} {Q : Out → PH → Prop} (H : w_J32_init_0 g d l0 l1 l2 h Q) : C g (d + 1) m_J32_init [.ref l0, .ref l1, .ref l2] h Q := C_of_R rfl rfl (Nat.le_of_ble_eq_true rfl) rfl (v_J32_init_0 H)
abbrev w_J32_next_0 (g : PG) (d : Nat) (l0 : Nat) (h : PH) (Q : Out → PH → Prop) : Prop := hkd h l0 = 20 ∧ C g d m_J32_next_2 [.ref l0] h (oR (fun v3 h2 => Q (.inl (some (.ref v3))) h2) (fun r hx => Q (.inr r) hx))
theorem v_J32_next_0 {g : PG} {d : Nat} {l0 : Nat} {h : PH} {Q : Out → PH → Prop} (H : w_J32_next_0 g d l0 h Q) : R g d m_J32_next 0 [.ref l0] [] h Q := by
  refine r_aload_n dJ32_next_0 rfl rfl ?_
  obtain ⟨k1, H⟩ := H
  refine r_invV (y := m_J32_next_2) dJ32_next_1 rfl (lw_V q1218 q1219 q1220 q146 q1221) py_J32_next_2 (Nat.le_of_ble_eq_true rfl) (args := []) rfl rfl (Nat.le_of_ble_eq_true rfl) k1 (by decide) rfl (C.monoE H (fun o h2 _ x4 K => cont_R K (fun v3 H => ?_) (fun r HX => XR_nc rfl HX)))
  exact r_aret dJ32_next_4 rfl H
theorem c_J32_next_0 {g : PG} {d : Nat} {l0 : Nat} {h : PH} {Q : Out → PH → Prop} (H : w_J32_next_0 g d l0 h Q) : C g (d + 1) m_J32_next [.ref l0] h Q := C_of_R rfl rfl (Nat.le_of_ble_eq_true rfl) rfl (v_J32_next_0 H)
abbrev w_J32_next_2_0 (g : PG) (d : Nat) (l0 : Nat) (h : PH) (Q : Out → PH → Prop) : Prop := hkd h l0 = 20 ∧ C g d m_J31_nextEntry [.ref l0] h (oR (fun v3 h2 => Q (.inl (some (.ref v3))) h2) (fun r hx => Q (.inr r) hx))
theorem v_J32_next_2_0 {g : PG} {d : Nat} {l0 : Nat} {h : PH} {Q : Out → PH → Prop} (H : w_J32_next_2_0 g d l0 h Q) : R g d m_J32_next_2 0 [.ref l0] [] h Q := by
  refine r_aload_n dJ32_next_2_0 rfl rfl ?_
  obtain ⟨k1, H⟩ := H
  refine r_invU (y := m_J31_nextEntry) (owner := "java/util/TreeMap$PrivateEntryIterator") (Cn := "java/util/TreeMap$EntryIterator") (x := ⟨"java/util/TreeMap$EntryIterator", "nextEntry", "()Ljava/util/TreeMap$Entry;"⟩) dJ32_next_2_1 (n := 0) ⟨rfl, by decide +kernel, by decide, by decide, Or.inl ⟨lw_U q1222 q1223 q1225 q1226 q145 q1227, Or.inl rfl⟩⟩ (Nat.le_of_ble_eq_true rfl) (args := []) rfl rfl (Nat.le_of_ble_eq_true rfl) k1 (by decide) rfl (C.monoE H (fun o h2 _ x4 K => cont_R K (fun v3 H => ?_) (fun r HX => XR_nc rfl HX)))
  exact r_aret dJ32_next_2_4 rfl H
theorem c_J32_next_2_0 {g : PG} {d : Nat} {l0 : Nat} {h : PH} {Q : Out → PH → Prop} (H : w_J32_next_2_0 g d l0 h Q) : C g (d + 1) m_J32_next_2 [.ref l0] h Q := C_of_R rfl rfl (Nat.le_of_ble_eq_true rfl) rfl (v_J32_next_2_0 H)
abbrev w_J33_init_0 (g : PG) (d : Nat) (l0 : Nat) (l1 : Nat) (l2 : Nat) (h : PH) (Q : Out → PH → Prop) : Prop := 0 < l0 ∧ C g d m_J31_init [.ref l0, .ref l1, .ref l2] h (oV (fun h2 => Q (.inl none) h2) (fun r hx => Q (.inr r) hx))
theorem v_J33_init_0 {g : PG} {d : Nat} {l0 : Nat} {l1 : Nat} {l2 : Nat} {h : PH} {Q : Out → PH → Prop} (H : w_J33_init_0 g d l0 l1 l2 h Q) : R g d m_J33_init 0 [.ref l0, .ref l1, .ref l2] [] h Q := by
  refine r_aload_n dJ33_init_0 rfl rfl ?_
  refine r_aload_n dJ33_init_1 rfl rfl ?_
  refine r_aload_n dJ33_init_2 rfl rfl ?_
  obtain ⟨k1, H⟩ := H
  refine r_invI (y := m_J31_init) dJ33_init_3 rfl rfl q857 q145 q889 q856 rfl py_J31_init (Nat.le_of_ble_eq_true rfl) (args := [_, _]) rfl rfl (Nat.le_of_ble_eq_true rfl) k1 (C.monoE H (fun o h2 _ x4 K => cont_V K (fun H => ?_) (fun r HX => XR_nc rfl HX)))
  exact r_vret dJ33_init_6 rfl H
theorem c_J33_init_0 {g : PG} {d : Nat} {l0 : Nat} {l1 : Nat} {l2 : Nat} {h : PH} {Q : Out → PH → Prop} (H : w_J33_init_0 g d l0 l1 l2 h Q) : C g (d + 1) m_J33_init [.ref l0, .ref l1, .ref l2] h Q := C_of_R rfl rfl (Nat.le_of_ble_eq_true rfl) rfl (v_J33_init_0 H)
abbrev w_J33_next_0 (g : PG) (d : Nat) (l0 : Nat) (h : PH) (Q : Out → PH → Prop) : Prop := hkd h l0 = 21 ∧ C g d m_J31_nextEntry [.ref l0] h (oR (fun v3 h2 => hkd h2 v3 = 16 ∧ Q (.inl (some (.ref (hG h2 540 v3)))) h2) (fun r hx => Q (.inr r) hx))
theorem v_J33_next_0 {g : PG} {d : Nat} {l0 : Nat} {h : PH} {Q : Out → PH → Prop} (H : w_J33_next_0 g d l0 h Q) : R g d m_J33_next 0 [.ref l0] [] h Q := by
  refine r_aload_n dJ33_next_0 rfl rfl ?_
  obtain ⟨k1, H⟩ := H
  refine r_invU (y := m_J31_nextEntry) (owner := "java/util/TreeMap$PrivateEntryIterator") (Cn := "java/util/TreeMap$KeyIterator") (x := ⟨"java/util/TreeMap$KeyIterator", "nextEntry", "()Ljava/util/TreeMap$Entry;"⟩) dJ33_next_1 (n := 0) ⟨rfl, by decide +kernel, by decide, by decide, Or.inl ⟨lw_U q1238 q1239 q1240 q1226 q145 q1227, Or.inl rfl⟩⟩ (Nat.le_of_ble_eq_true rfl) (args := []) rfl rfl (Nat.le_of_ble_eq_true rfl) k1 (by decide) rfl (C.monoE H (fun o h2 _ x4 K => cont_R K (fun v3 H => ?_) (fun r HX => XR_nc rfl HX)))
  obtain ⟨k5, H⟩ := H
  refine r_getG fr_J33_13_16 (by decide) dJ33_next_4 k5 (by decide) ?_
  exact r_aret dJ33_next_7 rfl H
theorem c_J33_next_0 {g : PG} {d : Nat} {l0 : Nat} {h : PH} {Q : Out → PH → Prop} (H : w_J33_next_0 g d l0 h Q) : C g (d + 1) m_J33_next [.ref l0] h Q := C_of_R rfl rfl (Nat.le_of_ble_eq_true rfl) rfl (v_J33_next_0 H)
abbrev w_J34_init_0 (g : PG) (d : Nat) (l0 : Nat) (l1 : Nat) (l2 : Nat) (l3 : Nat) (h : PH) (Q : Out → PH → Prop) : Prop := 0 < l0 ∧ hkd h l0 = 16 ∧ ∀ h3, h3 = setF 41 l0 (1 : Int32) h → ∀ h4, h4 = setG 540 l0 l1 h3 → ∀ h5, h5 = setG 541 l0 l2 h4 → ∀ h6, h6 = setG 544 l0 l3 h5 → Q (.inl none) h6
theorem v_J34_init_0 {g : PG} {d : Nat} {l0 : Nat} {l1 : Nat} {l2 : Nat} {l3 : Nat} {h : PH} {Q : Out → PH → Prop} (H : w_J34_init_0 g d l0 l1 l2 l3 h Q) : R g d m_J34_init 0 [.ref l0, .ref l1, .ref l2, .ref l3] [] h Q := by
  refine r_aload_n dJ34_init_0 rfl rfl ?_
  obtain ⟨k1, H⟩ := H
  refine r_oinit dJ34_init_1 q1694 q182 q183 k1 (Nat.le_of_ble_eq_true rfl) ?_
  refine r_aload_n dJ34_init_4 rfl rfl ?_
  refine r_iconst dJ34_init_5 rfl ?_
  obtain ⟨k2, H⟩ := H
  replace H := H _ rfl
  refine r_putF fw_J34_9_16_i (by decide) dJ34_init_6 k2 (by decide) rfl rfl ?_
  refine r_aload_n dJ34_init_9 rfl rfl ?_
  refine r_aload_n dJ34_init_10 rfl rfl ?_
  replace H := H _ rfl
  refine r_putG fw_J34_15_16_i (by decide) dJ34_init_11 k2 (by decide) rfl ?_
  refine r_aload_n dJ34_init_14 rfl rfl ?_
  refine r_aload_n dJ34_init_15 rfl rfl ?_
  replace H := H _ rfl
  refine r_putG fw_J34_19_16_i (by decide) dJ34_init_16 k2 (by decide) rfl ?_
  refine r_aload_n dJ34_init_19 rfl rfl ?_
  refine r_aload_n dJ34_init_20 rfl rfl ?_
  replace H := H _ rfl
  refine r_putG fw_J34_22_16_i (by decide) dJ34_init_21 k2 (by decide) rfl ?_
  exact r_vret dJ34_init_24 rfl H
theorem c_J34_init_0 {g : PG} {d : Nat} {l0 : Nat} {l1 : Nat} {l2 : Nat} {l3 : Nat} {h : PH} {Q : Out → PH → Prop} (H : w_J34_init_0 g d l0 l1 l2 l3 h Q) : C g (d + 1) m_J34_init [.ref l0, .ref l1, .ref l2, .ref l3] h Q := C_of_R rfl rfl (Nat.le_of_ble_eq_true rfl) rfl (v_J34_init_0 H)
abbrev w_J34_getKey_0 (g : PG) (d : Nat) (l0 : Nat) (h : PH) (Q : Out → PH → Prop) : Prop := hkd h l0 = 16 ∧ Q (.inl (some (.ref (hG h 540 l0)))) h
theorem v_J34_getKey_0 {g : PG} {d : Nat} {l0 : Nat} {h : PH} {Q : Out → PH → Prop} (H : w_J34_getKey_0 g d l0 h Q) : R g d m_J34_getKey 0 [.ref l0] [] h Q := by
  refine r_aload_n dJ34_getKey_0 rfl rfl ?_
  obtain ⟨k1, H⟩ := H
  refine r_getG fr_J34_15_16 (by decide) dJ34_getKey_1 k1 (by decide) ?_
  exact r_aret dJ34_getKey_4 rfl H
theorem c_J34_getKey_0 {g : PG} {d : Nat} {l0 : Nat} {h : PH} {Q : Out → PH → Prop} (H : w_J34_getKey_0 g d l0 h Q) : C g (d + 1) m_J34_getKey [.ref l0] h Q := C_of_R rfl rfl (Nat.le_of_ble_eq_true rfl) rfl (v_J34_getKey_0 H)
abbrev w_J34_getValue_0 (g : PG) (d : Nat) (l0 : Nat) (h : PH) (Q : Out → PH → Prop) : Prop := hkd h l0 = 16 ∧ Q (.inl (some (.ref (hG h 541 l0)))) h
theorem v_J34_getValue_0 {g : PG} {d : Nat} {l0 : Nat} {h : PH} {Q : Out → PH → Prop} (H : w_J34_getValue_0 g d l0 h Q) : R g d m_J34_getValue 0 [.ref l0] [] h Q := by
  refine r_aload_n dJ34_getValue_0 rfl rfl ?_
  obtain ⟨k1, H⟩ := H
  refine r_getG fr_J34_19_16 (by decide) dJ34_getValue_1 k1 (by decide) ?_
  exact r_aret dJ34_getValue_4 rfl H
theorem c_J34_getValue_0 {g : PG} {d : Nat} {l0 : Nat} {h : PH} {Q : Out → PH → Prop} (H : w_J34_getValue_0 g d l0 h Q) : C g (d + 1) m_J34_getValue [.ref l0] h Q := C_of_R rfl rfl (Nat.le_of_ble_eq_true rfl) rfl (v_J34_getValue_0 H)
abbrev w_J4_init_0 (g : PG) (d : Nat) (l0 : Nat) (h : PH) (Q : Out → PH → Prop) : Prop := 0 < l0 ∧ C g d m_J3_init [.ref l0] h (oV (fun h2 => hkd h2 l0 = 15 ∧ ∀ h6, h6 = setF 39 l0 (0 : Int32) h2 → ∀ h7, h7 = setF 40 l0 (0 : Int32) h6 → ∀ h8, h8 = setG 535 l0 (0 : Nat) h7 → Q (.inl none) h8) (fun r hx => Q (.inr r) hx))
theorem v_J4_init_0 {g : PG} {d : Nat} {l0 : Nat} {h : PH} {Q : Out → PH → Prop} (H : w_J4_init_0 g d l0 h Q) : R g d m_J4_init 0 [.ref l0] [] h Q := by
  refine r_aload_n dJ4_init_0 rfl rfl ?_
  obtain ⟨k1, H⟩ := H
  refine r_invI (y := m_J3_init) dJ4_init_1 rfl rfl q232 q112 q230 q231 rfl py_J3_init (Nat.le_of_ble_eq_true rfl) (args := []) rfl rfl (Nat.le_of_ble_eq_true rfl) k1 (C.monoE H (fun o h2 _ x4 K => cont_V K (fun H => ?_) (fun r HX => XR_nc rfl HX)))
  refine r_aload_n dJ4_init_4 rfl rfl ?_
  refine r_iconst dJ4_init_5 rfl ?_
  obtain ⟨k5, H⟩ := H
  replace H := H _ rfl
  refine r_putF fw_J4_7_15_i (by decide) dJ4_init_6 k5 (by decide) rfl rfl ?_
  refine r_aload_n dJ4_init_9 rfl rfl ?_
  refine r_iconst dJ4_init_10 rfl ?_
  replace H := H _ rfl
  refine r_putF fw_J4_13_15_i (by decide) dJ4_init_11 k5 (by decide) rfl rfl ?_
  refine r_aload_n dJ4_init_14 rfl rfl ?_
  refine r_null dJ4_init_15 ?_
  replace H := H _ rfl
  refine r_putG fw_J4_16_15_i (by decide) dJ4_init_16 k5 (by decide) rfl ?_
  exact r_vret dJ4_init_19 rfl H
theorem c_J4_init_0 {g : PG} {d : Nat} {l0 : Nat} {h : PH} {Q : Out → PH → Prop} (H : w_J4_init_0 g d l0 h Q) : C g (d + 1) m_J4_init [.ref l0] h Q := C_of_R rfl rfl (Nat.le_of_ble_eq_true rfl) rfl (v_J4_init_0 H)
abbrev w_J4_keySet_0 (g : PG) (d : Nat) (l0 : Nat) (h : PH) (Q : Out → PH → Prop) : Prop := hkd h l0 = 15 ∧ C g d m_J4_navigableKeySet [.ref l0] h (oR (fun v3 h2 => Q (.inl (some (.ref v3))) h2) (fun r hx => Q (.inr r) hx))
theorem v_J4_keySet_0 {g : PG} {d : Nat} {l0 : Nat} {h : PH} {Q : Out → PH → Prop} (H : w_J4_keySet_0 g d l0 h Q) : R g d m_J4_keySet 0 [.ref l0] [] h Q := by
  refine r_aload_n dJ4_keySet_0 rfl rfl ?_
  obtain ⟨k1, H⟩ := H
  refine r_invV (y := m_J4_navigableKeySet) dJ4_keySet_1 rfl (lw_V q819 q820 q821 q113 q822) py_J4_navigableKeySet (Nat.le_of_ble_eq_true rfl) (args := []) rfl rfl (Nat.le_of_ble_eq_true rfl) k1 (by decide) rfl (C.monoE H (fun o h2 _ x4 K => cont_R K (fun v3 H => ?_) (fun r HX => XR_nc rfl HX)))
  exact r_aret dJ4_keySet_4 rfl H
theorem c_J4_keySet_0 {g : PG} {d : Nat} {l0 : Nat} {h : PH} {Q : Out → PH → Prop} (H : w_J4_keySet_0 g d l0 h Q) : C g (d + 1) m_J4_keySet [.ref l0] h Q := C_of_R rfl rfl (Nat.le_of_ble_eq_true rfl) rfl (v_J4_keySet_0 H)
abbrev w_J4_navigableKeySet_0 (g : PG) (d : Nat) (l0 : Nat) (h : PH) (Q : Out → PH → Prop) : Prop := hkd h l0 = 15 ∧ (((hG h 538 l0) = 0) → ∀ h3, h3 = hnew 18 0 2 h → 0 < (hnx h) ∧ C g d m_J46_init [.ref (hnx h), .ref l0] h3 (oV (fun h5 => hkd h5 l0 = 15 ∧ ∀ h9, h9 = setG 538 l0 (hnx h) h5 → Q (.inl (some (.ref (hnx h)))) h9) (fun r hx => Q (.inr r) hx))) ∧ ((¬ (hG h 538 l0) = 0) → Q (.inl (some (.ref (hG h 538 l0)))) h)
theorem v_J4_navigableKeySet_0 {g : PG} {d : Nat} {l0 : Nat} {h : PH} {Q : Out → PH → Prop} (H : w_J4_navigableKeySet_0 g d l0 h Q) : R g d m_J4_navigableKeySet 0 [.ref l0, .null] [] h Q := by
  refine r_aload_n dJ4_navigableKeySet_0 rfl rfl ?_
  obtain ⟨k1, H⟩ := H
  refine r_getG fr_J4_191_15 (by decide) dJ4_navigableKeySet_1 k1 (by decide) ?_
  refine r_astore_n dJ4_navigableKeySet_4 rfl (Nat.le_of_ble_eq_true rfl) rfl (slS sl0) ?_
  refine r_aload_n dJ4_navigableKeySet_5 rfl rfl ?_
  refine r_ifnull (tgt := 13) dJ4_navigableKeySet_6 rfl (fun b2 => ?_) (fun b2 => ?_)
  · replace H := H.1 b2
    refine r_aload_n dJ4_navigableKeySet_13 rfl rfl ?_
    replace H := H _ rfl
    refine r_new (ci := 18) dJ4_navigableKeySet_14 rfl (by decide) q823 q824 q165 ?_
    refine r_dup dJ4_navigableKeySet_17 rfl ?_
    refine r_aload_n dJ4_navigableKeySet_18 rfl rfl ?_
    obtain ⟨k4, H⟩ := H
    refine r_invI (y := m_J46_init) dJ4_navigableKeySet_19 rfl rfl q827 q165 q825 q826 rfl py_J46_init (Nat.le_of_ble_eq_true rfl) (args := [_]) rfl rfl (Nat.le_of_ble_eq_true rfl) k4 (C.monoE H (fun o h5 _ x7 K => cont_V K (fun H => ?_) (fun r HX => XR_nc rfl HX)))
    refine r_dup_x1 dJ4_navigableKeySet_22 rfl rfl ?_
    obtain ⟨k8, H⟩ := H
    replace H := H _ rfl
    refine r_putG fw_J4_191_15 (by decide) dJ4_navigableKeySet_23 k8 (by decide) rfl ?_
    exact r_aret dJ4_navigableKeySet_26 rfl H
  · replace H := H.2 b2
    refine r_aload_n dJ4_navigableKeySet_9 rfl rfl ?_
    refine r_goto (tgt := 26) dJ4_navigableKeySet_10 rfl ?_
    exact r_aret dJ4_navigableKeySet_26 rfl H
theorem c_J4_navigableKeySet_0 {g : PG} {d : Nat} {l0 : Nat} {h : PH} {Q : Out → PH → Prop} (H : w_J4_navigableKeySet_0 g d l0 h Q) : C g (d + 1) m_J4_navigableKeySet [.ref l0] h Q := C_of_R rfl rfl (Nat.le_of_ble_eq_true rfl) rfl (v_J4_navigableKeySet_0 H)
abbrev w_J4_getFirstEntry_9 (g : PG) (d : Nat) (l1 : Nat) (h : PH) (Q : Out → PH → Prop) : Prop := hkd h l1 = 16 ∧ (((hG h 542 l1) = 0) → Q (.inl (some (.ref l1))) h) ∧ ((¬ (hG h 542 l1) = 0) → R g d m_J4_getFirstEntry 9 [.null, .ref (hG h 542 l1)] [] h Q)
theorem v_J4_getFirstEntry_9 {g : PG} {d : Nat} {l1 : Nat} {h : PH} {Q : Out → PH → Prop} (H : w_J4_getFirstEntry_9 g d l1 h Q) : R g d m_J4_getFirstEntry 9 [.null, .ref l1] [] h Q := by
  refine r_aload_n dJ4_getFirstEntry_9 rfl rfl ?_
  obtain ⟨k1, H⟩ := H
  refine r_getG fr_J4_111_16 (by decide) dJ4_getFirstEntry_10 k1 (by decide) ?_
  refine r_ifnull (tgt := 24) dJ4_getFirstEntry_13 rfl (fun b2 => ?_) (fun b2 => ?_)
  · replace H := H.1 b2
    refine r_aload_n dJ4_getFirstEntry_24 rfl rfl ?_
    exact r_aret dJ4_getFirstEntry_25 rfl H
  · replace H := H.2 b2
    refine r_aload_n dJ4_getFirstEntry_16 rfl rfl ?_
    refine r_getG fr_J4_111_16 (by decide) dJ4_getFirstEntry_17 k1 (by decide) ?_
    refine r_astore_n dJ4_getFirstEntry_20 rfl (Nat.le_of_ble_eq_true rfl) rfl (slS sl0) ?_
    refine r_goto (tgt := 9) dJ4_getFirstEntry_21 rfl ?_
    exact H
abbrev w_J4_getFirstEntry_0 (g : PG) (d : Nat) (l0 : Nat) (h : PH) (Q : Out → PH → Prop) : Prop := hkd h l0 = 15 ∧ (((hG h 536 l0) = 0) → Q (.inl (some (.ref (hG h 536 l0)))) h) ∧ ((¬ (hG h 536 l0) = 0) → R g d m_J4_getFirstEntry 9 [.null, .ref (hG h 536 l0)] [] h Q)
theorem v_J4_getFirstEntry_0 {g : PG} {d : Nat} {l0 : Nat} {h : PH} {Q : Out → PH → Prop} (H : w_J4_getFirstEntry_0 g d l0 h Q) : R g d m_J4_getFirstEntry 0 [.ref l0, .null] [] h Q := by
  refine r_aload_n dJ4_getFirstEntry_0 rfl rfl ?_
  obtain ⟨k1, H⟩ := H
  refine r_getG fr_J4_101_15 (by decide) dJ4_getFirstEntry_1 k1 (by decide) ?_
  refine r_astore_n dJ4_getFirstEntry_4 rfl (Nat.le_of_ble_eq_true rfl) rfl (slS sl0) ?_
  refine r_aload_n dJ4_getFirstEntry_5 rfl rfl ?_
  refine r_ifnull (tgt := 24) dJ4_getFirstEntry_6 rfl (fun b2 => ?_) (fun b2 => ?_)
  · replace H := H.1 b2
    refine r_aload_n dJ4_getFirstEntry_24 rfl rfl ?_
    exact r_aret dJ4_getFirstEntry_25 rfl H
  · replace H := H.2 b2
    exact R.forget H ⟨Or.inr rfl, ⟨Or.inl rfl, trivial⟩⟩
theorem c_J4_getFirstEntry_0 {g : PG} {d : Nat} {l0 : Nat} {h : PH} {Q : Out → PH → Prop} (H : w_J4_getFirstEntry_0 g d l0 h Q) : C g (d + 1) m_J4_getFirstEntry [.ref l0] h Q := C_of_R rfl rfl (Nat.le_of_ble_eq_true rfl) rfl (v_J4_getFirstEntry_0 H)
abbrev w_J4_keyIterator_0 (g : PG) (d : Nat) (l0 : Nat) (h : PH) (Q : Out → PH → Prop) : Prop := ∀ h1, h1 = hnew 21 0 5 h → hkd h1 l0 = 15 ∧ C g d m_J4_getFirstEntry [.ref l0] h1 (oR (fun v4 h3 => 0 < (hnx h) ∧ C g d m_J33_init [.ref (hnx h), .ref l0, .ref v4] h3 (oV (fun h7 => Q (.inl (some (.ref (hnx h)))) h7) (fun r hx => Q (.inr r) hx))) (fun r hx => Q (.inr r) hx))
theorem v_J4_keyIterator_0 {g : PG} {d : Nat} {l0 : Nat} {h : PH} {Q : Out → PH → Prop} (H : w_J4_keyIterator_0 g d l0 h Q) : R g d m_J4_keyIterator 0 [.ref l0] [] h Q := by
  replace H := H _ rfl
  refine r_new (ci := 21) dJ4_keyIterator_0 rfl (by decide) q883 q884 q147 ?_
  refine r_dup dJ4_keyIterator_3 rfl ?_
  refine r_aload_n dJ4_keyIterator_4 rfl rfl ?_
  refine r_aload_n dJ4_keyIterator_5 rfl rfl ?_
  obtain ⟨k2, H⟩ := H
  refine r_invV (y := m_J4_getFirstEntry) dJ4_keyIterator_6 rfl (lw_V q885 q849 q850 q113 q851) py_J4_getFirstEntry (Nat.le_of_ble_eq_true rfl) (args := []) rfl rfl (Nat.le_of_ble_eq_true rfl) k2 (by decide) rfl (C.monoE H (fun o h3 _ x5 K => cont_R K (fun v4 H => ?_) (fun r HX => XR_nc rfl HX)))
  obtain ⟨k6, H⟩ := H
  refine r_invI (y := m_J33_init) dJ4_keyIterator_9 rfl rfl q888 q147 q886 q887 rfl py_J33_init (Nat.le_of_ble_eq_true rfl) (args := [_, _]) rfl rfl (Nat.le_of_ble_eq_true rfl) k6 (C.monoE H (fun o h7 _ x9 K => cont_V K (fun H => ?_) (fun r HX => XR_nc rfl HX)))
  exact r_aret dJ4_keyIterator_12 rfl H
theorem c_J4_keyIterator_0 {g : PG} {d : Nat} {l0 : Nat} {h : PH} {Q : Out → PH → Prop} (H : w_J4_keyIterator_0 g d l0 h Q) : C g (d + 1) m_J4_keyIterator [.ref l0] h Q := C_of_R rfl rfl (Nat.le_of_ble_eq_true rfl) rfl (v_J4_keyIterator_0 H)
abbrev w_J4_successor_42 (g : PG) (d : Nat) (l1 : Nat) (l2 : Nat) (h : PH) (Q : Out → PH → Prop) : Prop := ((l1 = 0) → Q (.inl (some (.ref l1))) h) ∧ ((¬ l1 = 0) → hkd h l1 = 16 ∧ ((¬ l2 = (hG h 543 l1)) → Q (.inl (some (.ref l1))) h) ∧ ((l2 = (hG h 543 l1)) → R g d m_J4_successor 42 [.null, .ref (hG h 544 l1), .ref l1] [] h Q))
theorem v_J4_successor_42 {g : PG} {d : Nat} {l1 : Nat} {l2 : Nat} {h : PH} {Q : Out → PH → Prop} (H : w_J4_successor_42 g d l1 l2 h Q) : R g d m_J4_successor 42 [.null, .ref l1, .ref l2] [] h Q := by
  refine r_aload_n dJ4_successor_42 rfl rfl ?_
  refine r_ifnull (tgt := 64) dJ4_successor_43 rfl (fun b1 => ?_) (fun b1 => ?_)
  · replace H := H.1 b1
    refine r_aload_n dJ4_successor_64 rfl rfl ?_
    exact r_aret dJ4_successor_65 rfl H
  · replace H := H.2 b1
    refine r_aload_n dJ4_successor_46 rfl rfl ?_
    refine r_aload_n dJ4_successor_47 rfl rfl ?_
    obtain ⟨k2, H⟩ := H
    refine r_getG fr_J4_114_16 (by decide) dJ4_successor_48 k2 (by decide) ?_
    refine r_acmp_ne (tgt := 64) dJ4_successor_51 rfl (fun b3 => ?_) (fun b3 => ?_)
    · replace H := H.1 b3
      refine r_aload_n dJ4_successor_64 rfl rfl ?_
      exact r_aret dJ4_successor_65 rfl H
    · replace H := H.2 b3
      refine r_aload_n dJ4_successor_54 rfl rfl ?_
      refine r_astore_n dJ4_successor_55 rfl (Nat.le_of_ble_eq_true rfl) rfl (slS (slS sl0)) ?_
      refine r_aload_n dJ4_successor_56 rfl rfl ?_
      refine r_getG fr_J4_124_16 (by decide) dJ4_successor_57 k2 (by decide) ?_
      refine r_astore_n dJ4_successor_60 rfl (Nat.le_of_ble_eq_true rfl) rfl (slS sl0) ?_
      refine r_goto (tgt := 42) dJ4_successor_61 rfl ?_
      exact H
abbrev w_J4_successor_18 (g : PG) (d : Nat) (l1 : Nat) (h : PH) (Q : Out → PH → Prop) : Prop := hkd h l1 = 16 ∧ (((hG h 542 l1) = 0) → Q (.inl (some (.ref l1))) h) ∧ ((¬ (hG h 542 l1) = 0) → R g d m_J4_successor 18 [.null, .ref (hG h 542 l1), .null] [] h Q)
theorem v_J4_successor_18 {g : PG} {d : Nat} {l1 : Nat} {h : PH} {Q : Out → PH → Prop} (H : w_J4_successor_18 g d l1 h Q) : R g d m_J4_successor 18 [.null, .ref l1, .null] [] h Q := by
  refine r_aload_n dJ4_successor_18 rfl rfl ?_
  obtain ⟨k1, H⟩ := H
  refine r_getG fr_J4_111_16 (by decide) dJ4_successor_19 k1 (by decide) ?_
  refine r_ifnull (tgt := 33) dJ4_successor_22 rfl (fun b2 => ?_) (fun b2 => ?_)
  · replace H := H.1 b2
    refine r_aload_n dJ4_successor_33 rfl rfl ?_
    exact r_aret dJ4_successor_34 rfl H
  · replace H := H.2 b2
    refine r_aload_n dJ4_successor_25 rfl rfl ?_
    refine r_getG fr_J4_111_16 (by decide) dJ4_successor_26 k1 (by decide) ?_
    refine r_astore_n dJ4_successor_29 rfl (Nat.le_of_ble_eq_true rfl) rfl (slS sl0) ?_
    refine r_goto (tgt := 18) dJ4_successor_30 rfl ?_
    exact H
abbrev w_J4_successor_0 (g : PG) (d : Nat) (l0 : Nat) (h : PH) (Q : Out → PH → Prop) : Prop := ((¬ l0 = 0) → hkd h l0 = 16 ∧ (((hG h 543 l0) = 0) → R g d m_J4_successor 42 [.null, .ref (hG h 544 l0), .ref l0] [] h Q) ∧ ((¬ (hG h 543 l0) = 0) → R g d m_J4_successor 18 [.null, .ref (hG h 543 l0), .null] [] h Q)) ∧ ((l0 = 0) → Q (.inl (some (.ref (0 : Nat)))) h)
theorem v_J4_successor_0 {g : PG} {d : Nat} {l0 : Nat} {h : PH} {Q : Out → PH → Prop} (H : w_J4_successor_0 g d l0 h Q) : R g d m_J4_successor 0 [.ref l0, .null, .null] [] h Q := by
  refine r_aload_n dJ4_successor_0 rfl rfl ?_
  refine r_ifnonnull (tgt := 6) dJ4_successor_1 rfl (fun b1 => ?_) (fun b1 => ?_)
  · replace H := H.1 b1
    refine r_aload_n dJ4_successor_6 rfl rfl ?_
    obtain ⟨k2, H⟩ := H
    refine r_getG fr_J4_114_16 (by decide) dJ4_successor_7 k2 (by decide) ?_
    refine r_ifnull (tgt := 35) dJ4_successor_10 rfl (fun b3 => ?_) (fun b3 => ?_)
    · replace H := H.1 b3
      refine r_aload_n dJ4_successor_35 rfl rfl ?_
      refine r_getG fr_J4_124_16 (by decide) dJ4_successor_36 k2 (by decide) ?_
      refine r_astore_n dJ4_successor_39 rfl (Nat.le_of_ble_eq_true rfl) rfl (slS sl0) ?_
      refine r_aload_n dJ4_successor_40 rfl rfl ?_
      refine r_astore_n dJ4_successor_41 rfl (Nat.le_of_ble_eq_true rfl) rfl (slS (slS sl0)) ?_
      exact R.forget H ⟨Or.inr rfl, ⟨Or.inl rfl, ⟨Or.inl rfl, trivial⟩⟩⟩
    · replace H := H.2 b3
      refine r_aload_n dJ4_successor_13 rfl rfl ?_
      refine r_getG fr_J4_114_16 (by decide) dJ4_successor_14 k2 (by decide) ?_
      refine r_astore_n dJ4_successor_17 rfl (Nat.le_of_ble_eq_true rfl) rfl (slS sl0) ?_
      exact R.forget H ⟨Or.inr rfl, ⟨Or.inl rfl, ⟨Or.inl rfl, trivial⟩⟩⟩
  · replace H := H.2 b1
    refine r_null dJ4_successor_4 ?_
    exact r_aret dJ4_successor_5 rfl H
theorem c_J4_successor_0 {g : PG} {d : Nat} {l0 : Nat} {h : PH} {Q : Out → PH → Prop} (H : w_J4_successor_0 g d l0 h Q) : C g (d + 1) m_J4_successor [.ref l0] h Q := C_of_R rfl rfl (Nat.le_of_ble_eq_true rfl) rfl (v_J4_successor_0 H)
abbrev w_J4_get_0 (g : PG) (d : Nat) (l0 : Nat) (l1 : Nat) (h : PH) (Q : Out → PH → Prop) : Prop := hkd h l0 = 15 ∧ C g d m_J4_getEntry [.ref l0, .ref l1] h (oR (fun v3 h2 => ((¬ v3 = 0) → hkd h2 v3 = 16 ∧ Q (.inl (some (.ref (hG h2 541 v3)))) h2) ∧ ((v3 = 0) → Q (.inl (some (.ref (0 : Nat)))) h2)) (fun r hx => Q (.inr r) hx))
theorem v_J4_get_0 {g : PG} {d : Nat} {l0 : Nat} {l1 : Nat} {h : PH} {Q : Out → PH → Prop} (H : w_J4_get_0 g d l0 l1 h Q) : R g d m_J4_get 0 [.ref l0, .ref l1, .null] [] h Q := by
  refine r_aload_n dJ4_get_0 rfl rfl ?_
  refine r_aload_n dJ4_get_1 rfl rfl ?_
  obtain ⟨k1, H⟩ := H
  refine r_invV (y := m_J4_getEntry) dJ4_get_2 rfl (lw_V q1278 q1279 q1280 q113 q1281) py_J4_getEntry (Nat.le_of_ble_eq_true rfl) (args := [_]) rfl rfl (Nat.le_of_ble_eq_true rfl) k1 (by decide) rfl (C.monoE H (fun o h2 _ x4 K => cont_R K (fun v3 H => ?_) (fun r HX => XR_nc rfl HX)))
  refine r_astore_n dJ4_get_5 rfl (Nat.le_of_ble_eq_true rfl) rfl (slS (slS sl0)) ?_
  refine r_aload_n dJ4_get_6 rfl rfl ?_
  refine r_ifnonnull (tgt := 14) dJ4_get_7 rfl (fun b5 => ?_) (fun b5 => ?_)
  · replace H := H.1 b5
    refine r_aload_n dJ4_get_14 rfl rfl ?_
    obtain ⟨k6, H⟩ := H
    refine r_getG fr_J4_58_16 (by decide) dJ4_get_15 k6 (by decide) ?_
    exact r_aret dJ4_get_18 rfl H
  · replace H := H.2 b5
    refine r_null dJ4_get_10 ?_
    refine r_goto (tgt := 18) dJ4_get_11 rfl ?_
    exact r_aret dJ4_get_18 rfl H
theorem c_J4_get_0 {g : PG} {d : Nat} {l0 : Nat} {l1 : Nat} {h : PH} {Q : Out → PH → Prop} (H : w_J4_get_0 g d l0 l1 h Q) : C g (d + 1) m_J4_get [.ref l0, .ref l1] h Q := C_of_R rfl rfl (Nat.le_of_ble_eq_true rfl) rfl (v_J4_get_0 H)
abbrev w_J4_getEntry_72 (g : PG) (d : Nat) (l2 : Nat) (l3 : Nat) (h : PH) (Q : Out → PH → Prop) : Prop := R g d m_J4_getEntry 28 [.null, .null, .ref l2, .ref l3, .null] [] h Q
theorem v_J4_getEntry_72 {g : PG} {d : Nat} {l2 : Nat} {l3 : Nat} {h : PH} {Q : Out → PH → Prop} (H : w_J4_getEntry_72 g d l2 l3 h Q) : R g d m_J4_getEntry 72 [.null, .null, .ref l2, .ref l3, .null] [] h Q := by
  refine r_goto (tgt := 28) dJ4_getEntry_72 rfl ?_
  exact H
abbrev w_J4_getEntry_28 (g : PG) (d : Nat) (l2 : Nat) (l3 : Nat) (h : PH) (Q : Out → PH → Prop) : Prop := ((l3 = 0) → Q (.inl (some (.ref (0 : Nat)))) h) ∧ ((¬ l3 = 0) → hkd h l3 = 16 ∧ ko h l2 30 ∧ C g d m_J26_compareTo [.ref l2, .ref (hG h 540 l3)] h (oI (fun v6 h5 => ((0 ≤ v6) → ((v6 ≤ 0) → Q (.inl (some (.ref l3))) h5) ∧ ((¬ v6 ≤ 0) → w_J4_getEntry_72 g d l2 (hG h5 543 l3) h5 Q)) ∧ ((¬ 0 ≤ v6) → w_J4_getEntry_72 g d l2 (hG h5 542 l3) h5 Q)) (fun r hx => Q (.inr r) hx)))
theorem v_J4_getEntry_28 {g : PG} {d : Nat} {l2 : Nat} {l3 : Nat} {h : PH} {Q : Out → PH → Prop} (H : w_J4_getEntry_28 g d l2 l3 h Q) : R g d m_J4_getEntry 28 [.null, .null, .ref l2, .ref l3, .null] [] h Q := by
  refine r_aload_n dJ4_getEntry_28 rfl rfl ?_
  refine r_ifnull (tgt := 75) dJ4_getEntry_29 rfl (fun b1 => ?_) (fun b1 => ?_)
  · replace H := H.1 b1
    refine r_null dJ4_getEntry_75 ?_
    exact r_aret dJ4_getEntry_76 rfl H
  · replace H := H.2 b1
    refine r_aload_n dJ4_getEntry_32 rfl rfl ?_
    refine r_aload_n dJ4_getEntry_33 rfl rfl ?_
    obtain ⟨k2, H⟩ := H
    refine r_getG fr_J4_105_16 (by decide) dJ4_getEntry_34 k2 (by decide) ?_
    obtain ⟨k3, H⟩ := H
    obtain ⟨_, k4, k4a, k4b⟩ := ko_use (by decide) k3
    refine r_invF (y := m_J26_compareTo) (Cn := "java/lang/Integer") (x := ⟨"java/lang/Comparable", "compareTo", "(Ljava/lang/Object;)I"⟩) dJ4_getEntry_37 rfl (lw_F q1340 q1344 q1346 q139 q1348) fw_t14 (n := 1) (by decide +kernel) (Nat.le_of_ble_eq_true rfl) (args := [_]) rfl rfl (Nat.le_of_ble_eq_true rfl) k4 k4a (k4b.trans rfl) (C.monoE H (fun o h5 _ x7 K => cont_I K (fun v6 H => ?_) (fun r HX => XR_nc rfl HX)))
    refine r_istore dJ4_getEntry_42 (Nat.le_of_ble_eq_true rfl) rfl (slS (slS (slS (slS sl0)))) ?_
    refine r_iload dJ4_getEntry_44 rfl ?_
    refine r_if_ge (tgt := 57) dJ4_getEntry_46 rfl (fun b8 => ?_) (fun b8 => ?_)
    · replace H := H.1 b8
      refine r_iload dJ4_getEntry_57 rfl ?_
      refine r_if_le (tgt := 70) dJ4_getEntry_59 rfl (fun b9 => ?_) (fun b9 => ?_)
      · replace H := H.1 b9
        refine r_aload_n dJ4_getEntry_70 rfl rfl ?_
        exact r_aret dJ4_getEntry_71 rfl H
      · replace H := H.2 b9
        refine r_aload_n dJ4_getEntry_62 rfl rfl ?_
        refine r_getG fr_J4_114_16 (by decide) dJ4_getEntry_63 (x7.kd k2 (by decide)) (by decide) ?_
        refine r_astore_n dJ4_getEntry_66 rfl (Nat.le_of_ble_eq_true rfl) rfl (slS (slS (slS sl0))) ?_
        refine r_goto (tgt := 72) dJ4_getEntry_67 rfl ?_
        exact R.forget (v_J4_getEntry_72 H) ⟨Or.inl rfl, ⟨Or.inl rfl, ⟨Or.inl rfl, ⟨Or.inl rfl, ⟨Or.inr rfl, trivial⟩⟩⟩⟩⟩
    · replace H := H.2 b8
      refine r_aload_n dJ4_getEntry_49 rfl rfl ?_
      refine r_getG fr_J4_111_16 (by decide) dJ4_getEntry_50 (x7.kd k2 (by decide)) (by decide) ?_
      refine r_astore_n dJ4_getEntry_53 rfl (Nat.le_of_ble_eq_true rfl) rfl (slS (slS (slS sl0))) ?_
      refine r_goto (tgt := 72) dJ4_getEntry_54 rfl ?_
      exact R.forget (v_J4_getEntry_72 H) ⟨Or.inl rfl, ⟨Or.inl rfl, ⟨Or.inl rfl, ⟨Or.inl rfl, ⟨Or.inr rfl, trivial⟩⟩⟩⟩⟩
abbrev w_J4_getEntry_0 (g : PG) (d : Nat) (l0 : Nat) (l1 : Nat) (h : PH) (Q : Out → PH → Prop) : Prop := hkd h l0 = 15 ∧ (((hG h 535 l0) = 0) → C g d m_J19_requireNonNull [.ref l1] h (oR (fun v4 h3 => (l1 = 0 ∨ ko h3 l1 30) ∧ R g d m_J4_getEntry 28 [.null, .null, .ref l1, .ref (hG h3 536 l0), .null] [] h3 Q) (fun r hx => Q (.inr r) hx))) ∧ ((¬ (hG h 535 l0) = 0) → C g d m_J4_getEntryUsingComparator [.ref l0, .ref l1] h (oR (fun v8 h7 => Q (.inl (some (.ref v8))) h7) (fun r hx => Q (.inr r) hx)))
theorem v_J4_getEntry_0 {g : PG} {d : Nat} {l0 : Nat} {l1 : Nat} {h : PH} {Q : Out → PH → Prop} (H : w_J4_getEntry_0 g d l0 l1 h Q) : R g d m_J4_getEntry 0 [.ref l0, .ref l1, .null, .null, .null] [] h Q := by
  refine r_aload_n dJ4_getEntry_0 rfl rfl ?_
  obtain ⟨k1, H⟩ := H
  refine r_getG fr_J4_16_15 (by decide) dJ4_getEntry_1 k1 (by decide) ?_
  refine r_ifnull (tgt := 13) dJ4_getEntry_4 rfl (fun b2 => ?_) (fun b2 => ?_)
  · replace H := H.1 b2
    refine r_aload_n dJ4_getEntry_13 rfl rfl ?_
    refine r_invS (y := m_J19_requireNonNull) dJ4_getEntry_14 rfl (lw_S q1335 q1336 q131 q1337) py_J19_requireNonNull (Nat.le_of_ble_eq_true rfl) (args := [_]) rfl rfl (Nat.le_of_ble_eq_true rfl) (C.monoE H (fun o h3 _ x5 K => cont_R K (fun v4 H => ?_) (fun r HX => XR_nc rfl HX)))
    refine r_pop dJ4_getEntry_17 rfl ?_
    refine r_aload_n dJ4_getEntry_18 rfl rfl ?_
    obtain ⟨k6, H⟩ := H
    refine r_castOc (kv := 30) dJ4_getEntry_19 q1338 (by decide) (Or.inl q1343) k6 ?_
    refine r_astore_n dJ4_getEntry_22 rfl (Nat.le_of_ble_eq_true rfl) rfl (slS (slS sl0)) ?_
    refine r_aload_n dJ4_getEntry_23 rfl rfl ?_
    refine r_getG fr_J4_101_15 (by decide) dJ4_getEntry_24 (x5.kd k1 (by decide)) (by decide) ?_
    refine r_astore_n dJ4_getEntry_27 rfl (Nat.le_of_ble_eq_true rfl) rfl (slS (slS (slS sl0))) ?_
    exact R.forget H ⟨Or.inr rfl, ⟨Or.inr rfl, ⟨Or.inl rfl, ⟨Or.inl rfl, ⟨Or.inl rfl, trivial⟩⟩⟩⟩⟩
  · replace H := H.2 b2
    refine r_aload_n dJ4_getEntry_7 rfl rfl ?_
    refine r_aload_n dJ4_getEntry_8 rfl rfl ?_
    refine r_invV (y := m_J4_getEntryUsingComparator) dJ4_getEntry_9 rfl (lw_V q1282 q1283 q1284 q113 q1285) py_J4_getEntryUsingComparator (Nat.le_of_ble_eq_true rfl) (args := [_]) rfl rfl (Nat.le_of_ble_eq_true rfl) k1 (by decide) rfl (C.monoE H (fun o h7 _ x9 K => cont_R K (fun v8 H => ?_) (fun r HX => XR_nc rfl HX)))
    exact r_aret dJ4_getEntry_12 rfl H
theorem c_J4_getEntry_0 {g : PG} {d : Nat} {l0 : Nat} {l1 : Nat} {h : PH} {Q : Out → PH → Prop} (H : w_J4_getEntry_0 g d l0 l1 h Q) : C g (d + 1) m_J4_getEntry [.ref l0, .ref l1] h Q := C_of_R rfl rfl (Nat.le_of_ble_eq_true rfl) rfl (v_J4_getEntry_0 H)
abbrev w_J4_getEntryUsingComparator_17 (g : PG) (d : Nat) (l2 : Nat) (l3 : Nat) (l4 : Nat) (h : PH) (Q : Out → PH → Prop) : Prop := ((l4 = 0) → Q (.inl (some (.ref (0 : Nat)))) h) ∧ ((¬ l4 = 0) → False)
theorem v_J4_getEntryUsingComparator_17 {g : PG} {d : Nat} {l2 : Nat} {l3 : Nat} {l4 : Nat} {h : PH} {Q : Out → PH → Prop} (H : w_J4_getEntryUsingComparator_17 g d l2 l3 l4 h Q) : R g d m_J4_getEntryUsingComparator 17 [.null, .null, .ref l2, .ref l3, .ref l4, .null] [] h Q := by
  refine r_aload dJ4_getEntryUsingComparator_17 rfl ?_
  refine r_ifnull (tgt := 72) dJ4_getEntryUsingComparator_19 rfl (fun b1 => ?_) (fun b1 => ?_)
  · replace H := H.1 b1
    refine r_null dJ4_getEntryUsingComparator_72 ?_
    exact r_aret dJ4_getEntryUsingComparator_73 rfl H
  · replace H := H.2 b1
    exact H.elim
abbrev w_J4_getEntryUsingComparator_0 (g : PG) (d : Nat) (l0 : Nat) (l1 : Nat) (h : PH) (Q : Out → PH → Prop) : Prop := hkd h l0 = 15 ∧ (((hG h 535 l0) = 0) → Q (.inl (some (.ref (0 : Nat)))) h) ∧ ((¬ (hG h 535 l0) = 0) → R g d m_J4_getEntryUsingComparator 17 [.null, .null, .ref l1, .ref (hG h 535 l0), .ref (hG h 536 l0), .null] [] h Q)
theorem v_J4_getEntryUsingComparator_0 {g : PG} {d : Nat} {l0 : Nat} {l1 : Nat} {h : PH} {Q : Out → PH → Prop} (H : w_J4_getEntryUsingComparator_0 g d l0 l1 h Q) : R g d m_J4_getEntryUsingComparator 0 [.ref l0, .ref l1, .null, .null, .null, .null] [] h Q := by
  refine r_aload_n dJ4_getEntryUsingComparator_0 rfl rfl ?_
  refine r_astore_n dJ4_getEntryUsingComparator_1 rfl (Nat.le_of_ble_eq_true rfl) rfl (slS (slS sl0)) ?_
  refine r_aload_n dJ4_getEntryUsingComparator_2 rfl rfl ?_
  obtain ⟨k1, H⟩ := H
  refine r_getG fr_J4_16_15 (by decide) dJ4_getEntryUsingComparator_3 k1 (by decide) ?_
  refine r_astore_n dJ4_getEntryUsingComparator_6 rfl (Nat.le_of_ble_eq_true rfl) rfl (slS (slS (slS sl0))) ?_
  refine r_aload_n dJ4_getEntryUsingComparator_7 rfl rfl ?_
  refine r_ifnull (tgt := 72) dJ4_getEntryUsingComparator_8 rfl (fun b2 => ?_) (fun b2 => ?_)
  · replace H := H.1 b2
    refine r_null dJ4_getEntryUsingComparator_72 ?_
    exact r_aret dJ4_getEntryUsingComparator_73 rfl H
  · replace H := H.2 b2
    refine r_aload_n dJ4_getEntryUsingComparator_11 rfl rfl ?_
    refine r_getG fr_J4_101_15 (by decide) dJ4_getEntryUsingComparator_12 k1 (by decide) ?_
    refine r_astore dJ4_getEntryUsingComparator_15 (Nat.le_of_ble_eq_true rfl) rfl (slS (slS (slS (slS sl0)))) ?_
    exact R.forget H ⟨Or.inr rfl, ⟨Or.inr rfl, ⟨Or.inl rfl, ⟨Or.inl rfl, ⟨Or.inl rfl, ⟨Or.inl rfl, trivial⟩⟩⟩⟩⟩⟩
theorem c_J4_getEntryUsingComparator_0 {g : PG} {d : Nat} {l0 : Nat} {l1 : Nat} {h : PH} {Q : Out → PH → Prop} (H : w_J4_getEntryUsingComparator_0 g d l0 l1 h Q) : C g (d + 1) m_J4_getEntryUsingComparator [.ref l0, .ref l1] h Q := C_of_R rfl rfl (Nat.le_of_ble_eq_true rfl) rfl (v_J4_getEntryUsingComparator_0 H)
abbrev w_J4_containsKey_0 (g : PG) (d : Nat) (l0 : Nat) (l1 : Nat) (h : PH) (Q : Out → PH → Prop) : Prop := hkd h l0 = 15 ∧ C g d m_J4_getEntry [.ref l0, .ref l1] h (oR (fun v3 h2 => ((v3 = 0) → Q (.inl (some (.int 0))) h2) ∧ ((¬ v3 = 0) → Q (.inl (some (.int 1))) h2)) (fun r hx => Q (.inr r) hx))
theorem v_J4_containsKey_0 {g : PG} {d : Nat} {l0 : Nat} {l1 : Nat} {h : PH} {Q : Out → PH → Prop} (H : w_J4_containsKey_0 g d l0 l1 h Q) : R g d m_J4_containsKey 0 [.ref l0, .ref l1] [] h Q := by
  refine r_aload_n dJ4_containsKey_0 rfl rfl ?_
  refine r_aload_n dJ4_containsKey_1 rfl rfl ?_
  obtain ⟨k1, H⟩ := H
  refine r_invV (y := m_J4_getEntry) dJ4_containsKey_2 rfl (lw_V q1278 q1279 q1280 q113 q1281) py_J4_getEntry (Nat.le_of_ble_eq_true rfl) (args := [_]) rfl rfl (Nat.le_of_ble_eq_true rfl) k1 (by decide) rfl (C.monoE H (fun o h2 _ x4 K => cont_R K (fun v3 H => ?_) (fun r HX => XR_nc rfl HX)))
  refine r_ifnull (tgt := 12) dJ4_containsKey_5 rfl (fun b5 => ?_) (fun b5 => ?_)
  · replace H := H.1 b5
    refine r_iconst dJ4_containsKey_12 rfl ?_
    exact r_zret dJ4_containsKey_13 rfl rfl H
  · replace H := H.2 b5
    refine r_iconst dJ4_containsKey_8 rfl ?_
    refine r_goto (tgt := 13) dJ4_containsKey_9 rfl ?_
    exact r_zret dJ4_containsKey_13 rfl rfl H
theorem c_J4_containsKey_0 {g : PG} {d : Nat} {l0 : Nat} {l1 : Nat} {h : PH} {Q : Out → PH → Prop} (H : w_J4_containsKey_0 g d l0 l1 h Q) : C g (d + 1) m_J4_containsKey [.ref l0, .ref l1] h Q := C_of_R rfl rfl (Nat.le_of_ble_eq_true rfl) rfl (v_J4_containsKey_0 H)
abbrev w_J4_put_0 (g : PG) (d : Nat) (l0 : Nat) (l1 : Nat) (l2 : Nat) (h : PH) (Q : Out → PH → Prop) : Prop := hkd h l0 = 15 ∧ C g d m_J4_put_2 [.ref l0, .ref l1, .ref l2, .int 1] h (oR (fun v3 h2 => Q (.inl (some (.ref v3))) h2) (fun r hx => Q (.inr r) hx))
theorem v_J4_put_0 {g : PG} {d : Nat} {l0 : Nat} {l1 : Nat} {l2 : Nat} {h : PH} {Q : Out → PH → Prop} (H : w_J4_put_0 g d l0 l1 l2 h Q) : R g d m_J4_put 0 [.ref l0, .ref l1, .ref l2] [] h Q := by
  refine r_aload_n dJ4_put_0 rfl rfl ?_
  refine r_aload_n dJ4_put_1 rfl rfl ?_
  refine r_aload_n dJ4_put_2 rfl rfl ?_
  refine r_iconst dJ4_put_3 rfl ?_
  obtain ⟨k1, H⟩ := H
  refine r_invV (y := m_J4_put_2) dJ4_put_4 rfl (lw_V q1677 q1679 qp12 q113 q1680) py_J4_put_2 (Nat.le_of_ble_eq_true rfl) (args := [_, _, _]) rfl rfl (Nat.le_of_ble_eq_true rfl) k1 (by decide) rfl (C.monoE H (fun o h2 _ x4 K => cont_R K (fun v3 H => ?_) (fun r HX => XR_nc rfl HX)))
  exact r_aret dJ4_put_7 rfl H
theorem c_J4_put_0 {g : PG} {d : Nat} {l0 : Nat} {l1 : Nat} {l2 : Nat} {h : PH} {Q : Out → PH → Prop} (H : w_J4_put_0 g d l0 l1 l2 h Q) : C g (d + 1) m_J4_put [.ref l0, .ref l1, .ref l2] h Q := C_of_R rfl rfl (Nat.le_of_ble_eq_true rfl) rfl (v_J4_put_0 H)
abbrev w_J4_put_2_216 (g : PG) (d : Nat) (s0 : Nat) (s1 : Nat) (s2 : Nat) (s3 : Nat) (s4 : Int32) (h : PH) (Q : Out → PH → Prop) : Prop := hkd h s0 = 15 ∧ C g d m_J4_addEntry [.ref s0, .ref s1, .ref s2, .ref s3, .int s4] h (oV (fun h2 => Q (.inl (some (.ref (0 : Nat)))) h2) (fun r hx => Q (.inr r) hx))
theorem v_J4_put_2_216 {g : PG} {d : Nat} {s0 : Nat} {s1 : Nat} {s2 : Nat} {s3 : Nat} {s4 : Int32} {h : PH} {Q : Out → PH → Prop} (H : w_J4_put_2_216 g d s0 s1 s2 s3 s4 h Q) : R g d m_J4_put_2 216 [.null, .null, .null, .null, .null, .null, .null, .null, .null, .null] [.int s4, .ref s3, .ref s2, .ref s1, .ref s0] h Q := by
  obtain ⟨k1, H⟩ := H
  refine r_invV (y := m_J4_addEntry) dJ4_put_2_216 rfl (lw_V q1720 q1722 qp14 q113 q1723) py_J4_addEntry (Nat.le_of_ble_eq_true rfl) (args := [_, _, _, _]) rfl rfl (Nat.le_of_ble_eq_true rfl) k1 (by decide) rfl (C.monoE H (fun o h2 _ x4 K => cont_V K (fun H => ?_) (fun r HX => XR_nc rfl HX)))
  refine r_null dJ4_put_2_219 ?_
  exact r_aret dJ4_put_2_220 rfl H
abbrev w_J4_put_2_201 (g : PG) (d : Nat) (l0 : Nat) (l1 : Nat) (l2 : Nat) (l5 : Int32) (l6 : Nat) (h : PH) (Q : Out → PH → Prop) : Prop := ((0 ≤ l5) → w_J4_put_2_216 g d l0 l1 l2 l6 (0 : Int32) h Q) ∧ ((¬ 0 ≤ l5) → w_J4_put_2_216 g d l0 l1 l2 l6 (1 : Int32) h Q)
theorem v_J4_put_2_201 {g : PG} {d : Nat} {l0 : Nat} {l1 : Nat} {l2 : Nat} {l5 : Int32} {l6 : Nat} {h : PH} {Q : Out → PH → Prop} (H : w_J4_put_2_201 g d l0 l1 l2 l5 l6 h Q) : R g d m_J4_put_2 201 [.ref l0, .ref l1, .ref l2, .null, .null, .int l5, .ref l6, .null, .null, .null] [] h Q := by
  refine r_aload_n dJ4_put_2_201 rfl rfl ?_
  refine r_aload_n dJ4_put_2_202 rfl rfl ?_
  refine r_aload_n dJ4_put_2_203 rfl rfl ?_
  refine r_aload dJ4_put_2_204 rfl ?_
  refine r_iload dJ4_put_2_206 rfl ?_
  refine r_if_ge (tgt := 215) dJ4_put_2_208 rfl (fun b1 => ?_) (fun b1 => ?_)
  · replace H := H.1 b1
    refine r_iconst dJ4_put_2_215 rfl ?_
    exact R.forget (v_J4_put_2_216 H) ⟨Or.inr rfl, ⟨Or.inr rfl, ⟨Or.inr rfl, ⟨Or.inl rfl, ⟨Or.inl rfl, ⟨Or.inr rfl, ⟨Or.inr rfl, ⟨Or.inl rfl, ⟨Or.inl rfl, ⟨Or.inl rfl, trivial⟩⟩⟩⟩⟩⟩⟩⟩⟩⟩
  · replace H := H.2 b1
    refine r_iconst dJ4_put_2_211 rfl ?_
    refine r_goto (tgt := 216) dJ4_put_2_212 rfl ?_
    exact R.forget (v_J4_put_2_216 H) ⟨Or.inr rfl, ⟨Or.inr rfl, ⟨Or.inr rfl, ⟨Or.inl rfl, ⟨Or.inl rfl, ⟨Or.inr rfl, ⟨Or.inr rfl, ⟨Or.inl rfl, ⟨Or.inl rfl, ⟨Or.inl rfl, trivial⟩⟩⟩⟩⟩⟩⟩⟩⟩⟩
abbrev w_J4_put_2_196 (g : PG) (d : Nat) (l0 : Nat) (l1 : Nat) (l2 : Nat) (l3 : Int32) (l4 : Nat) (l5 : Int32) (l6 : Nat) (l8 : Nat) (h : PH) (Q : Out → PH → Prop) : Prop := ((¬ l4 = 0) → R g d m_J4_put_2 123 [.ref l0, .ref l1, .ref l2, .int l3, .ref l4, .null, .null, .null, .ref l8, .null] [] h Q) ∧ ((l4 = 0) → w_J4_put_2_201 g d l0 l1 l2 l5 l6 h Q)
theorem v_J4_put_2_196 {g : PG} {d : Nat} {l0 : Nat} {l1 : Nat} {l2 : Nat} {l3 : Int32} {l4 : Nat} {l5 : Int32} {l6 : Nat} {l8 : Nat} {h : PH} {Q : Out → PH → Prop} (H : w_J4_put_2_196 g d l0 l1 l2 l3 l4 l5 l6 l8 h Q) : R g d m_J4_put_2 196 [.ref l0, .ref l1, .ref l2, .int l3, .ref l4, .int l5, .ref l6, .null, .ref l8, .null] [] h Q := by
  refine r_aload dJ4_put_2_196 rfl ?_
  refine r_ifnonnull (tgt := 123) dJ4_put_2_198 rfl (fun b1 => ?_) (fun b1 => ?_)
  · replace H := H.1 b1
    exact R.forget H ⟨Or.inl rfl, ⟨Or.inl rfl, ⟨Or.inl rfl, ⟨Or.inl rfl, ⟨Or.inl rfl, ⟨Or.inr rfl, ⟨Or.inr rfl, ⟨Or.inl rfl, ⟨Or.inl rfl, ⟨Or.inl rfl, trivial⟩⟩⟩⟩⟩⟩⟩⟩⟩⟩
  · replace H := H.2 b1
    exact R.forget (v_J4_put_2_201 H) ⟨Or.inl rfl, ⟨Or.inl rfl, ⟨Or.inl rfl, ⟨Or.inr rfl, ⟨Or.inr rfl, ⟨Or.inl rfl, ⟨Or.inl rfl, ⟨Or.inl rfl, ⟨Or.inr rfl, ⟨Or.inl rfl, trivial⟩⟩⟩⟩⟩⟩⟩⟩⟩⟩
abbrev w_J4_put_2_187 (g : PG) (d : Nat) (l2 : Nat) (l4 : Nat) (l9 : Nat) (h : PH) (Q : Out → PH → Prop) : Prop := hkd h l4 = 16 ∧ ∀ h2, h2 = setG 541 l4 l2 h → Q (.inl (some (.ref l9))) h2
theorem v_J4_put_2_187 {g : PG} {d : Nat} {l2 : Nat} {l4 : Nat} {l9 : Nat} {h : PH} {Q : Out → PH → Prop} (H : w_J4_put_2_187 g d l2 l4 l9 h Q) : R g d m_J4_put_2 187 [.null, .null, .ref l2, .null, .ref l4, .null, .null, .null, .null, .ref l9] [] h Q := by
  refine r_aload dJ4_put_2_187 rfl ?_
  refine r_aload_n dJ4_put_2_189 rfl rfl ?_
  obtain ⟨k1, H⟩ := H
  replace H := H _ rfl
  refine r_putG fw_J4_58_16 (by decide) dJ4_put_2_190 k1 (by decide) rfl ?_
  refine r_aload dJ4_put_2_193 rfl ?_
  exact r_aret dJ4_put_2_195 rfl H
abbrev w_J4_put_2_123 (g : PG) (d : Nat) (l0 : Nat) (l1 : Nat) (l2 : Nat) (l3 : Int32) (l4 : Nat) (l8 : Nat) (h : PH) (Q : Out → PH → Prop) : Prop := hkd h l4 = 16 ∧ ko h l8 30 ∧ C g d m_J26_compareTo [.ref l8, .ref (hG h 540 l4)] h (oI (fun v5 h4 => ((0 ≤ v5) → ((v5 ≤ 0) → ((¬ l3 = 0) → w_J4_put_2_187 g d l2 l4 (hG h4 541 l4) h4 Q) ∧ ((l3 = 0) → ((¬ (hG h4 541 l4) = 0) → Q (.inl (some (.ref (hG h4 541 l4)))) h4) ∧ (((hG h4 541 l4) = 0) → w_J4_put_2_187 g d l2 l4 (hG h4 541 l4) h4 Q))) ∧ ((¬ v5 ≤ 0) → w_J4_put_2_196 g d l0 l1 l2 l3 (hG h4 543 l4) v5 l4 l8 h4 Q)) ∧ ((¬ 0 ≤ v5) → w_J4_put_2_196 g d l0 l1 l2 l3 (hG h4 542 l4) v5 l4 l8 h4 Q)) (fun r hx => Q (.inr r) hx))
theorem v_J4_put_2_123 {g : PG} {d : Nat} {l0 : Nat} {l1 : Nat} {l2 : Nat} {l3 : Int32} {l4 : Nat} {l8 : Nat} {h : PH} {Q : Out → PH → Prop} (H : w_J4_put_2_123 g d l0 l1 l2 l3 l4 l8 h Q) : R g d m_J4_put_2 123 [.ref l0, .ref l1, .ref l2, .int l3, .ref l4, .null, .null, .null, .ref l8, .null] [] h Q := by
  refine r_aload dJ4_put_2_123 rfl ?_
  refine r_astore dJ4_put_2_125 (Nat.le_of_ble_eq_true rfl) rfl (slS (slS (slS (slS (slS (slS sl0)))))) ?_
  refine r_aload dJ4_put_2_127 rfl ?_
  refine r_aload dJ4_put_2_129 rfl ?_
  obtain ⟨k1, H⟩ := H
  refine r_getG fr_J4_105_16 (by decide) dJ4_put_2_131 k1 (by decide) ?_
  obtain ⟨k2, H⟩ := H
  obtain ⟨_, k3, k3a, k3b⟩ := ko_use (by decide) k2
  refine r_invF (y := m_J26_compareTo) (Cn := "java/lang/Integer") (x := ⟨"java/lang/Comparable", "compareTo", "(Ljava/lang/Object;)I"⟩) dJ4_put_2_134 rfl (lw_F q1340 q1344 q1346 q139 q1348) fw_t14 (n := 1) (by decide +kernel) (Nat.le_of_ble_eq_true rfl) (args := [_]) rfl rfl (Nat.le_of_ble_eq_true rfl) k3 k3a (k3b.trans rfl) (C.monoE H (fun o h4 _ x6 K => cont_I K (fun v5 H => ?_) (fun r HX => XR_nc rfl HX)))
  refine r_istore dJ4_put_2_139 (Nat.le_of_ble_eq_true rfl) rfl (slS (slS (slS (slS (slS sl0))))) ?_
  refine r_iload dJ4_put_2_141 rfl ?_
  refine r_if_ge (tgt := 156) dJ4_put_2_143 rfl (fun b7 => ?_) (fun b7 => ?_)
  · replace H := H.1 b7
    refine r_iload dJ4_put_2_156 rfl ?_
    refine r_if_le (tgt := 171) dJ4_put_2_158 rfl (fun b8 => ?_) (fun b8 => ?_)
    · replace H := H.1 b8
      refine r_aload dJ4_put_2_171 rfl ?_
      refine r_getG fr_J4_58_16 (by decide) dJ4_put_2_173 (x6.kd k1 (by decide)) (by decide) ?_
      refine r_astore dJ4_put_2_176 (Nat.le_of_ble_eq_true rfl) rfl (slS (slS (slS (slS (slS (slS (slS (slS (slS sl0))))))))) ?_
      refine r_iload_n dJ4_put_2_178 rfl rfl ?_
      refine r_if_ne (tgt := 187) dJ4_put_2_179 rfl (fun b9 => ?_) (fun b9 => ?_)
      · replace H := H.1 b9
        exact R.forget (v_J4_put_2_187 H) ⟨Or.inr rfl, ⟨Or.inr rfl, ⟨Or.inl rfl, ⟨Or.inr rfl, ⟨Or.inl rfl, ⟨Or.inr rfl, ⟨Or.inr rfl, ⟨Or.inl rfl, ⟨Or.inr rfl, ⟨Or.inl rfl, trivial⟩⟩⟩⟩⟩⟩⟩⟩⟩⟩
      · replace H := H.2 b9
        refine r_aload dJ4_put_2_182 rfl ?_
        refine r_ifnonnull (tgt := 193) dJ4_put_2_184 rfl (fun b10 => ?_) (fun b10 => ?_)
        · replace H := H.1 b10
          refine r_aload dJ4_put_2_193 rfl ?_
          exact r_aret dJ4_put_2_195 rfl H
        · replace H := H.2 b10
          exact R.forget (v_J4_put_2_187 H) ⟨Or.inr rfl, ⟨Or.inr rfl, ⟨Or.inl rfl, ⟨Or.inr rfl, ⟨Or.inl rfl, ⟨Or.inr rfl, ⟨Or.inr rfl, ⟨Or.inl rfl, ⟨Or.inr rfl, ⟨Or.inl rfl, trivial⟩⟩⟩⟩⟩⟩⟩⟩⟩⟩
    · replace H := H.2 b8
      refine r_aload dJ4_put_2_161 rfl ?_
      refine r_getG fr_J4_114_16 (by decide) dJ4_put_2_163 (x6.kd k1 (by decide)) (by decide) ?_
      refine r_astore dJ4_put_2_166 (Nat.le_of_ble_eq_true rfl) rfl (slS (slS (slS (slS sl0)))) ?_
      refine r_goto (tgt := 196) dJ4_put_2_168 rfl ?_
      exact v_J4_put_2_196 H
  · replace H := H.2 b7
    refine r_aload dJ4_put_2_146 rfl ?_
    refine r_getG fr_J4_111_16 (by decide) dJ4_put_2_148 (x6.kd k1 (by decide)) (by decide) ?_
    refine r_astore dJ4_put_2_151 (Nat.le_of_ble_eq_true rfl) rfl (slS (slS (slS (slS sl0)))) ?_
    refine r_goto (tgt := 196) dJ4_put_2_153 rfl ?_
    exact v_J4_put_2_196 H
abbrev w_J4_put_2_30 (_g : PG) (_d : Nat) (_l0 : Nat) (_l1 : Nat) (_l2 : Nat) (_l3 : Int32) (_l4 : Nat) (_l7 : Nat) (_h : PH) (_Q : Out → PH → Prop) : Prop := False
theorem v_J4_put_2_30 {g : PG} {d : Nat} {l0 : Nat} {l1 : Nat} {l2 : Nat} {l3 : Int32} {l4 : Nat} {l7 : Nat} {h : PH} {Q : Out → PH → Prop} (H : w_J4_put_2_30 g d l0 l1 l2 l3 l4 l7 h Q) : R g d m_J4_put_2 30 [.ref l0, .ref l1, .ref l2, .int l3, .ref l4, .null, .null, .ref l7, .null, .null] [] h Q := H.elim
abbrev w_J4_put_2_0 (g : PG) (d : Nat) (l0 : Nat) (l1 : Nat) (l2 : Nat) (l3 : Int32) (h : PH) (Q : Out → PH → Prop) : Prop := hkd h l0 = 15 ∧ ((¬ (hG h 536 l0) = 0) → (((hG h 535 l0) = 0) → C g d m_J19_requireNonNull [.ref l1] h (oR (fun v5 h4 => (l1 = 0 ∨ ko h4 l1 30) ∧ R g d m_J4_put_2 123 [.ref l0, .ref l1, .ref l2, .int l3, .ref (hG h 536 l0), .null, .null, .null, .ref l1, .null] [] h4 Q) (fun r hx => Q (.inr r) hx))) ∧ ((¬ (hG h 535 l0) = 0) → R g d m_J4_put_2 30 [.ref l0, .ref l1, .ref l2, .int l3, .ref (hG h 536 l0), .null, .null, .ref (hG h 535 l0), .null, .null] [] h Q)) ∧ (((hG h 536 l0) = 0) → C g d m_J4_addEntryToEmptyMap [.ref l0, .ref l1, .ref l2] h (oV (fun h8 => Q (.inl (some (.ref (0 : Nat)))) h8) (fun r hx => Q (.inr r) hx)))
theorem v_J4_put_2_0 {g : PG} {d : Nat} {l0 : Nat} {l1 : Nat} {l2 : Nat} {l3 : Int32} {h : PH} {Q : Out → PH → Prop} (H : w_J4_put_2_0 g d l0 l1 l2 l3 h Q) : R g d m_J4_put_2 0 [.ref l0, .ref l1, .ref l2, .int l3, .null, .null, .null, .null, .null, .null] [] h Q := by
  refine r_aload_n dJ4_put_2_0 rfl rfl ?_
  obtain ⟨k1, H⟩ := H
  refine r_getG fr_J4_101_15 (by decide) dJ4_put_2_1 k1 (by decide) ?_
  refine r_astore dJ4_put_2_4 (Nat.le_of_ble_eq_true rfl) rfl (slS (slS (slS (slS sl0)))) ?_
  refine r_aload dJ4_put_2_6 rfl ?_
  refine r_ifnonnull (tgt := 19) dJ4_put_2_8 rfl (fun b2 => ?_) (fun b2 => ?_)
  · replace H := H.1 b2
    refine r_aload_n dJ4_put_2_19 rfl rfl ?_
    refine r_getG fr_J4_16_15 (by decide) dJ4_put_2_20 k1 (by decide) ?_
    refine r_astore dJ4_put_2_23 (Nat.le_of_ble_eq_true rfl) rfl (slS (slS (slS (slS (slS (slS (slS sl0))))))) ?_
    refine r_aload dJ4_put_2_25 rfl ?_
    refine r_ifnull (tgt := 112) dJ4_put_2_27 rfl (fun b3 => ?_) (fun b3 => ?_)
    · replace H := H.1 b3
      refine r_aload_n dJ4_put_2_112 rfl rfl ?_
      refine r_invS (y := m_J19_requireNonNull) dJ4_put_2_113 rfl (lw_S q1335 q1336 q131 q1337) py_J19_requireNonNull (Nat.le_of_ble_eq_true rfl) (args := [_]) rfl rfl (Nat.le_of_ble_eq_true rfl) (C.monoE H (fun o h4 _ x6 K => cont_R K (fun v5 H => ?_) (fun r HX => XR_nc rfl HX)))
      refine r_pop dJ4_put_2_116 rfl ?_
      refine r_aload_n dJ4_put_2_117 rfl rfl ?_
      obtain ⟨k7, H⟩ := H
      refine r_castOc (kv := 30) dJ4_put_2_118 q1338 (by decide) (Or.inl q1343) k7 ?_
      refine r_astore dJ4_put_2_121 (Nat.le_of_ble_eq_true rfl) rfl (slS (slS (slS (slS (slS (slS (slS (slS sl0)))))))) ?_
      exact R.forget H ⟨Or.inl rfl, ⟨Or.inl rfl, ⟨Or.inl rfl, ⟨Or.inl rfl, ⟨Or.inl rfl, ⟨Or.inl rfl, ⟨Or.inl rfl, ⟨Or.inr rfl, ⟨Or.inl rfl, ⟨Or.inl rfl, trivial⟩⟩⟩⟩⟩⟩⟩⟩⟩⟩
    · replace H := H.2 b3
      exact H
  · replace H := H.2 b2
    refine r_aload_n dJ4_put_2_11 rfl rfl ?_
    refine r_aload_n dJ4_put_2_12 rfl rfl ?_
    refine r_aload_n dJ4_put_2_13 rfl rfl ?_
    refine r_invV (y := m_J4_addEntryToEmptyMap) dJ4_put_2_14 rfl (lw_V q1681 q1683 qp13 q113 q1684) py_J4_addEntryToEmptyMap (Nat.le_of_ble_eq_true rfl) (args := [_, _]) rfl rfl (Nat.le_of_ble_eq_true rfl) k1 (by decide) rfl (C.monoE H (fun o h8 _ x10 K => cont_V K (fun H => ?_) (fun r HX => XR_nc rfl HX)))
    refine r_null dJ4_put_2_17 ?_
    exact r_aret dJ4_put_2_18 rfl H
theorem c_J4_put_2_0 {g : PG} {d : Nat} {l0 : Nat} {l1 : Nat} {l2 : Nat} {l3 : Int32} {h : PH} {Q : Out → PH → Prop} (H : w_J4_put_2_0 g d l0 l1 l2 l3 h Q) : C g (d + 1) m_J4_put_2 [.ref l0, .ref l1, .ref l2, .int l3] h Q := C_of_R rfl rfl (Nat.le_of_ble_eq_true rfl) rfl (v_J4_put_2_0 H)
abbrev w_J4_addEntryToEmptyMap_0 (g : PG) (d : Nat) (l0 : Nat) (l1 : Nat) (l2 : Nat) (h : PH) (Q : Out → PH → Prop) : Prop := hkd h l0 = 15 ∧ C g d m_J4_compare [.ref l0, .ref l1, .ref l1] h (oI (fun v3 h2 => ∀ h5, h5 = hnew 16 0 7 h2 → 0 < (hnx h2) ∧ C g d m_J34_init [.ref (hnx h2), .ref l1, .ref l2, .ref (0 : Nat)] h5 (oV (fun h7 => hkd h7 l0 = 15 ∧ ∀ h11, h11 = setG 536 l0 (hnx h2) h7 → ∀ h12, h12 = setF 39 l0 (1 : Int32) h11 → ∀ h13, h13 = setF 40 l0 ((hF h12 40 l0) + (1 : Int32)) h12 → Q (.inl none) h13) (fun r hx => Q (.inr r) hx))) (fun r hx => Q (.inr r) hx))
theorem v_J4_addEntryToEmptyMap_0 {g : PG} {d : Nat} {l0 : Nat} {l1 : Nat} {l2 : Nat} {h : PH} {Q : Out → PH → Prop} (H : w_J4_addEntryToEmptyMap_0 g d l0 l1 l2 h Q) : R g d m_J4_addEntryToEmptyMap 0 [.ref l0, .ref l1, .ref l2] [] h Q := by
  refine r_aload_n dJ4_addEntryToEmptyMap_0 rfl rfl ?_
  refine r_aload_n dJ4_addEntryToEmptyMap_1 rfl rfl ?_
  refine r_aload_n dJ4_addEntryToEmptyMap_2 rfl rfl ?_
  obtain ⟨k1, H⟩ := H
  refine r_invV (y := m_J4_compare) dJ4_addEntryToEmptyMap_3 rfl (lw_V q1685 q1686 q1687 q113 q1688) py_J4_compare (Nat.le_of_ble_eq_true rfl) (args := [_, _]) rfl rfl (Nat.le_of_ble_eq_true rfl) k1 (by decide) rfl (C.monoE H (fun o h2 _ x4 K => cont_I K (fun v3 H => ?_) (fun r HX => XR_nc rfl HX)))
  refine r_pop dJ4_addEntryToEmptyMap_6 rfl ?_
  refine r_aload_n dJ4_addEntryToEmptyMap_7 rfl rfl ?_
  replace H := H _ rfl
  refine r_new (ci := 16) dJ4_addEntryToEmptyMap_8 rfl (by decide) q1689 q1690 q148 ?_
  refine r_dup dJ4_addEntryToEmptyMap_11 rfl ?_
  refine r_aload_n dJ4_addEntryToEmptyMap_12 rfl rfl ?_
  refine r_aload_n dJ4_addEntryToEmptyMap_13 rfl rfl ?_
  refine r_null dJ4_addEntryToEmptyMap_14 ?_
  obtain ⟨k6, H⟩ := H
  refine r_invI (y := m_J34_init) dJ4_addEntryToEmptyMap_15 rfl rfl q1693 q148 q1691 q1692 rfl py_J34_init (Nat.le_of_ble_eq_true rfl) (args := [_, _, _]) rfl rfl (Nat.le_of_ble_eq_true rfl) k6 (C.monoE H (fun o h7 _ x9 K => cont_V K (fun H => ?_) (fun r HX => XR_nc rfl HX)))
  obtain ⟨k10, H⟩ := H
  replace H := H _ rfl
  refine r_putG fw_J4_101_15 (by decide) dJ4_addEntryToEmptyMap_18 k10 (by decide) rfl ?_
  refine r_aload_n dJ4_addEntryToEmptyMap_21 rfl rfl ?_
  refine r_iconst dJ4_addEntryToEmptyMap_22 rfl ?_
  replace H := H _ rfl
  refine r_putF fw_J4_7_15 (by decide) dJ4_addEntryToEmptyMap_23 k10 (by decide) rfl rfl ?_
  refine r_aload_n dJ4_addEntryToEmptyMap_26 rfl rfl ?_
  refine r_dup dJ4_addEntryToEmptyMap_27 rfl ?_
  refine r_getF fr_J4_13_15 (by decide) dJ4_addEntryToEmptyMap_28 k10 (by decide) ?_
  refine r_iconst dJ4_addEntryToEmptyMap_31 rfl ?_
  refine r_iadd dJ4_addEntryToEmptyMap_32 ?_
  replace H := H _ rfl
  refine r_putF fw_J4_13_15 (by decide) dJ4_addEntryToEmptyMap_33 k10 (by decide) rfl rfl ?_
  exact r_vret dJ4_addEntryToEmptyMap_36 rfl H
theorem c_J4_addEntryToEmptyMap_0 {g : PG} {d : Nat} {l0 : Nat} {l1 : Nat} {l2 : Nat} {h : PH} {Q : Out → PH → Prop} (H : w_J4_addEntryToEmptyMap_0 g d l0 l1 l2 h Q) : C g (d + 1) m_J4_addEntryToEmptyMap [.ref l0, .ref l1, .ref l2] h Q := C_of_R rfl rfl (Nat.le_of_ble_eq_true rfl) rfl (v_J4_addEntryToEmptyMap_0 H)
abbrev w_J4_compare_0 (g : PG) (d : Nat) (l0 : Nat) (l1 : Nat) (l2 : Nat) (h : PH) (Q : Out → PH → Prop) : Prop := hkd h l0 = 15 ∧ ((¬ (hG h 535 l0) = 0) → False) ∧ (((hG h 535 l0) = 0) → (l1 = 0 ∨ ko h l1 30) ∧ ko h l1 30 ∧ C g d m_J26_compareTo [.ref l1, .ref l2] h (oI (fun v7 h6 => Q (.inl (some (.int v7))) h6) (fun r hx => Q (.inr r) hx)))
theorem v_J4_compare_0 {g : PG} {d : Nat} {l0 : Nat} {l1 : Nat} {l2 : Nat} {h : PH} {Q : Out → PH → Prop} (H : w_J4_compare_0 g d l0 l1 l2 h Q) : R g d m_J4_compare 0 [.ref l0, .ref l1, .ref l2] [] h Q := by
  refine r_aload_n dJ4_compare_0 rfl rfl ?_
  obtain ⟨k1, H⟩ := H
  refine r_getG fr_J4_16_15 (by decide) dJ4_compare_1 k1 (by decide) ?_
  refine r_ifnonnull (tgt := 20) dJ4_compare_4 rfl (fun b2 => ?_) (fun b2 => ?_)
  · replace H := H.1 b2
    exact H.elim
  · replace H := H.2 b2
    refine r_aload_n dJ4_compare_7 rfl rfl ?_
    obtain ⟨k3, H⟩ := H
    refine r_castOc (kv := 30) dJ4_compare_8 q1338 (by decide) (Or.inl q1343) k3 ?_
    refine r_aload_n dJ4_compare_11 rfl rfl ?_
    obtain ⟨k4, H⟩ := H
    obtain ⟨_, k5, k5a, k5b⟩ := ko_use (by decide) k4
    refine r_invF (y := m_J26_compareTo) (Cn := "java/lang/Integer") (x := ⟨"java/lang/Comparable", "compareTo", "(Ljava/lang/Object;)I"⟩) dJ4_compare_12 rfl (lw_F q1340 q1344 q1346 q139 q1348) fw_t14 (n := 1) (by decide +kernel) (Nat.le_of_ble_eq_true rfl) (args := [_]) rfl rfl (Nat.le_of_ble_eq_true rfl) k5 k5a (k5b.trans rfl) (C.monoE H (fun o h6 _ x8 K => cont_I K (fun v7 H => ?_) (fun r HX => XR_nc rfl HX)))
    refine r_goto (tgt := 31) dJ4_compare_17 rfl ?_
    exact r_iret dJ4_compare_31 rfl H
theorem c_J4_compare_0 {g : PG} {d : Nat} {l0 : Nat} {l1 : Nat} {l2 : Nat} {h : PH} {Q : Out → PH → Prop} (H : w_J4_compare_0 g d l0 l1 l2 h Q) : C g (d + 1) m_J4_compare [.ref l0, .ref l1, .ref l2] h Q := C_of_R rfl rfl (Nat.le_of_ble_eq_true rfl) rfl (v_J4_compare_0 H)
abbrev w_J4_addEntry_32 (g : PG) (d : Nat) (l0 : Nat) (l5 : Nat) (h : PH) (Q : Out → PH → Prop) : Prop := hkd h l0 = 15 ∧ C g d m_J4_fixAfterInsertion [.ref l0, .ref l5] h (oV (fun h2 => ∀ h5, h5 = setF 39 l0 ((hF h2 39 l0) + (1 : Int32)) h2 → ∀ h6, h6 = setF 40 l0 ((hF h5 40 l0) + (1 : Int32)) h5 → Q (.inl none) h6) (fun r hx => Q (.inr r) hx))
theorem v_J4_addEntry_32 {g : PG} {d : Nat} {l0 : Nat} {l5 : Nat} {h : PH} {Q : Out → PH → Prop} (H : w_J4_addEntry_32 g d l0 l5 h Q) : R g d m_J4_addEntry 32 [.ref l0, .null, .null, .null, .null, .ref l5] [] h Q := by
  refine r_aload_n dJ4_addEntry_32 rfl rfl ?_
  refine r_aload dJ4_addEntry_33 rfl ?_
  obtain ⟨k1, H⟩ := H
  refine r_invV (y := m_J4_fixAfterInsertion) dJ4_addEntry_35 rfl (lw_V q1724 q1726 qp15 q113 q1727) py_J4_fixAfterInsertion (Nat.le_of_ble_eq_true rfl) (args := [_]) rfl rfl (Nat.le_of_ble_eq_true rfl) k1 (by decide) rfl (C.monoE H (fun o h2 _ x4 K => cont_V K (fun H => ?_) (fun r HX => XR_nc rfl HX)))
  refine r_aload_n dJ4_addEntry_38 rfl rfl ?_
  refine r_dup dJ4_addEntry_39 rfl ?_
  refine r_getF fr_J4_7_15 (by decide) dJ4_addEntry_40 (x4.kd k1 (by decide)) (by decide) ?_
  refine r_iconst dJ4_addEntry_43 rfl ?_
  refine r_iadd dJ4_addEntry_44 ?_
  replace H := H _ rfl
  refine r_putF fw_J4_7_15 (by decide) dJ4_addEntry_45 (x4.kd k1 (by decide)) (by decide) rfl rfl ?_
  refine r_aload_n dJ4_addEntry_48 rfl rfl ?_
  refine r_dup dJ4_addEntry_49 rfl ?_
  refine r_getF fr_J4_13_15 (by decide) dJ4_addEntry_50 (x4.kd k1 (by decide)) (by decide) ?_
  refine r_iconst dJ4_addEntry_53 rfl ?_
  refine r_iadd dJ4_addEntry_54 ?_
  replace H := H _ rfl
  refine r_putF fw_J4_13_15 (by decide) dJ4_addEntry_55 (x4.kd k1 (by decide)) (by decide) rfl rfl ?_
  exact r_vret dJ4_addEntry_58 rfl H
abbrev w_J4_addEntry_0 (g : PG) (d : Nat) (l0 : Nat) (l1 : Nat) (l2 : Nat) (l3 : Nat) (l4 : Int32) (h : PH) (Q : Out → PH → Prop) : Prop := ∀ h1, h1 = hnew 16 0 7 h → 0 < (hnx h) ∧ C g d m_J34_init [.ref (hnx h), .ref l1, .ref l2, .ref l3] h1 (oV (fun h3 => ((l4 = 0) → hkd h3 l3 = 16 ∧ ∀ h8, h8 = setG 543 l3 (hnx h) h3 → w_J4_addEntry_32 g d l0 (hnx h) h8 Q) ∧ ((¬ l4 = 0) → hkd h3 l3 = 16 ∧ ∀ h10, h10 = setG 542 l3 (hnx h) h3 → w_J4_addEntry_32 g d l0 (hnx h) h10 Q)) (fun r hx => Q (.inr r) hx))
theorem v_J4_addEntry_0 {g : PG} {d : Nat} {l0 : Nat} {l1 : Nat} {l2 : Nat} {l3 : Nat} {l4 : Int32} {h : PH} {Q : Out → PH → Prop} (H : w_J4_addEntry_0 g d l0 l1 l2 l3 l4 h Q) : R g d m_J4_addEntry 0 [.ref l0, .ref l1, .ref l2, .ref l3, .int l4, .null] [] h Q := by
  replace H := H _ rfl
  refine r_new (ci := 16) dJ4_addEntry_0 rfl (by decide) q1689 q1690 q148 ?_
  refine r_dup dJ4_addEntry_3 rfl ?_
  refine r_aload_n dJ4_addEntry_4 rfl rfl ?_
  refine r_aload_n dJ4_addEntry_5 rfl rfl ?_
  refine r_aload_n dJ4_addEntry_6 rfl rfl ?_
  obtain ⟨k2, H⟩ := H
  refine r_invI (y := m_J34_init) dJ4_addEntry_7 rfl rfl q1693 q148 q1691 q1692 rfl py_J34_init (Nat.le_of_ble_eq_true rfl) (args := [_, _, _]) rfl rfl (Nat.le_of_ble_eq_true rfl) k2 (C.monoE H (fun o h3 _ x5 K => cont_V K (fun H => ?_) (fun r HX => XR_nc rfl HX)))
  refine r_astore dJ4_addEntry_10 (Nat.le_of_ble_eq_true rfl) rfl (slS (slS (slS (slS (slS sl0))))) ?_
  refine r_iload dJ4_addEntry_12 rfl ?_
  refine r_if_eq (tgt := 26) dJ4_addEntry_14 rfl (fun b6 => ?_) (fun b6 => ?_)
  · replace H := H.1 b6
    refine r_aload_n dJ4_addEntry_26 rfl rfl ?_
    refine r_aload dJ4_addEntry_27 rfl ?_
    obtain ⟨k7, H⟩ := H
    replace H := H _ rfl
    refine r_putG fw_J4_114_16 (by decide) dJ4_addEntry_29 k7 (by decide) rfl ?_
    exact R.forget (v_J4_addEntry_32 H) ⟨Or.inl rfl, ⟨Or.inr rfl, ⟨Or.inr rfl, ⟨Or.inr rfl, ⟨Or.inr rfl, ⟨Or.inl rfl, trivial⟩⟩⟩⟩⟩⟩
  · replace H := H.2 b6
    refine r_aload_n dJ4_addEntry_17 rfl rfl ?_
    refine r_aload dJ4_addEntry_18 rfl ?_
    obtain ⟨k9, H⟩ := H
    replace H := H _ rfl
    refine r_putG fw_J4_111_16 (by decide) dJ4_addEntry_20 k9 (by decide) rfl ?_
    refine r_goto (tgt := 32) dJ4_addEntry_23 rfl ?_
    exact R.forget (v_J4_addEntry_32 H) ⟨Or.inl rfl, ⟨Or.inr rfl, ⟨Or.inr rfl, ⟨Or.inr rfl, ⟨Or.inr rfl, ⟨Or.inl rfl, trivial⟩⟩⟩⟩⟩⟩
theorem c_J4_addEntry_0 {g : PG} {d : Nat} {l0 : Nat} {l1 : Nat} {l2 : Nat} {l3 : Nat} {l4 : Int32} {h : PH} {Q : Out → PH → Prop} (H : w_J4_addEntry_0 g d l0 l1 l2 l3 l4 h Q) : C g (d + 1) m_J4_addEntry [.ref l0, .ref l1, .ref l2, .ref l3, .int l4] h Q := C_of_R rfl rfl (Nat.le_of_ble_eq_true rfl) rfl (v_J4_addEntry_0 H)
abbrev w_J4_fixAfterInsertion_258 (g : PG) (d : Nat) (l0 : Nat) (h : PH) (Q : Out → PH → Prop) : Prop := hkd h l0 = 15 ∧ hkd h (hG h 536 l0) = 16 ∧ ∀ h3, h3 = setF 41 (hG h 536 l0) (1 : Int32) h → Q (.inl none) h3
theorem v_J4_fixAfterInsertion_258 {g : PG} {d : Nat} {l0 : Nat} {h : PH} {Q : Out → PH → Prop} (H : w_J4_fixAfterInsertion_258 g d l0 h Q) : R g d m_J4_fixAfterInsertion 258 [.ref l0, .null, .null] [] h Q := by
  refine r_aload_n dJ4_fixAfterInsertion_258 rfl rfl ?_
  obtain ⟨k1, H⟩ := H
  refine r_getG fr_J4_101_15 (by decide) dJ4_fixAfterInsertion_259 k1 (by decide) ?_
  refine r_iconst dJ4_fixAfterInsertion_262 rfl ?_
  obtain ⟨k2, H⟩ := H
  replace H := H _ rfl
  refine r_putF fw_J4_290_16 (by decide) dJ4_fixAfterInsertion_263 k2 (by decide) rfl rfl ?_
  exact r_vret dJ4_fixAfterInsertion_266 rfl H
abbrev w_J4_fixAfterInsertion_255 (g : PG) (d : Nat) (l0 : Nat) (l1 : Nat) (h : PH) (Q : Out → PH → Prop) : Prop := R g d m_J4_fixAfterInsertion 5 [.ref l0, .ref l1, .null] [] h Q
theorem v_J4_fixAfterInsertion_255 {g : PG} {d : Nat} {l0 : Nat} {l1 : Nat} {h : PH} {Q : Out → PH → Prop} (H : w_J4_fixAfterInsertion_255 g d l0 l1 h Q) : R g d m_J4_fixAfterInsertion 255 [.ref l0, .ref l1, .null] [] h Q := by
  refine r_goto (tgt := 5) dJ4_fixAfterInsertion_255 rfl ?_
  exact H
abbrev w_J4_fixAfterInsertion_225 (g : PG) (d : Nat) (l0 : Nat) (l1 : Nat) (h : PH) (Q : Out → PH → Prop) : Prop := C g d m_J4_parentOf [.ref l1] h (oR (fun v2 h1 => C g d m_J4_setColor [.ref v2, .int 1] h1 (oV (fun h4 => C g d m_J4_parentOf [.ref l1] h4 (oR (fun v8 h7 => C g d m_J4_parentOf [.ref v8] h7 (oR (fun v11 h10 => C g d m_J4_setColor [.ref v11, .int 0] h10 (oV (fun h13 => C g d m_J4_parentOf [.ref l1] h13 (oR (fun v17 h16 => C g d m_J4_parentOf [.ref v17] h16 (oR (fun v20 h19 => hkd h19 l0 = 15 ∧ C g d m_J4_rotateLeft [.ref l0, .ref v20] h19 (oV (fun h23 => w_J4_fixAfterInsertion_255 g d l0 l1 h23 Q) (fun r hx => Q (.inr r) hx))) (fun r hx => Q (.inr r) hx))) (fun r hx => Q (.inr r) hx))) (fun r hx => Q (.inr r) hx))) (fun r hx => Q (.inr r) hx))) (fun r hx => Q (.inr r) hx))) (fun r hx => Q (.inr r) hx))) (fun r hx => Q (.inr r) hx))
theorem v_J4_fixAfterInsertion_225 {g : PG} {d : Nat} {l0 : Nat} {l1 : Nat} {h : PH} {Q : Out → PH → Prop} (H : w_J4_fixAfterInsertion_225 g d l0 l1 h Q) : R g d m_J4_fixAfterInsertion 225 [.ref l0, .ref l1, .null] [] h Q := by
  refine r_aload_n dJ4_fixAfterInsertion_225 rfl rfl ?_
  refine r_invS (y := m_J4_parentOf) dJ4_fixAfterInsertion_226 rfl (lw_S q1728 q1729 q113 q1730) py_J4_parentOf (Nat.le_of_ble_eq_true rfl) (args := [_]) rfl rfl (Nat.le_of_ble_eq_true rfl) (C.monoE H (fun o h1 _ x3 K => cont_R K (fun v2 H => ?_) (fun r HX => XR_nc rfl HX)))
  refine r_iconst dJ4_fixAfterInsertion_229 rfl ?_
  refine r_invS (y := m_J4_setColor) dJ4_fixAfterInsertion_230 rfl (lw_S q1740 q1741 q113 q1742) py_J4_setColor (Nat.le_of_ble_eq_true rfl) (args := [_, _]) rfl rfl (Nat.le_of_ble_eq_true rfl) (C.monoE H (fun o h4 _ x6 K => cont_V K (fun H => ?_) (fun r HX => XR_nc rfl HX)))
  refine r_aload_n dJ4_fixAfterInsertion_233 rfl rfl ?_
  refine r_invS (y := m_J4_parentOf) dJ4_fixAfterInsertion_234 rfl (lw_S q1728 q1729 q113 q1730) py_J4_parentOf (Nat.le_of_ble_eq_true rfl) (args := [_]) rfl rfl (Nat.le_of_ble_eq_true rfl) (C.monoE H (fun o h7 _ x9 K => cont_R K (fun v8 H => ?_) (fun r HX => XR_nc rfl HX)))
  refine r_invS (y := m_J4_parentOf) dJ4_fixAfterInsertion_237 rfl (lw_S q1728 q1729 q113 q1730) py_J4_parentOf (Nat.le_of_ble_eq_true rfl) (args := [_]) rfl rfl (Nat.le_of_ble_eq_true rfl) (C.monoE H (fun o h10 _ x12 K => cont_R K (fun v11 H => ?_) (fun r HX => XR_nc rfl HX)))
  refine r_iconst dJ4_fixAfterInsertion_240 rfl ?_
  refine r_invS (y := m_J4_setColor) dJ4_fixAfterInsertion_241 rfl (lw_S q1740 q1741 q113 q1742) py_J4_setColor (Nat.le_of_ble_eq_true rfl) (args := [_, _]) rfl rfl (Nat.le_of_ble_eq_true rfl) (C.monoE H (fun o h13 _ x15 K => cont_V K (fun H => ?_) (fun r HX => XR_nc rfl HX)))
  refine r_aload_n dJ4_fixAfterInsertion_244 rfl rfl ?_
  refine r_aload_n dJ4_fixAfterInsertion_245 rfl rfl ?_
  refine r_invS (y := m_J4_parentOf) dJ4_fixAfterInsertion_246 rfl (lw_S q1728 q1729 q113 q1730) py_J4_parentOf (Nat.le_of_ble_eq_true rfl) (args := [_]) rfl rfl (Nat.le_of_ble_eq_true rfl) (C.monoE H (fun o h16 _ x18 K => cont_R K (fun v17 H => ?_) (fun r HX => XR_nc rfl HX)))
  refine r_invS (y := m_J4_parentOf) dJ4_fixAfterInsertion_249 rfl (lw_S q1728 q1729 q113 q1730) py_J4_parentOf (Nat.le_of_ble_eq_true rfl) (args := [_]) rfl rfl (Nat.le_of_ble_eq_true rfl) (C.monoE H (fun o h19 _ x21 K => cont_R K (fun v20 H => ?_) (fun r HX => XR_nc rfl HX)))
  obtain ⟨k22, H⟩ := H
  refine r_invV (y := m_J4_rotateLeft) dJ4_fixAfterInsertion_252 rfl (lw_V q1743 q1745 qp16 q113 q1746) py_J4_rotateLeft (Nat.le_of_ble_eq_true rfl) (args := [_]) rfl rfl (Nat.le_of_ble_eq_true rfl) k22 (by decide) rfl (C.monoE H (fun o h23 _ x25 K => cont_V K (fun H => ?_) (fun r HX => XR_nc rfl HX)))
  exact v_J4_fixAfterInsertion_255 H
abbrev w_J4_fixAfterInsertion_148 (g : PG) (d : Nat) (l0 : Nat) (l1 : Nat) (h : PH) (Q : Out → PH → Prop) : Prop := R g d m_J4_fixAfterInsertion 5 [.ref l0, .ref l1, .null] [] h Q
theorem v_J4_fixAfterInsertion_148 {g : PG} {d : Nat} {l0 : Nat} {l1 : Nat} {h : PH} {Q : Out → PH → Prop} (H : w_J4_fixAfterInsertion_148 g d l0 l1 h Q) : R g d m_J4_fixAfterInsertion 148 [.ref l0, .ref l1, .null] [] h Q := by
  refine r_goto (tgt := 5) dJ4_fixAfterInsertion_148 rfl ?_
  exact H
abbrev w_J4_fixAfterInsertion_118 (g : PG) (d : Nat) (l0 : Nat) (l1 : Nat) (h : PH) (Q : Out → PH → Prop) : Prop := C g d m_J4_parentOf [.ref l1] h (oR (fun v2 h1 => C g d m_J4_setColor [.ref v2, .int 1] h1 (oV (fun h4 => C g d m_J4_parentOf [.ref l1] h4 (oR (fun v8 h7 => C g d m_J4_parentOf [.ref v8] h7 (oR (fun v11 h10 => C g d m_J4_setColor [.ref v11, .int 0] h10 (oV (fun h13 => C g d m_J4_parentOf [.ref l1] h13 (oR (fun v17 h16 => C g d m_J4_parentOf [.ref v17] h16 (oR (fun v20 h19 => hkd h19 l0 = 15 ∧ C g d m_J4_rotateRight [.ref l0, .ref v20] h19 (oV (fun h23 => w_J4_fixAfterInsertion_148 g d l0 l1 h23 Q) (fun r hx => Q (.inr r) hx))) (fun r hx => Q (.inr r) hx))) (fun r hx => Q (.inr r) hx))) (fun r hx => Q (.inr r) hx))) (fun r hx => Q (.inr r) hx))) (fun r hx => Q (.inr r) hx))) (fun r hx => Q (.inr r) hx))) (fun r hx => Q (.inr r) hx))
theorem v_J4_fixAfterInsertion_118 {g : PG} {d : Nat} {l0 : Nat} {l1 : Nat} {h : PH} {Q : Out → PH → Prop} (H : w_J4_fixAfterInsertion_118 g d l0 l1 h Q) : R g d m_J4_fixAfterInsertion 118 [.ref l0, .ref l1, .null] [] h Q := by
  refine r_aload_n dJ4_fixAfterInsertion_118 rfl rfl ?_
  refine r_invS (y := m_J4_parentOf) dJ4_fixAfterInsertion_119 rfl (lw_S q1728 q1729 q113 q1730) py_J4_parentOf (Nat.le_of_ble_eq_true rfl) (args := [_]) rfl rfl (Nat.le_of_ble_eq_true rfl) (C.monoE H (fun o h1 _ x3 K => cont_R K (fun v2 H => ?_) (fun r HX => XR_nc rfl HX)))
  refine r_iconst dJ4_fixAfterInsertion_122 rfl ?_
  refine r_invS (y := m_J4_setColor) dJ4_fixAfterInsertion_123 rfl (lw_S q1740 q1741 q113 q1742) py_J4_setColor (Nat.le_of_ble_eq_true rfl) (args := [_, _]) rfl rfl (Nat.le_of_ble_eq_true rfl) (C.monoE H (fun o h4 _ x6 K => cont_V K (fun H => ?_) (fun r HX => XR_nc rfl HX)))
  refine r_aload_n dJ4_fixAfterInsertion_126 rfl rfl ?_
  refine r_invS (y := m_J4_parentOf) dJ4_fixAfterInsertion_127 rfl (lw_S q1728 q1729 q113 q1730) py_J4_parentOf (Nat.le_of_ble_eq_true rfl) (args := [_]) rfl rfl (Nat.le_of_ble_eq_true rfl) (C.monoE H (fun o h7 _ x9 K => cont_R K (fun v8 H => ?_) (fun r HX => XR_nc rfl HX)))
  refine r_invS (y := m_J4_parentOf) dJ4_fixAfterInsertion_130 rfl (lw_S q1728 q1729 q113 q1730) py_J4_parentOf (Nat.le_of_ble_eq_true rfl) (args := [_]) rfl rfl (Nat.le_of_ble_eq_true rfl) (C.monoE H (fun o h10 _ x12 K => cont_R K (fun v11 H => ?_) (fun r HX => XR_nc rfl HX)))
  refine r_iconst dJ4_fixAfterInsertion_133 rfl ?_
  refine r_invS (y := m_J4_setColor) dJ4_fixAfterInsertion_134 rfl (lw_S q1740 q1741 q113 q1742) py_J4_setColor (Nat.le_of_ble_eq_true rfl) (args := [_, _]) rfl rfl (Nat.le_of_ble_eq_true rfl) (C.monoE H (fun o h13 _ x15 K => cont_V K (fun H => ?_) (fun r HX => XR_nc rfl HX)))
  refine r_aload_n dJ4_fixAfterInsertion_137 rfl rfl ?_
  refine r_aload_n dJ4_fixAfterInsertion_138 rfl rfl ?_
  refine r_invS (y := m_J4_parentOf) dJ4_fixAfterInsertion_139 rfl (lw_S q1728 q1729 q113 q1730) py_J4_parentOf (Nat.le_of_ble_eq_true rfl) (args := [_]) rfl rfl (Nat.le_of_ble_eq_true rfl) (C.monoE H (fun o h16 _ x18 K => cont_R K (fun v17 H => ?_) (fun r HX => XR_nc rfl HX)))
  refine r_invS (y := m_J4_parentOf) dJ4_fixAfterInsertion_142 rfl (lw_S q1728 q1729 q113 q1730) py_J4_parentOf (Nat.le_of_ble_eq_true rfl) (args := [_]) rfl rfl (Nat.le_of_ble_eq_true rfl) (C.monoE H (fun o h19 _ x21 K => cont_R K (fun v20 H => ?_) (fun r HX => XR_nc rfl HX)))
  obtain ⟨k22, H⟩ := H
  refine r_invV (y := m_J4_rotateRight) dJ4_fixAfterInsertion_145 rfl (lw_V q1747 q1749 qp17 q113 q1750) py_J4_rotateRight (Nat.le_of_ble_eq_true rfl) (args := [_]) rfl rfl (Nat.le_of_ble_eq_true rfl) k22 (by decide) rfl (C.monoE H (fun o h23 _ x25 K => cont_V K (fun H => ?_) (fun r HX => XR_nc rfl HX)))
  exact v_J4_fixAfterInsertion_148 H
abbrev w_J4_fixAfterInsertion_5 (g : PG) (d : Nat) (l0 : Nat) (l1 : Nat) (h : PH) (Q : Out → PH → Prop) : Prop := ((l1 = 0) → w_J4_fixAfterInsertion_258 g d l0 h Q) ∧ ((¬ l1 = 0) → hkd h l0 = 15 ∧ ((l1 = (hG h 536 l0)) → w_J4_fixAfterInsertion_258 g d l0 h Q) ∧ ((¬ l1 = (hG h 536 l0)) → hkd h l1 = 16 ∧ hkd h (hG h 544 l1) = 16 ∧ ((¬ (hF h 41 (hG h 544 l1)) = 0) → w_J4_fixAfterInsertion_258 g d l0 h Q) ∧ (((hF h 41 (hG h 544 l1)) = 0) → C g d m_J4_parentOf [.ref l1] h (oR (fun v8 h7 => C g d m_J4_parentOf [.ref l1] h7 (oR (fun v11 h10 => C g d m_J4_parentOf [.ref v11] h10 (oR (fun v14 h13 => C g d m_J4_leftOf [.ref v14] h13 (oR (fun v17 h16 => ((¬ v8 = v17) → C g d m_J4_parentOf [.ref l1] h16 (oR (fun v21 h20 => C g d m_J4_parentOf [.ref v21] h20 (oR (fun v24 h23 => C g d m_J4_leftOf [.ref v24] h23 (oR (fun v27 h26 => C g d m_J4_colorOf [.ref v27] h26 (oI (fun v30 h29 => ((¬ v30 = 0) → C g d m_J4_parentOf [.ref l1] h29 (oR (fun v34 h33 => C g d m_J4_leftOf [.ref v34] h33 (oR (fun v37 h36 => ((¬ l1 = v37) → w_J4_fixAfterInsertion_225 g d l0 l1 h36 Q) ∧ ((l1 = v37) → C g d m_J4_parentOf [.ref l1] h36 (oR (fun v41 h40 => C g d m_J4_rotateRight [.ref l0, .ref v41] h40 (oV (fun h43 => w_J4_fixAfterInsertion_225 g d l0 v41 h43 Q) (fun r hx => Q (.inr r) hx))) (fun r hx => Q (.inr r) hx)))) (fun r hx => Q (.inr r) hx))) (fun r hx => Q (.inr r) hx))) ∧ ((v30 = 0) → C g d m_J4_parentOf [.ref l1] h29 (oR (fun v47 h46 => C g d m_J4_setColor [.ref v47, .int 1] h46 (oV (fun h49 => C g d m_J4_setColor [.ref v27, .int 1] h49 (oV (fun h52 => C g d m_J4_parentOf [.ref l1] h52 (oR (fun v56 h55 => C g d m_J4_parentOf [.ref v56] h55 (oR (fun v59 h58 => C g d m_J4_setColor [.ref v59, .int 0] h58 (oV (fun h61 => C g d m_J4_parentOf [.ref l1] h61 (oR (fun v65 h64 => C g d m_J4_parentOf [.ref v65] h64 (oR (fun v68 h67 => w_J4_fixAfterInsertion_255 g d l0 v68 h67 Q) (fun r hx => Q (.inr r) hx))) (fun r hx => Q (.inr r) hx))) (fun r hx => Q (.inr r) hx))) (fun r hx => Q (.inr r) hx))) (fun r hx => Q (.inr r) hx))) (fun r hx => Q (.inr r) hx))) (fun r hx => Q (.inr r) hx))) (fun r hx => Q (.inr r) hx)))) (fun r hx => Q (.inr r) hx))) (fun r hx => Q (.inr r) hx))) (fun r hx => Q (.inr r) hx))) (fun r hx => Q (.inr r) hx))) ∧ ((v8 = v17) → C g d m_J4_parentOf [.ref l1] h16 (oR (fun v71 h70 => C g d m_J4_parentOf [.ref v71] h70 (oR (fun v74 h73 => C g d m_J4_rightOf [.ref v74] h73 (oR (fun v77 h76 => C g d m_J4_colorOf [.ref v77] h76 (oI (fun v80 h79 => ((¬ v80 = 0) → C g d m_J4_parentOf [.ref l1] h79 (oR (fun v84 h83 => C g d m_J4_rightOf [.ref v84] h83 (oR (fun v87 h86 => ((¬ l1 = v87) → w_J4_fixAfterInsertion_118 g d l0 l1 h86 Q) ∧ ((l1 = v87) → C g d m_J4_parentOf [.ref l1] h86 (oR (fun v91 h90 => C g d m_J4_rotateLeft [.ref l0, .ref v91] h90 (oV (fun h93 => w_J4_fixAfterInsertion_118 g d l0 v91 h93 Q) (fun r hx => Q (.inr r) hx))) (fun r hx => Q (.inr r) hx)))) (fun r hx => Q (.inr r) hx))) (fun r hx => Q (.inr r) hx))) ∧ ((v80 = 0) → C g d m_J4_parentOf [.ref l1] h79 (oR (fun v97 h96 => C g d m_J4_setColor [.ref v97, .int 1] h96 (oV (fun h99 => C g d m_J4_setColor [.ref v77, .int 1] h99 (oV (fun h102 => C g d m_J4_parentOf [.ref l1] h102 (oR (fun v106 h105 => C g d m_J4_parentOf [.ref v106] h105 (oR (fun v109 h108 => C g d m_J4_setColor [.ref v109, .int 0] h108 (oV (fun h111 => C g d m_J4_parentOf [.ref l1] h111 (oR (fun v115 h114 => C g d m_J4_parentOf [.ref v115] h114 (oR (fun v118 h117 => w_J4_fixAfterInsertion_148 g d l0 v118 h117 Q) (fun r hx => Q (.inr r) hx))) (fun r hx => Q (.inr r) hx))) (fun r hx => Q (.inr r) hx))) (fun r hx => Q (.inr r) hx))) (fun r hx => Q (.inr r) hx))) (fun r hx => Q (.inr r) hx))) (fun r hx => Q (.inr r) hx))) (fun r hx => Q (.inr r) hx)))) (fun r hx => Q (.inr r) hx))) (fun r hx => Q (.inr r) hx))) (fun r hx => Q (.inr r) hx))) (fun r hx => Q (.inr r) hx)))) (fun r hx => Q (.inr r) hx))) (fun r hx => Q (.inr r) hx))) (fun r hx => Q (.inr r) hx))) (fun r hx => Q (.inr r) hx)))))
theorem v_J4_fixAfterInsertion_5 {g : PG} {d : Nat} {l0 : Nat} {l1 : Nat} {h : PH} {Q : Out → PH → Prop} (H : w_J4_fixAfterInsertion_5 g d l0 l1 h Q) : R g d m_J4_fixAfterInsertion 5 [.ref l0, .ref l1, .null] [] h Q := by
  refine r_aload_n dJ4_fixAfterInsertion_5 rfl rfl ?_
  refine r_ifnull (tgt := 258) dJ4_fixAfterInsertion_6 rfl (fun b1 => ?_) (fun b1 => ?_)
  · replace H := H.1 b1
    exact R.forget (v_J4_fixAfterInsertion_258 H) ⟨Or.inl rfl, ⟨Or.inr rfl, ⟨Or.inl rfl, trivial⟩⟩⟩
  · replace H := H.2 b1
    refine r_aload_n dJ4_fixAfterInsertion_9 rfl rfl ?_
    refine r_aload_n dJ4_fixAfterInsertion_10 rfl rfl ?_
    obtain ⟨k2, H⟩ := H
    refine r_getG fr_J4_101_15 (by decide) dJ4_fixAfterInsertion_11 k2 (by decide) ?_
    refine r_acmp_eq (tgt := 258) dJ4_fixAfterInsertion_14 rfl (fun b3 => ?_) (fun b3 => ?_)
    · replace H := H.1 b3
      exact R.forget (v_J4_fixAfterInsertion_258 H) ⟨Or.inl rfl, ⟨Or.inr rfl, ⟨Or.inl rfl, trivial⟩⟩⟩
    · replace H := H.2 b3
      refine r_aload_n dJ4_fixAfterInsertion_17 rfl rfl ?_
      obtain ⟨k4, H⟩ := H
      refine r_getG fr_J4_124_16 (by decide) dJ4_fixAfterInsertion_18 k4 (by decide) ?_
      obtain ⟨k5, H⟩ := H
      refine r_getF fr_J4_290_16 (by decide) dJ4_fixAfterInsertion_21 k5 (by decide) ?_
      refine r_if_ne (tgt := 258) dJ4_fixAfterInsertion_24 rfl (fun b6 => ?_) (fun b6 => ?_)
      · replace H := H.1 b6
        exact R.forget (v_J4_fixAfterInsertion_258 H) ⟨Or.inl rfl, ⟨Or.inr rfl, ⟨Or.inl rfl, trivial⟩⟩⟩
      · replace H := H.2 b6
        refine r_aload_n dJ4_fixAfterInsertion_27 rfl rfl ?_
        refine r_invS (y := m_J4_parentOf) dJ4_fixAfterInsertion_28 rfl (lw_S q1728 q1729 q113 q1730) py_J4_parentOf (Nat.le_of_ble_eq_true rfl) (args := [_]) rfl rfl (Nat.le_of_ble_eq_true rfl) (C.monoE H (fun o h7 _ x9 K => cont_R K (fun v8 H => ?_) (fun r HX => XR_nc rfl HX)))
        refine r_aload_n dJ4_fixAfterInsertion_31 rfl rfl ?_
        refine r_invS (y := m_J4_parentOf) dJ4_fixAfterInsertion_32 rfl (lw_S q1728 q1729 q113 q1730) py_J4_parentOf (Nat.le_of_ble_eq_true rfl) (args := [_]) rfl rfl (Nat.le_of_ble_eq_true rfl) (C.monoE H (fun o h10 _ x12 K => cont_R K (fun v11 H => ?_) (fun r HX => XR_nc rfl HX)))
        refine r_invS (y := m_J4_parentOf) dJ4_fixAfterInsertion_35 rfl (lw_S q1728 q1729 q113 q1730) py_J4_parentOf (Nat.le_of_ble_eq_true rfl) (args := [_]) rfl rfl (Nat.le_of_ble_eq_true rfl) (C.monoE H (fun o h13 _ x15 K => cont_R K (fun v14 H => ?_) (fun r HX => XR_nc rfl HX)))
        refine r_invS (y := m_J4_leftOf) dJ4_fixAfterInsertion_38 rfl (lw_S q1731 q1732 q113 q1733) py_J4_leftOf (Nat.le_of_ble_eq_true rfl) (args := [_]) rfl rfl (Nat.le_of_ble_eq_true rfl) (C.monoE H (fun o h16 _ x18 K => cont_R K (fun v17 H => ?_) (fun r HX => XR_nc rfl HX)))
        refine r_acmp_ne (tgt := 151) dJ4_fixAfterInsertion_41 rfl (fun b19 => ?_) (fun b19 => ?_)
        · replace H := H.1 b19
          refine r_aload_n dJ4_fixAfterInsertion_151 rfl rfl ?_
          refine r_invS (y := m_J4_parentOf) dJ4_fixAfterInsertion_152 rfl (lw_S q1728 q1729 q113 q1730) py_J4_parentOf (Nat.le_of_ble_eq_true rfl) (args := [_]) rfl rfl (Nat.le_of_ble_eq_true rfl) (C.monoE H (fun o h20 _ x22 K => cont_R K (fun v21 H => ?_) (fun r HX => XR_nc rfl HX)))
          refine r_invS (y := m_J4_parentOf) dJ4_fixAfterInsertion_155 rfl (lw_S q1728 q1729 q113 q1730) py_J4_parentOf (Nat.le_of_ble_eq_true rfl) (args := [_]) rfl rfl (Nat.le_of_ble_eq_true rfl) (C.monoE H (fun o h23 _ x25 K => cont_R K (fun v24 H => ?_) (fun r HX => XR_nc rfl HX)))
          refine r_invS (y := m_J4_leftOf) dJ4_fixAfterInsertion_158 rfl (lw_S q1731 q1732 q113 q1733) py_J4_leftOf (Nat.le_of_ble_eq_true rfl) (args := [_]) rfl rfl (Nat.le_of_ble_eq_true rfl) (C.monoE H (fun o h26 _ x28 K => cont_R K (fun v27 H => ?_) (fun r HX => XR_nc rfl HX)))
          refine r_astore_n dJ4_fixAfterInsertion_161 rfl (Nat.le_of_ble_eq_true rfl) rfl (slS (slS sl0)) ?_
          refine r_aload_n dJ4_fixAfterInsertion_162 rfl rfl ?_
          refine r_invS (y := m_J4_colorOf) dJ4_fixAfterInsertion_163 rfl (lw_S q1737 q1738 q113 q1739) py_J4_colorOf (Nat.le_of_ble_eq_true rfl) (args := [_]) rfl rfl (Nat.le_of_ble_eq_true rfl) (C.monoE H (fun o h29 _ x31 K => cont_I K (fun v30 H => ?_) (fun r HX => XR_nc rfl HX)))
          refine r_if_ne (tgt := 204) dJ4_fixAfterInsertion_166 rfl (fun b32 => ?_) (fun b32 => ?_)
          · replace H := H.1 b32
            refine r_aload_n dJ4_fixAfterInsertion_204 rfl rfl ?_
            refine r_aload_n dJ4_fixAfterInsertion_205 rfl rfl ?_
            refine r_invS (y := m_J4_parentOf) dJ4_fixAfterInsertion_206 rfl (lw_S q1728 q1729 q113 q1730) py_J4_parentOf (Nat.le_of_ble_eq_true rfl) (args := [_]) rfl rfl (Nat.le_of_ble_eq_true rfl) (C.monoE H (fun o h33 _ x35 K => cont_R K (fun v34 H => ?_) (fun r HX => XR_nc rfl HX)))
            refine r_invS (y := m_J4_leftOf) dJ4_fixAfterInsertion_209 rfl (lw_S q1731 q1732 q113 q1733) py_J4_leftOf (Nat.le_of_ble_eq_true rfl) (args := [_]) rfl rfl (Nat.le_of_ble_eq_true rfl) (C.monoE H (fun o h36 _ x38 K => cont_R K (fun v37 H => ?_) (fun r HX => XR_nc rfl HX)))
            refine r_acmp_ne (tgt := 225) dJ4_fixAfterInsertion_212 rfl (fun b39 => ?_) (fun b39 => ?_)
            · replace H := H.1 b39
              exact R.forget (v_J4_fixAfterInsertion_225 H) ⟨Or.inl rfl, ⟨Or.inl rfl, ⟨Or.inr rfl, trivial⟩⟩⟩
            · replace H := H.2 b39
              refine r_aload_n dJ4_fixAfterInsertion_215 rfl rfl ?_
              refine r_invS (y := m_J4_parentOf) dJ4_fixAfterInsertion_216 rfl (lw_S q1728 q1729 q113 q1730) py_J4_parentOf (Nat.le_of_ble_eq_true rfl) (args := [_]) rfl rfl (Nat.le_of_ble_eq_true rfl) (C.monoE H (fun o h40 _ x42 K => cont_R K (fun v41 H => ?_) (fun r HX => XR_nc rfl HX)))
              refine r_astore_n dJ4_fixAfterInsertion_219 rfl (Nat.le_of_ble_eq_true rfl) rfl (slS sl0) ?_
              refine r_aload_n dJ4_fixAfterInsertion_220 rfl rfl ?_
              refine r_aload_n dJ4_fixAfterInsertion_221 rfl rfl ?_
              refine r_invV (y := m_J4_rotateRight) dJ4_fixAfterInsertion_222 rfl (lw_V q1747 q1749 qp17 q113 q1750) py_J4_rotateRight (Nat.le_of_ble_eq_true rfl) (args := [_]) rfl rfl (Nat.le_of_ble_eq_true rfl) (x42.kd (x38.kd (x35.kd (x31.kd (x28.kd (x25.kd (x22.kd (x18.kd (x15.kd (x12.kd (x9.kd k2 (by decide)) (by decide)) (by decide)) (by decide)) (by decide)) (by decide)) (by decide)) (by decide)) (by decide)) (by decide)) (by decide)) (by decide) rfl (C.monoE H (fun o h43 _ x45 K => cont_V K (fun H => ?_) (fun r HX => XR_nc rfl HX)))
              exact R.forget (v_J4_fixAfterInsertion_225 H) ⟨Or.inl rfl, ⟨Or.inl rfl, ⟨Or.inr rfl, trivial⟩⟩⟩
          · replace H := H.2 b32
            refine r_aload_n dJ4_fixAfterInsertion_169 rfl rfl ?_
            refine r_invS (y := m_J4_parentOf) dJ4_fixAfterInsertion_170 rfl (lw_S q1728 q1729 q113 q1730) py_J4_parentOf (Nat.le_of_ble_eq_true rfl) (args := [_]) rfl rfl (Nat.le_of_ble_eq_true rfl) (C.monoE H (fun o h46 _ x48 K => cont_R K (fun v47 H => ?_) (fun r HX => XR_nc rfl HX)))
            refine r_iconst dJ4_fixAfterInsertion_173 rfl ?_
            refine r_invS (y := m_J4_setColor) dJ4_fixAfterInsertion_174 rfl (lw_S q1740 q1741 q113 q1742) py_J4_setColor (Nat.le_of_ble_eq_true rfl) (args := [_, _]) rfl rfl (Nat.le_of_ble_eq_true rfl) (C.monoE H (fun o h49 _ x51 K => cont_V K (fun H => ?_) (fun r HX => XR_nc rfl HX)))
            refine r_aload_n dJ4_fixAfterInsertion_177 rfl rfl ?_
            refine r_iconst dJ4_fixAfterInsertion_178 rfl ?_
            refine r_invS (y := m_J4_setColor) dJ4_fixAfterInsertion_179 rfl (lw_S q1740 q1741 q113 q1742) py_J4_setColor (Nat.le_of_ble_eq_true rfl) (args := [_, _]) rfl rfl (Nat.le_of_ble_eq_true rfl) (C.monoE H (fun o h52 _ x54 K => cont_V K (fun H => ?_) (fun r HX => XR_nc rfl HX)))
            refine r_aload_n dJ4_fixAfterInsertion_182 rfl rfl ?_
            refine r_invS (y := m_J4_parentOf) dJ4_fixAfterInsertion_183 rfl (lw_S q1728 q1729 q113 q1730) py_J4_parentOf (Nat.le_of_ble_eq_true rfl) (args := [_]) rfl rfl (Nat.le_of_ble_eq_true rfl) (C.monoE H (fun o h55 _ x57 K => cont_R K (fun v56 H => ?_) (fun r HX => XR_nc rfl HX)))
            refine r_invS (y := m_J4_parentOf) dJ4_fixAfterInsertion_186 rfl (lw_S q1728 q1729 q113 q1730) py_J4_parentOf (Nat.le_of_ble_eq_true rfl) (args := [_]) rfl rfl (Nat.le_of_ble_eq_true rfl) (C.monoE H (fun o h58 _ x60 K => cont_R K (fun v59 H => ?_) (fun r HX => XR_nc rfl HX)))
            refine r_iconst dJ4_fixAfterInsertion_189 rfl ?_
            refine r_invS (y := m_J4_setColor) dJ4_fixAfterInsertion_190 rfl (lw_S q1740 q1741 q113 q1742) py_J4_setColor (Nat.le_of_ble_eq_true rfl) (args := [_, _]) rfl rfl (Nat.le_of_ble_eq_true rfl) (C.monoE H (fun o h61 _ x63 K => cont_V K (fun H => ?_) (fun r HX => XR_nc rfl HX)))
            refine r_aload_n dJ4_fixAfterInsertion_193 rfl rfl ?_
            refine r_invS (y := m_J4_parentOf) dJ4_fixAfterInsertion_194 rfl (lw_S q1728 q1729 q113 q1730) py_J4_parentOf (Nat.le_of_ble_eq_true rfl) (args := [_]) rfl rfl (Nat.le_of_ble_eq_true rfl) (C.monoE H (fun o h64 _ x66 K => cont_R K (fun v65 H => ?_) (fun r HX => XR_nc rfl HX)))
            refine r_invS (y := m_J4_parentOf) dJ4_fixAfterInsertion_197 rfl (lw_S q1728 q1729 q113 q1730) py_J4_parentOf (Nat.le_of_ble_eq_true rfl) (args := [_]) rfl rfl (Nat.le_of_ble_eq_true rfl) (C.monoE H (fun o h67 _ x69 K => cont_R K (fun v68 H => ?_) (fun r HX => XR_nc rfl HX)))
            refine r_astore_n dJ4_fixAfterInsertion_200 rfl (Nat.le_of_ble_eq_true rfl) rfl (slS sl0) ?_
            refine r_goto (tgt := 255) dJ4_fixAfterInsertion_201 rfl ?_
            exact R.forget (v_J4_fixAfterInsertion_255 H) ⟨Or.inl rfl, ⟨Or.inl rfl, ⟨Or.inr rfl, trivial⟩⟩⟩
        · replace H := H.2 b19
          refine r_aload_n dJ4_fixAfterInsertion_44 rfl rfl ?_
          refine r_invS (y := m_J4_parentOf) dJ4_fixAfterInsertion_45 rfl (lw_S q1728 q1729 q113 q1730) py_J4_parentOf (Nat.le_of_ble_eq_true rfl) (args := [_]) rfl rfl (Nat.le_of_ble_eq_true rfl) (C.monoE H (fun o h70 _ x72 K => cont_R K (fun v71 H => ?_) (fun r HX => XR_nc rfl HX)))
          refine r_invS (y := m_J4_parentOf) dJ4_fixAfterInsertion_48 rfl (lw_S q1728 q1729 q113 q1730) py_J4_parentOf (Nat.le_of_ble_eq_true rfl) (args := [_]) rfl rfl (Nat.le_of_ble_eq_true rfl) (C.monoE H (fun o h73 _ x75 K => cont_R K (fun v74 H => ?_) (fun r HX => XR_nc rfl HX)))
          refine r_invS (y := m_J4_rightOf) dJ4_fixAfterInsertion_51 rfl (lw_S q1734 q1735 q113 q1736) py_J4_rightOf (Nat.le_of_ble_eq_true rfl) (args := [_]) rfl rfl (Nat.le_of_ble_eq_true rfl) (C.monoE H (fun o h76 _ x78 K => cont_R K (fun v77 H => ?_) (fun r HX => XR_nc rfl HX)))
          refine r_astore_n dJ4_fixAfterInsertion_54 rfl (Nat.le_of_ble_eq_true rfl) rfl (slS (slS sl0)) ?_
          refine r_aload_n dJ4_fixAfterInsertion_55 rfl rfl ?_
          refine r_invS (y := m_J4_colorOf) dJ4_fixAfterInsertion_56 rfl (lw_S q1737 q1738 q113 q1739) py_J4_colorOf (Nat.le_of_ble_eq_true rfl) (args := [_]) rfl rfl (Nat.le_of_ble_eq_true rfl) (C.monoE H (fun o h79 _ x81 K => cont_I K (fun v80 H => ?_) (fun r HX => XR_nc rfl HX)))
          refine r_if_ne (tgt := 97) dJ4_fixAfterInsertion_59 rfl (fun b82 => ?_) (fun b82 => ?_)
          · replace H := H.1 b82
            refine r_aload_n dJ4_fixAfterInsertion_97 rfl rfl ?_
            refine r_aload_n dJ4_fixAfterInsertion_98 rfl rfl ?_
            refine r_invS (y := m_J4_parentOf) dJ4_fixAfterInsertion_99 rfl (lw_S q1728 q1729 q113 q1730) py_J4_parentOf (Nat.le_of_ble_eq_true rfl) (args := [_]) rfl rfl (Nat.le_of_ble_eq_true rfl) (C.monoE H (fun o h83 _ x85 K => cont_R K (fun v84 H => ?_) (fun r HX => XR_nc rfl HX)))
            refine r_invS (y := m_J4_rightOf) dJ4_fixAfterInsertion_102 rfl (lw_S q1734 q1735 q113 q1736) py_J4_rightOf (Nat.le_of_ble_eq_true rfl) (args := [_]) rfl rfl (Nat.le_of_ble_eq_true rfl) (C.monoE H (fun o h86 _ x88 K => cont_R K (fun v87 H => ?_) (fun r HX => XR_nc rfl HX)))
            refine r_acmp_ne (tgt := 118) dJ4_fixAfterInsertion_105 rfl (fun b89 => ?_) (fun b89 => ?_)
            · replace H := H.1 b89
              exact R.forget (v_J4_fixAfterInsertion_118 H) ⟨Or.inl rfl, ⟨Or.inl rfl, ⟨Or.inr rfl, trivial⟩⟩⟩
            · replace H := H.2 b89
              refine r_aload_n dJ4_fixAfterInsertion_108 rfl rfl ?_
              refine r_invS (y := m_J4_parentOf) dJ4_fixAfterInsertion_109 rfl (lw_S q1728 q1729 q113 q1730) py_J4_parentOf (Nat.le_of_ble_eq_true rfl) (args := [_]) rfl rfl (Nat.le_of_ble_eq_true rfl) (C.monoE H (fun o h90 _ x92 K => cont_R K (fun v91 H => ?_) (fun r HX => XR_nc rfl HX)))
              refine r_astore_n dJ4_fixAfterInsertion_112 rfl (Nat.le_of_ble_eq_true rfl) rfl (slS sl0) ?_
              refine r_aload_n dJ4_fixAfterInsertion_113 rfl rfl ?_
              refine r_aload_n dJ4_fixAfterInsertion_114 rfl rfl ?_
              refine r_invV (y := m_J4_rotateLeft) dJ4_fixAfterInsertion_115 rfl (lw_V q1743 q1745 qp16 q113 q1746) py_J4_rotateLeft (Nat.le_of_ble_eq_true rfl) (args := [_]) rfl rfl (Nat.le_of_ble_eq_true rfl) (x92.kd (x88.kd (x85.kd (x81.kd (x78.kd (x75.kd (x72.kd (x18.kd (x15.kd (x12.kd (x9.kd k2 (by decide)) (by decide)) (by decide)) (by decide)) (by decide)) (by decide)) (by decide)) (by decide)) (by decide)) (by decide)) (by decide)) (by decide) rfl (C.monoE H (fun o h93 _ x95 K => cont_V K (fun H => ?_) (fun r HX => XR_nc rfl HX)))
              exact R.forget (v_J4_fixAfterInsertion_118 H) ⟨Or.inl rfl, ⟨Or.inl rfl, ⟨Or.inr rfl, trivial⟩⟩⟩
          · replace H := H.2 b82
            refine r_aload_n dJ4_fixAfterInsertion_62 rfl rfl ?_
            refine r_invS (y := m_J4_parentOf) dJ4_fixAfterInsertion_63 rfl (lw_S q1728 q1729 q113 q1730) py_J4_parentOf (Nat.le_of_ble_eq_true rfl) (args := [_]) rfl rfl (Nat.le_of_ble_eq_true rfl) (C.monoE H (fun o h96 _ x98 K => cont_R K (fun v97 H => ?_) (fun r HX => XR_nc rfl HX)))
            refine r_iconst dJ4_fixAfterInsertion_66 rfl ?_
            refine r_invS (y := m_J4_setColor) dJ4_fixAfterInsertion_67 rfl (lw_S q1740 q1741 q113 q1742) py_J4_setColor (Nat.le_of_ble_eq_true rfl) (args := [_, _]) rfl rfl (Nat.le_of_ble_eq_true rfl) (C.monoE H (fun o h99 _ x101 K => cont_V K (fun H => ?_) (fun r HX => XR_nc rfl HX)))
            refine r_aload_n dJ4_fixAfterInsertion_70 rfl rfl ?_
            refine r_iconst dJ4_fixAfterInsertion_71 rfl ?_
            refine r_invS (y := m_J4_setColor) dJ4_fixAfterInsertion_72 rfl (lw_S q1740 q1741 q113 q1742) py_J4_setColor (Nat.le_of_ble_eq_true rfl) (args := [_, _]) rfl rfl (Nat.le_of_ble_eq_true rfl) (C.monoE H (fun o h102 _ x104 K => cont_V K (fun H => ?_) (fun r HX => XR_nc rfl HX)))
            refine r_aload_n dJ4_fixAfterInsertion_75 rfl rfl ?_
            refine r_invS (y := m_J4_parentOf) dJ4_fixAfterInsertion_76 rfl (lw_S q1728 q1729 q113 q1730) py_J4_parentOf (Nat.le_of_ble_eq_true rfl) (args := [_]) rfl rfl (Nat.le_of_ble_eq_true rfl) (C.monoE H (fun o h105 _ x107 K => cont_R K (fun v106 H => ?_) (fun r HX => XR_nc rfl HX)))
            refine r_invS (y := m_J4_parentOf) dJ4_fixAfterInsertion_79 rfl (lw_S q1728 q1729 q113 q1730) py_J4_parentOf (Nat.le_of_ble_eq_true rfl) (args := [_]) rfl rfl (Nat.le_of_ble_eq_true rfl) (C.monoE H (fun o h108 _ x110 K => cont_R K (fun v109 H => ?_) (fun r HX => XR_nc rfl HX)))
            refine r_iconst dJ4_fixAfterInsertion_82 rfl ?_
            refine r_invS (y := m_J4_setColor) dJ4_fixAfterInsertion_83 rfl (lw_S q1740 q1741 q113 q1742) py_J4_setColor (Nat.le_of_ble_eq_true rfl) (args := [_, _]) rfl rfl (Nat.le_of_ble_eq_true rfl) (C.monoE H (fun o h111 _ x113 K => cont_V K (fun H => ?_) (fun r HX => XR_nc rfl HX)))
            refine r_aload_n dJ4_fixAfterInsertion_86 rfl rfl ?_
            refine r_invS (y := m_J4_parentOf) dJ4_fixAfterInsertion_87 rfl (lw_S q1728 q1729 q113 q1730) py_J4_parentOf (Nat.le_of_ble_eq_true rfl) (args := [_]) rfl rfl (Nat.le_of_ble_eq_true rfl) (C.monoE H (fun o h114 _ x116 K => cont_R K (fun v115 H => ?_) (fun r HX => XR_nc rfl HX)))
            refine r_invS (y := m_J4_parentOf) dJ4_fixAfterInsertion_90 rfl (lw_S q1728 q1729 q113 q1730) py_J4_parentOf (Nat.le_of_ble_eq_true rfl) (args := [_]) rfl rfl (Nat.le_of_ble_eq_true rfl) (C.monoE H (fun o h117 _ x119 K => cont_R K (fun v118 H => ?_) (fun r HX => XR_nc rfl HX)))
            refine r_astore_n dJ4_fixAfterInsertion_93 rfl (Nat.le_of_ble_eq_true rfl) rfl (slS sl0) ?_
            refine r_goto (tgt := 148) dJ4_fixAfterInsertion_94 rfl ?_
            exact R.forget (v_J4_fixAfterInsertion_148 H) ⟨Or.inl rfl, ⟨Or.inl rfl, ⟨Or.inr rfl, trivial⟩⟩⟩
abbrev w_J4_fixAfterInsertion_0 (g : PG) (d : Nat) (l0 : Nat) (l1 : Nat) (h : PH) (Q : Out → PH → Prop) : Prop := hkd h l1 = 16 ∧ ∀ h2, h2 = setF 41 l1 (0 : Int32) h → R g d m_J4_fixAfterInsertion 5 [.ref l0, .ref l1, .null] [] h2 Q
theorem v_J4_fixAfterInsertion_0 {g : PG} {d : Nat} {l0 : Nat} {l1 : Nat} {h : PH} {Q : Out → PH → Prop} (H : w_J4_fixAfterInsertion_0 g d l0 l1 h Q) : R g d m_J4_fixAfterInsertion 0 [.ref l0, .ref l1, .null] [] h Q := by
  refine r_aload_n dJ4_fixAfterInsertion_0 rfl rfl ?_
  refine r_iconst dJ4_fixAfterInsertion_1 rfl ?_
  obtain ⟨k1, H⟩ := H
  replace H := H _ rfl
  refine r_putF fw_J4_290_16 (by decide) dJ4_fixAfterInsertion_2 k1 (by decide) rfl rfl ?_
  exact H
theorem c_J4_fixAfterInsertion_0 {g : PG} {d : Nat} {l0 : Nat} {l1 : Nat} {h : PH} {Q : Out → PH → Prop} (H : w_J4_fixAfterInsertion_0 g d l0 l1 h Q) : C g (d + 1) m_J4_fixAfterInsertion [.ref l0, .ref l1] h Q := C_of_R rfl rfl (Nat.le_of_ble_eq_true rfl) rfl (v_J4_fixAfterInsertion_0 H)
abbrev w_J4_parentOf_0 (g : PG) (d : Nat) (l0 : Nat) (h : PH) (Q : Out → PH → Prop) : Prop := ((¬ l0 = 0) → hkd h l0 = 16 ∧ Q (.inl (some (.ref (hG h 544 l0)))) h) ∧ ((l0 = 0) → Q (.inl (some (.ref (0 : Nat)))) h)
theorem v_J4_parentOf_0 {g : PG} {d : Nat} {l0 : Nat} {h : PH} {Q : Out → PH → Prop} (H : w_J4_parentOf_0 g d l0 h Q) : R g d m_J4_parentOf 0 [.ref l0] [] h Q := by
  refine r_aload_n dJ4_parentOf_0 rfl rfl ?_
  refine r_ifnonnull (tgt := 8) dJ4_parentOf_1 rfl (fun b1 => ?_) (fun b1 => ?_)
  · replace H := H.1 b1
    refine r_aload_n dJ4_parentOf_8 rfl rfl ?_
    obtain ⟨k2, H⟩ := H
    refine r_getG fr_J4_124_16 (by decide) dJ4_parentOf_9 k2 (by decide) ?_
    exact r_aret dJ4_parentOf_12 rfl H
  · replace H := H.2 b1
    refine r_null dJ4_parentOf_4 ?_
    refine r_goto (tgt := 12) dJ4_parentOf_5 rfl ?_
    exact r_aret dJ4_parentOf_12 rfl H
theorem c_J4_parentOf_0 {g : PG} {d : Nat} {l0 : Nat} {h : PH} {Q : Out → PH → Prop} (H : w_J4_parentOf_0 g d l0 h Q) : C g (d + 1) m_J4_parentOf [.ref l0] h Q := C_of_R rfl rfl (Nat.le_of_ble_eq_true rfl) rfl (v_J4_parentOf_0 H)
abbrev w_J4_leftOf_0 (g : PG) (d : Nat) (l0 : Nat) (h : PH) (Q : Out → PH → Prop) : Prop := ((¬ l0 = 0) → hkd h l0 = 16 ∧ Q (.inl (some (.ref (hG h 542 l0)))) h) ∧ ((l0 = 0) → Q (.inl (some (.ref (0 : Nat)))) h)
theorem v_J4_leftOf_0 {g : PG} {d : Nat} {l0 : Nat} {h : PH} {Q : Out → PH → Prop} (H : w_J4_leftOf_0 g d l0 h Q) : R g d m_J4_leftOf 0 [.ref l0] [] h Q := by
  refine r_aload_n dJ4_leftOf_0 rfl rfl ?_
  refine r_ifnonnull (tgt := 8) dJ4_leftOf_1 rfl (fun b1 => ?_) (fun b1 => ?_)
  · replace H := H.1 b1
    refine r_aload_n dJ4_leftOf_8 rfl rfl ?_
    obtain ⟨k2, H⟩ := H
    refine r_getG fr_J4_111_16 (by decide) dJ4_leftOf_9 k2 (by decide) ?_
    exact r_aret dJ4_leftOf_12 rfl H
  · replace H := H.2 b1
    refine r_null dJ4_leftOf_4 ?_
    refine r_goto (tgt := 12) dJ4_leftOf_5 rfl ?_
    exact r_aret dJ4_leftOf_12 rfl H
theorem c_J4_leftOf_0 {g : PG} {d : Nat} {l0 : Nat} {h : PH} {Q : Out → PH → Prop} (H : w_J4_leftOf_0 g d l0 h Q) : C g (d + 1) m_J4_leftOf [.ref l0] h Q := C_of_R rfl rfl (Nat.le_of_ble_eq_true rfl) rfl (v_J4_leftOf_0 H)
abbrev w_J4_rightOf_0 (g : PG) (d : Nat) (l0 : Nat) (h : PH) (Q : Out → PH → Prop) : Prop := ((¬ l0 = 0) → hkd h l0 = 16 ∧ Q (.inl (some (.ref (hG h 543 l0)))) h) ∧ ((l0 = 0) → Q (.inl (some (.ref (0 : Nat)))) h)
theorem v_J4_rightOf_0 {g : PG} {d : Nat} {l0 : Nat} {h : PH} {Q : Out → PH → Prop} (H : w_J4_rightOf_0 g d l0 h Q) : R g d m_J4_rightOf 0 [.ref l0] [] h Q := by
  refine r_aload_n dJ4_rightOf_0 rfl rfl ?_
  refine r_ifnonnull (tgt := 8) dJ4_rightOf_1 rfl (fun b1 => ?_) (fun b1 => ?_)
  · replace H := H.1 b1
    refine r_aload_n dJ4_rightOf_8 rfl rfl ?_
    obtain ⟨k2, H⟩ := H
    refine r_getG fr_J4_114_16 (by decide) dJ4_rightOf_9 k2 (by decide) ?_
    exact r_aret dJ4_rightOf_12 rfl H
  · replace H := H.2 b1
    refine r_null dJ4_rightOf_4 ?_
    refine r_goto (tgt := 12) dJ4_rightOf_5 rfl ?_
    exact r_aret dJ4_rightOf_12 rfl H
theorem c_J4_rightOf_0 {g : PG} {d : Nat} {l0 : Nat} {h : PH} {Q : Out → PH → Prop} (H : w_J4_rightOf_0 g d l0 h Q) : C g (d + 1) m_J4_rightOf [.ref l0] h Q := C_of_R rfl rfl (Nat.le_of_ble_eq_true rfl) rfl (v_J4_rightOf_0 H)
abbrev w_J4_colorOf_0 (g : PG) (d : Nat) (l0 : Nat) (h : PH) (Q : Out → PH → Prop) : Prop := ((¬ l0 = 0) → hkd h l0 = 16 ∧ narrow .boolean (.int (hF h 41 l0)) = .int (hF h 41 l0) ∧ Q (.inl (some (.int (hF h 41 l0)))) h) ∧ ((l0 = 0) → Q (.inl (some (.int 1))) h)
theorem v_J4_colorOf_0 {g : PG} {d : Nat} {l0 : Nat} {h : PH} {Q : Out → PH → Prop} (H : w_J4_colorOf_0 g d l0 h Q) : R g d m_J4_colorOf 0 [.ref l0] [] h Q := by
  refine r_aload_n dJ4_colorOf_0 rfl rfl ?_
  refine r_ifnonnull (tgt := 8) dJ4_colorOf_1 rfl (fun b1 => ?_) (fun b1 => ?_)
  · replace H := H.1 b1
    refine r_aload_n dJ4_colorOf_8 rfl rfl ?_
    obtain ⟨k2, H⟩ := H
    refine r_getF fr_J4_290_16 (by decide) dJ4_colorOf_9 k2 (by decide) ?_
    exact r_zret dJ4_colorOf_12 rfl H.1 H.2
  · replace H := H.2 b1
    refine r_iconst dJ4_colorOf_4 rfl ?_
    refine r_goto (tgt := 12) dJ4_colorOf_5 rfl ?_
    exact r_zret dJ4_colorOf_12 rfl rfl H
theorem c_J4_colorOf_0 {g : PG} {d : Nat} {l0 : Nat} {h : PH} {Q : Out → PH → Prop} (H : w_J4_colorOf_0 g d l0 h Q) : C g (d + 1) m_J4_colorOf [.ref l0] h Q := C_of_R rfl rfl (Nat.le_of_ble_eq_true rfl) rfl (v_J4_colorOf_0 H)
abbrev w_J4_setColor_0 (g : PG) (d : Nat) (l0 : Nat) (l1 : Int32) (h : PH) (Q : Out → PH → Prop) : Prop := ((l0 = 0) → Q (.inl none) h) ∧ ((¬ l0 = 0) → hkd h l0 = 16 ∧ narrow .boolean (.int l1) = .int l1 ∧ fits .boolean (.int l1) = true ∧ ∀ h3, h3 = setF 41 l0 l1 h → Q (.inl none) h3)
theorem v_J4_setColor_0 {g : PG} {d : Nat} {l0 : Nat} {l1 : Int32} {h : PH} {Q : Out → PH → Prop} (H : w_J4_setColor_0 g d l0 l1 h Q) : R g d m_J4_setColor 0 [.ref l0, .int l1] [] h Q := by
  refine r_aload_n dJ4_setColor_0 rfl rfl ?_
  refine r_ifnull (tgt := 9) dJ4_setColor_1 rfl (fun b1 => ?_) (fun b1 => ?_)
  · replace H := H.1 b1
    exact r_vret dJ4_setColor_9 rfl H
  · replace H := H.2 b1
    refine r_aload_n dJ4_setColor_4 rfl rfl ?_
    refine r_iload_n dJ4_setColor_5 rfl rfl ?_
    obtain ⟨k2, H⟩ := H
    obtain ⟨k4, H⟩ := H
    obtain ⟨k5, H⟩ := H
    replace H := H _ rfl
    refine r_putF fw_J4_290_16 (by decide) dJ4_setColor_6 k2 (by decide) k4 k5 ?_
    exact r_vret dJ4_setColor_9 rfl H
theorem c_J4_setColor_0 {g : PG} {d : Nat} {l0 : Nat} {l1 : Int32} {h : PH} {Q : Out → PH → Prop} (H : w_J4_setColor_0 g d l0 l1 h Q) : C g (d + 1) m_J4_setColor [.ref l0, .int l1] h Q := C_of_R rfl rfl (Nat.le_of_ble_eq_true rfl) rfl (v_J4_setColor_0 H)
abbrev w_J4_rotateLeft_85 (g : PG) (d : Nat) (l1 : Nat) (l2 : Nat) (h : PH) (Q : Out → PH → Prop) : Prop := hkd h l2 = 16 ∧ ∀ h2, h2 = setG 542 l2 l1 h → hkd h2 l1 = 16 ∧ ∀ h4, h4 = setG 544 l1 l2 h2 → Q (.inl none) h4
theorem v_J4_rotateLeft_85 {g : PG} {d : Nat} {l1 : Nat} {l2 : Nat} {h : PH} {Q : Out → PH → Prop} (H : w_J4_rotateLeft_85 g d l1 l2 h Q) : R g d m_J4_rotateLeft 85 [.null, .ref l1, .ref l2] [] h Q := by
  refine r_aload_n dJ4_rotateLeft_85 rfl rfl ?_
  refine r_aload_n dJ4_rotateLeft_86 rfl rfl ?_
  obtain ⟨k1, H⟩ := H
  replace H := H _ rfl
  refine r_putG fw_J4_111_16 (by decide) dJ4_rotateLeft_87 k1 (by decide) rfl ?_
  refine r_aload_n dJ4_rotateLeft_90 rfl rfl ?_
  refine r_aload_n dJ4_rotateLeft_91 rfl rfl ?_
  obtain ⟨k3, H⟩ := H
  replace H := H _ rfl
  refine r_putG fw_J4_124_16 (by decide) dJ4_rotateLeft_92 k3 (by decide) rfl ?_
  exact r_vret dJ4_rotateLeft_95 rfl H
abbrev w_J4_rotateLeft_32 (g : PG) (d : Nat) (l0 : Nat) (l1 : Nat) (l2 : Nat) (h : PH) (Q : Out → PH → Prop) : Prop := hkd h l1 = 16 ∧ hkd h l2 = 16 ∧ ∀ h3, h3 = setG 544 l2 (hG h 544 l1) h → ((¬ (hG h3 544 l1) = 0) → hkd h3 (hG h3 544 l1) = 16 ∧ ((¬ (hG h3 542 (hG h3 544 l1)) = l1) → ∀ h7, h7 = setG 543 (hG h3 544 l1) l2 h3 → w_J4_rotateLeft_85 g d l1 l2 h7 Q) ∧ (((hG h3 542 (hG h3 544 l1)) = l1) → ∀ h8, h8 = setG 542 (hG h3 544 l1) l2 h3 → w_J4_rotateLeft_85 g d l1 l2 h8 Q)) ∧ (((hG h3 544 l1) = 0) → hkd h3 l0 = 15 ∧ ∀ h10, h10 = setG 536 l0 l2 h3 → w_J4_rotateLeft_85 g d l1 l2 h10 Q)
theorem v_J4_rotateLeft_32 {g : PG} {d : Nat} {l0 : Nat} {l1 : Nat} {l2 : Nat} {h : PH} {Q : Out → PH → Prop} (H : w_J4_rotateLeft_32 g d l0 l1 l2 h Q) : R g d m_J4_rotateLeft 32 [.ref l0, .ref l1, .ref l2] [] h Q := by
  refine r_aload_n dJ4_rotateLeft_32 rfl rfl ?_
  refine r_aload_n dJ4_rotateLeft_33 rfl rfl ?_
  obtain ⟨k1, H⟩ := H
  refine r_getG fr_J4_124_16 (by decide) dJ4_rotateLeft_34 k1 (by decide) ?_
  obtain ⟨k2, H⟩ := H
  replace H := H _ rfl
  refine r_putG fw_J4_124_16 (by decide) dJ4_rotateLeft_37 k2 (by decide) rfl ?_
  refine r_aload_n dJ4_rotateLeft_40 rfl rfl ?_
  refine r_getG fr_J4_124_16 (by decide) dJ4_rotateLeft_41 k1 (by decide) ?_
  refine r_ifnonnull (tgt := 55) dJ4_rotateLeft_44 rfl (fun b4 => ?_) (fun b4 => ?_)
  · replace H := H.1 b4
    refine r_aload_n dJ4_rotateLeft_55 rfl rfl ?_
    refine r_getG fr_J4_124_16 (by decide) dJ4_rotateLeft_56 k1 (by decide) ?_
    obtain ⟨k5, H⟩ := H
    refine r_getG fr_J4_111_16 (by decide) dJ4_rotateLeft_59 k5 (by decide) ?_
    refine r_aload_n dJ4_rotateLeft_62 rfl rfl ?_
    refine r_acmp_ne (tgt := 77) dJ4_rotateLeft_63 rfl (fun b6 => ?_) (fun b6 => ?_)
    · replace H := H.1 b6
      refine r_aload_n dJ4_rotateLeft_77 rfl rfl ?_
      refine r_getG fr_J4_124_16 (by decide) dJ4_rotateLeft_78 k1 (by decide) ?_
      refine r_aload_n dJ4_rotateLeft_81 rfl rfl ?_
      replace H := H _ rfl
      refine r_putG fw_J4_114_16 (by decide) dJ4_rotateLeft_82 k5 (by decide) rfl ?_
      exact R.forget (v_J4_rotateLeft_85 H) ⟨Or.inr rfl, ⟨Or.inl rfl, ⟨Or.inl rfl, trivial⟩⟩⟩
    · replace H := H.2 b6
      refine r_aload_n dJ4_rotateLeft_66 rfl rfl ?_
      refine r_getG fr_J4_124_16 (by decide) dJ4_rotateLeft_67 k1 (by decide) ?_
      refine r_aload_n dJ4_rotateLeft_70 rfl rfl ?_
      replace H := H _ rfl
      refine r_putG fw_J4_111_16 (by decide) dJ4_rotateLeft_71 k5 (by decide) rfl ?_
      refine r_goto (tgt := 85) dJ4_rotateLeft_74 rfl ?_
      exact R.forget (v_J4_rotateLeft_85 H) ⟨Or.inr rfl, ⟨Or.inl rfl, ⟨Or.inl rfl, trivial⟩⟩⟩
  · replace H := H.2 b4
    refine r_aload_n dJ4_rotateLeft_47 rfl rfl ?_
    refine r_aload_n dJ4_rotateLeft_48 rfl rfl ?_
    obtain ⟨k9, H⟩ := H
    replace H := H _ rfl
    refine r_putG fw_J4_101_15 (by decide) dJ4_rotateLeft_49 k9 (by decide) rfl ?_
    refine r_goto (tgt := 85) dJ4_rotateLeft_52 rfl ?_
    exact R.forget (v_J4_rotateLeft_85 H) ⟨Or.inr rfl, ⟨Or.inl rfl, ⟨Or.inl rfl, trivial⟩⟩⟩
abbrev w_J4_rotateLeft_0 (g : PG) (d : Nat) (l0 : Nat) (l1 : Nat) (h : PH) (Q : Out → PH → Prop) : Prop := ((l1 = 0) → Q (.inl none) h) ∧ ((¬ l1 = 0) → hkd h l1 = 16 ∧ hkd h (hG h 543 l1) = 16 ∧ ∀ h4, h4 = setG 543 l1 (hG h 542 (hG h 543 l1)) h → (((hG h4 542 (hG h 543 l1)) = 0) → w_J4_rotateLeft_32 g d l0 l1 (hG h 543 l1) h4 Q) ∧ ((¬ (hG h4 542 (hG h 543 l1)) = 0) → hkd h4 (hG h4 542 (hG h 543 l1)) = 16 ∧ ∀ h7, h7 = setG 544 (hG h4 542 (hG h 543 l1)) l1 h4 → w_J4_rotateLeft_32 g d l0 l1 (hG h 543 l1) h7 Q))
theorem v_J4_rotateLeft_0 {g : PG} {d : Nat} {l0 : Nat} {l1 : Nat} {h : PH} {Q : Out → PH → Prop} (H : w_J4_rotateLeft_0 g d l0 l1 h Q) : R g d m_J4_rotateLeft 0 [.ref l0, .ref l1, .null] [] h Q := by
  refine r_aload_n dJ4_rotateLeft_0 rfl rfl ?_
  refine r_ifnull (tgt := 95) dJ4_rotateLeft_1 rfl (fun b1 => ?_) (fun b1 => ?_)
  · replace H := H.1 b1
    exact r_vret dJ4_rotateLeft_95 rfl H
  · replace H := H.2 b1
    refine r_aload_n dJ4_rotateLeft_4 rfl rfl ?_
    obtain ⟨k2, H⟩ := H
    refine r_getG fr_J4_114_16 (by decide) dJ4_rotateLeft_5 k2 (by decide) ?_
    refine r_astore_n dJ4_rotateLeft_8 rfl (Nat.le_of_ble_eq_true rfl) rfl (slS (slS sl0)) ?_
    refine r_aload_n dJ4_rotateLeft_9 rfl rfl ?_
    refine r_aload_n dJ4_rotateLeft_10 rfl rfl ?_
    obtain ⟨k3, H⟩ := H
    refine r_getG fr_J4_111_16 (by decide) dJ4_rotateLeft_11 k3 (by decide) ?_
    replace H := H _ rfl
    refine r_putG fw_J4_114_16 (by decide) dJ4_rotateLeft_14 k2 (by decide) rfl ?_
    refine r_aload_n dJ4_rotateLeft_17 rfl rfl ?_
    refine r_getG fr_J4_111_16 (by decide) dJ4_rotateLeft_18 k3 (by decide) ?_
    refine r_ifnull (tgt := 32) dJ4_rotateLeft_21 rfl (fun b5 => ?_) (fun b5 => ?_)
    · replace H := H.1 b5
      exact v_J4_rotateLeft_32 H
    · replace H := H.2 b5
      refine r_aload_n dJ4_rotateLeft_24 rfl rfl ?_
      refine r_getG fr_J4_111_16 (by decide) dJ4_rotateLeft_25 k3 (by decide) ?_
      refine r_aload_n dJ4_rotateLeft_28 rfl rfl ?_
      obtain ⟨k6, H⟩ := H
      replace H := H _ rfl
      refine r_putG fw_J4_124_16 (by decide) dJ4_rotateLeft_29 k6 (by decide) rfl ?_
      exact v_J4_rotateLeft_32 H
theorem c_J4_rotateLeft_0 {g : PG} {d : Nat} {l0 : Nat} {l1 : Nat} {h : PH} {Q : Out → PH → Prop} (H : w_J4_rotateLeft_0 g d l0 l1 h Q) : C g (d + 1) m_J4_rotateLeft [.ref l0, .ref l1] h Q := C_of_R rfl rfl (Nat.le_of_ble_eq_true rfl) rfl (v_J4_rotateLeft_0 H)
abbrev w_J4_rotateRight_85 (g : PG) (d : Nat) (l1 : Nat) (l2 : Nat) (h : PH) (Q : Out → PH → Prop) : Prop := hkd h l2 = 16 ∧ ∀ h2, h2 = setG 543 l2 l1 h → hkd h2 l1 = 16 ∧ ∀ h4, h4 = setG 544 l1 l2 h2 → Q (.inl none) h4
theorem v_J4_rotateRight_85 {g : PG} {d : Nat} {l1 : Nat} {l2 : Nat} {h : PH} {Q : Out → PH → Prop} (H : w_J4_rotateRight_85 g d l1 l2 h Q) : R g d m_J4_rotateRight 85 [.null, .ref l1, .ref l2] [] h Q := by
  refine r_aload_n dJ4_rotateRight_85 rfl rfl ?_
  refine r_aload_n dJ4_rotateRight_86 rfl rfl ?_
  obtain ⟨k1, H⟩ := H
  replace H := H _ rfl
  refine r_putG fw_J4_114_16 (by decide) dJ4_rotateRight_87 k1 (by decide) rfl ?_
  refine r_aload_n dJ4_rotateRight_90 rfl rfl ?_
  refine r_aload_n dJ4_rotateRight_91 rfl rfl ?_
  obtain ⟨k3, H⟩ := H
  replace H := H _ rfl
  refine r_putG fw_J4_124_16 (by decide) dJ4_rotateRight_92 k3 (by decide) rfl ?_
  exact r_vret dJ4_rotateRight_95 rfl H
abbrev w_J4_rotateRight_32 (g : PG) (d : Nat) (l0 : Nat) (l1 : Nat) (l2 : Nat) (h : PH) (Q : Out → PH → Prop) : Prop := hkd h l1 = 16 ∧ hkd h l2 = 16 ∧ ∀ h3, h3 = setG 544 l2 (hG h 544 l1) h → ((¬ (hG h3 544 l1) = 0) → hkd h3 (hG h3 544 l1) = 16 ∧ ((¬ (hG h3 543 (hG h3 544 l1)) = l1) → ∀ h7, h7 = setG 542 (hG h3 544 l1) l2 h3 → w_J4_rotateRight_85 g d l1 l2 h7 Q) ∧ (((hG h3 543 (hG h3 544 l1)) = l1) → ∀ h8, h8 = setG 543 (hG h3 544 l1) l2 h3 → w_J4_rotateRight_85 g d l1 l2 h8 Q)) ∧ (((hG h3 544 l1) = 0) → hkd h3 l0 = 15 ∧ ∀ h10, h10 = setG 536 l0 l2 h3 → w_J4_rotateRight_85 g d l1 l2 h10 Q)
theorem v_J4_rotateRight_32 {g : PG} {d : Nat} {l0 : Nat} {l1 : Nat} {l2 : Nat} {h : PH} {Q : Out → PH → Prop} (H : w_J4_rotateRight_32 g d l0 l1 l2 h Q) : R g d m_J4_rotateRight 32 [.ref l0, .ref l1, .ref l2] [] h Q := by
  refine r_aload_n dJ4_rotateRight_32 rfl rfl ?_
  refine r_aload_n dJ4_rotateRight_33 rfl rfl ?_
  obtain ⟨k1, H⟩ := H
  refine r_getG fr_J4_124_16 (by decide) dJ4_rotateRight_34 k1 (by decide) ?_
  obtain ⟨k2, H⟩ := H
  replace H := H _ rfl
  refine r_putG fw_J4_124_16 (by decide) dJ4_rotateRight_37 k2 (by decide) rfl ?_
  refine r_aload_n dJ4_rotateRight_40 rfl rfl ?_
  refine r_getG fr_J4_124_16 (by decide) dJ4_rotateRight_41 k1 (by decide) ?_
  refine r_ifnonnull (tgt := 55) dJ4_rotateRight_44 rfl (fun b4 => ?_) (fun b4 => ?_)
  · replace H := H.1 b4
    refine r_aload_n dJ4_rotateRight_55 rfl rfl ?_
    refine r_getG fr_J4_124_16 (by decide) dJ4_rotateRight_56 k1 (by decide) ?_
    obtain ⟨k5, H⟩ := H
    refine r_getG fr_J4_114_16 (by decide) dJ4_rotateRight_59 k5 (by decide) ?_
    refine r_aload_n dJ4_rotateRight_62 rfl rfl ?_
    refine r_acmp_ne (tgt := 77) dJ4_rotateRight_63 rfl (fun b6 => ?_) (fun b6 => ?_)
    · replace H := H.1 b6
      refine r_aload_n dJ4_rotateRight_77 rfl rfl ?_
      refine r_getG fr_J4_124_16 (by decide) dJ4_rotateRight_78 k1 (by decide) ?_
      refine r_aload_n dJ4_rotateRight_81 rfl rfl ?_
      replace H := H _ rfl
      refine r_putG fw_J4_111_16 (by decide) dJ4_rotateRight_82 k5 (by decide) rfl ?_
      exact R.forget (v_J4_rotateRight_85 H) ⟨Or.inr rfl, ⟨Or.inl rfl, ⟨Or.inl rfl, trivial⟩⟩⟩
    · replace H := H.2 b6
      refine r_aload_n dJ4_rotateRight_66 rfl rfl ?_
      refine r_getG fr_J4_124_16 (by decide) dJ4_rotateRight_67 k1 (by decide) ?_
      refine r_aload_n dJ4_rotateRight_70 rfl rfl ?_
      replace H := H _ rfl
      refine r_putG fw_J4_114_16 (by decide) dJ4_rotateRight_71 k5 (by decide) rfl ?_
      refine r_goto (tgt := 85) dJ4_rotateRight_74 rfl ?_
      exact R.forget (v_J4_rotateRight_85 H) ⟨Or.inr rfl, ⟨Or.inl rfl, ⟨Or.inl rfl, trivial⟩⟩⟩
  · replace H := H.2 b4
    refine r_aload_n dJ4_rotateRight_47 rfl rfl ?_
    refine r_aload_n dJ4_rotateRight_48 rfl rfl ?_
    obtain ⟨k9, H⟩ := H
    replace H := H _ rfl
    refine r_putG fw_J4_101_15 (by decide) dJ4_rotateRight_49 k9 (by decide) rfl ?_
    refine r_goto (tgt := 85) dJ4_rotateRight_52 rfl ?_
    exact R.forget (v_J4_rotateRight_85 H) ⟨Or.inr rfl, ⟨Or.inl rfl, ⟨Or.inl rfl, trivial⟩⟩⟩
abbrev w_J4_rotateRight_0 (g : PG) (d : Nat) (l0 : Nat) (l1 : Nat) (h : PH) (Q : Out → PH → Prop) : Prop := ((l1 = 0) → Q (.inl none) h) ∧ ((¬ l1 = 0) → hkd h l1 = 16 ∧ hkd h (hG h 542 l1) = 16 ∧ ∀ h4, h4 = setG 542 l1 (hG h 543 (hG h 542 l1)) h → (((hG h4 543 (hG h 542 l1)) = 0) → w_J4_rotateRight_32 g d l0 l1 (hG h 542 l1) h4 Q) ∧ ((¬ (hG h4 543 (hG h 542 l1)) = 0) → hkd h4 (hG h4 543 (hG h 542 l1)) = 16 ∧ ∀ h7, h7 = setG 544 (hG h4 543 (hG h 542 l1)) l1 h4 → w_J4_rotateRight_32 g d l0 l1 (hG h 542 l1) h7 Q))
theorem v_J4_rotateRight_0 {g : PG} {d : Nat} {l0 : Nat} {l1 : Nat} {h : PH} {Q : Out → PH → Prop} (H : w_J4_rotateRight_0 g d l0 l1 h Q) : R g d m_J4_rotateRight 0 [.ref l0, .ref l1, .null] [] h Q := by
  refine r_aload_n dJ4_rotateRight_0 rfl rfl ?_
  refine r_ifnull (tgt := 95) dJ4_rotateRight_1 rfl (fun b1 => ?_) (fun b1 => ?_)
  · replace H := H.1 b1
    exact r_vret dJ4_rotateRight_95 rfl H
  · replace H := H.2 b1
    refine r_aload_n dJ4_rotateRight_4 rfl rfl ?_
    obtain ⟨k2, H⟩ := H
    refine r_getG fr_J4_111_16 (by decide) dJ4_rotateRight_5 k2 (by decide) ?_
    refine r_astore_n dJ4_rotateRight_8 rfl (Nat.le_of_ble_eq_true rfl) rfl (slS (slS sl0)) ?_
    refine r_aload_n dJ4_rotateRight_9 rfl rfl ?_
    refine r_aload_n dJ4_rotateRight_10 rfl rfl ?_
    obtain ⟨k3, H⟩ := H
    refine r_getG fr_J4_114_16 (by decide) dJ4_rotateRight_11 k3 (by decide) ?_
    replace H := H _ rfl
    refine r_putG fw_J4_111_16 (by decide) dJ4_rotateRight_14 k2 (by decide) rfl ?_
    refine r_aload_n dJ4_rotateRight_17 rfl rfl ?_
    refine r_getG fr_J4_114_16 (by decide) dJ4_rotateRight_18 k3 (by decide) ?_
    refine r_ifnull (tgt := 32) dJ4_rotateRight_21 rfl (fun b5 => ?_) (fun b5 => ?_)
    · replace H := H.1 b5
      exact v_J4_rotateRight_32 H
    · replace H := H.2 b5
      refine r_aload_n dJ4_rotateRight_24 rfl rfl ?_
      refine r_getG fr_J4_114_16 (by decide) dJ4_rotateRight_25 k3 (by decide) ?_
      refine r_aload_n dJ4_rotateRight_28 rfl rfl ?_
      obtain ⟨k6, H⟩ := H
      replace H := H _ rfl
      refine r_putG fw_J4_124_16 (by decide) dJ4_rotateRight_29 k6 (by decide) rfl ?_
      exact v_J4_rotateRight_32 H
theorem c_J4_rotateRight_0 {g : PG} {d : Nat} {l0 : Nat} {l1 : Nat} {h : PH} {Q : Out → PH → Prop} (H : w_J4_rotateRight_0 g d l0 l1 h Q) : C g (d + 1) m_J4_rotateRight [.ref l0, .ref l1] h Q := C_of_R rfl rfl (Nat.le_of_ble_eq_true rfl) rfl (v_J4_rotateRight_0 H)
abbrev w_J4_values_0 (g : PG) (d : Nat) (l0 : Nat) (h : PH) (Q : Out → PH → Prop) : Prop := hkd h l0 = 15 ∧ ((¬ (hG h 534 l0) = 0) → Q (.inl (some (.ref (hG h 534 l0)))) h) ∧ (((hG h 534 l0) = 0) → ∀ h3, h3 = hnew 19 0 2 h → 0 < (hnx h) ∧ C g d m_J49_init [.ref (hnx h), .ref l0] h3 (oV (fun h5 => hkd h5 l0 = 15 ∧ ∀ h9, h9 = setG 534 l0 (hnx h) h5 → Q (.inl (some (.ref (hnx h)))) h9) (fun r hx => Q (.inr r) hx)))
theorem v_J4_values_0 {g : PG} {d : Nat} {l0 : Nat} {h : PH} {Q : Out → PH → Prop} (H : w_J4_values_0 g d l0 h Q) : R g d m_J4_values 0 [.ref l0, .null] [] h Q := by
  refine r_aload_n dJ4_values_0 rfl rfl ?_
  obtain ⟨k1, H⟩ := H
  refine r_getG fr_J4_233_15 (by decide) dJ4_values_1 k1 (by decide) ?_
  refine r_astore_n dJ4_values_4 rfl (Nat.le_of_ble_eq_true rfl) rfl (slS sl0) ?_
  refine r_aload_n dJ4_values_5 rfl rfl ?_
  refine r_ifnonnull (tgt := 23) dJ4_values_6 rfl (fun b2 => ?_) (fun b2 => ?_)
  · replace H := H.1 b2
    refine r_aload_n dJ4_values_23 rfl rfl ?_
    exact r_aret dJ4_values_24 rfl H
  · replace H := H.2 b2
    replace H := H _ rfl
    refine r_new (ci := 19) dJ4_values_9 rfl (by decide) q1755 q1756 q169 ?_
    refine r_dup dJ4_values_12 rfl ?_
    refine r_aload_n dJ4_values_13 rfl rfl ?_
    obtain ⟨k4, H⟩ := H
    refine r_invI (y := m_J49_init) dJ4_values_14 rfl rfl q1759 q169 q1757 q1758 rfl py_J49_init (Nat.le_of_ble_eq_true rfl) (args := [_]) rfl rfl (Nat.le_of_ble_eq_true rfl) k4 (C.monoE H (fun o h5 _ x7 K => cont_V K (fun H => ?_) (fun r HX => XR_nc rfl HX)))
    refine r_astore_n dJ4_values_17 rfl (Nat.le_of_ble_eq_true rfl) rfl (slS sl0) ?_
    refine r_aload_n dJ4_values_18 rfl rfl ?_
    refine r_aload_n dJ4_values_19 rfl rfl ?_
    obtain ⟨k8, H⟩ := H
    replace H := H _ rfl
    refine r_putG fw_J4_233_15 (by decide) dJ4_values_20 k8 (by decide) rfl ?_
    refine r_aload_n dJ4_values_23 rfl rfl ?_
    exact r_aret dJ4_values_24 rfl H
theorem c_J4_values_0 {g : PG} {d : Nat} {l0 : Nat} {h : PH} {Q : Out → PH → Prop} (H : w_J4_values_0 g d l0 h Q) : C g (d + 1) m_J4_values [.ref l0] h Q := C_of_R rfl rfl (Nat.le_of_ble_eq_true rfl) rfl (v_J4_values_0 H)
abbrev w_J4_size_0 (g : PG) (d : Nat) (l0 : Nat) (h : PH) (Q : Out → PH → Prop) : Prop := hkd h l0 = 15 ∧ Q (.inl (some (.int (hF h 39 l0)))) h
theorem v_J4_size_0 {g : PG} {d : Nat} {l0 : Nat} {h : PH} {Q : Out → PH → Prop} (H : w_J4_size_0 g d l0 h Q) : R g d m_J4_size 0 [.ref l0] [] h Q := by
  refine r_aload_n dJ4_size_0 rfl rfl ?_
  obtain ⟨k1, H⟩ := H
  refine r_getF fr_J4_7_15 (by decide) dJ4_size_1 k1 (by decide) ?_
  exact r_iret dJ4_size_4 rfl H
theorem c_J4_size_0 {g : PG} {d : Nat} {l0 : Nat} {h : PH} {Q : Out → PH → Prop} (H : w_J4_size_0 g d l0 h Q) : C g (d + 1) m_J4_size [.ref l0] h Q := C_of_R rfl rfl (Nat.le_of_ble_eq_true rfl) rfl (v_J4_size_0 H)
abbrev w_J4_putAll_77 (g : PG) (d : Nat) (l0 : Nat) (l1 : Nat) (h : PH) (Q : Out → PH → Prop) : Prop := hkd h l0 = 15 ∧ C g d m_J3_putAll [.ref l0, .ref l1] h (oV (fun h2 => Q (.inl none) h2) (fun r hx => Q (.inr r) hx))
theorem v_J4_putAll_77 {g : PG} {d : Nat} {l0 : Nat} {l1 : Nat} {h : PH} {Q : Out → PH → Prop} (H : w_J4_putAll_77 g d l0 l1 h Q) : R g d m_J4_putAll 77 [.ref l0, .ref l1, .null, .null] [] h Q := by
  refine r_aload_n dJ4_putAll_77 rfl rfl ?_
  refine r_aload_n dJ4_putAll_78 rfl rfl ?_
  obtain ⟨k1, H⟩ := H
  refine r_invSU (y := m_J3_putAll) (k := 15) dJ4_putAll_79 rfl (lw_SUq q2258 q3692 q261 q2259 q112 q2260) (by decide) (n := 1) (by decide +kernel) (Nat.le_of_ble_eq_true rfl) (args := [_]) rfl rfl (Nat.le_of_ble_eq_true rfl) k1 (by decide) (C.monoE H (fun o h2 _ x4 K => cont_V K (fun H => ?_) (fun r HX => XR_nc rfl HX)))
  exact r_vret dJ4_putAll_82 rfl H
abbrev w_J4_putAll_75 (g : PG) (d : Nat) (s0 : Nat) (h : PH) (Q : Out → PH → Prop) : Prop := Q (.inl none) h
theorem v_J4_putAll_75 {g : PG} {d : Nat} {s0 : Nat} {h : PH} {Q : Out → PH → Prop} (H : w_J4_putAll_75 g d s0 h Q) : R g d m_J4_putAll 75 [.null, .null, .null, .null] [.ref s0] h Q := by
  refine r_astore_n dJ4_putAll_75 rfl (Nat.le_of_ble_eq_true rfl) rfl (slS (slS (slS sl0))) ?_
  exact r_vret dJ4_putAll_76 rfl H
abbrev w_J4_putAll_0 (g : PG) (d : Nat) (l0 : Nat) (l1 : Nat) (h : PH) (Q : Out → PH → Prop) : Prop := hkd h l1 = 15 ∧ C g d m_J4_size [.ref l1] h (oI (fun v3 h2 => hkd h2 l0 = 15 ∧ ((¬ (hF h2 39 l0) = 0) → w_J4_putAll_77 g d l0 l1 h2 Q) ∧ (((hF h2 39 l0) = 0) → ((v3 = 0) → w_J4_putAll_77 g d l0 l1 h2 Q) ∧ ((¬ v3 = 0) → (l1 = 0 → (((0 : Int32) = 0) → w_J4_putAll_77 g d l0 l1 h2 Q) ∧ ((¬ (0 : Int32) = 0) → (l1 = 0 ∨ hkd h2 l1 = 15) ∧ C g d m_J4_comparator [.ref l1] h2 (oR (fun v12 h11 => C g d m_J19_equals [.ref (hG h2 535 l0), .ref v12] h11 (oI (fun v15 h14 => ((v15 = 0) → w_J4_putAll_77 g d l0 l1 h14 Q) ∧ ((¬ v15 = 0) → ∀ h18, h18 = setF 40 l0 ((hF h14 40 l0) + (1 : Int32)) h14 → C g d m_J4_entrySet [.ref l1] h18 (oR (fun v20 h19 => hkd h19 v20 = 17 ∧ C g d m_J30_iterator [.ref v20] h19 (oR (fun v24 h23 => C g d m_J4_buildFromSorted [.ref l0, .int v3, .ref v24, .ref (0 : Nat), .ref (0 : Nat)] h23 (oV (fun h26 => Q (.inl none) h26) (fun r hx => XR g d m_J4_putAll 69 [.ref l0, .ref l1, .int v3, .null] r hx Q))) (fun r hx => XR g d m_J4_putAll 62 [.ref l0, .ref l1, .int v3, .null] r hx Q))) (fun r hx => XR g d m_J4_putAll 57 [.ref l0, .ref l1, .int v3, .null] r hx Q)))) (fun r hx => Q (.inr r) hx))) (fun r hx => Q (.inr r) hx)))) ∧ (¬ l1 = 0 → hkd h2 l1 = 15 ∧ (((1 : Int32) = 0) → w_J4_putAll_77 g d l0 l1 h2 Q) ∧ ((¬ (1 : Int32) = 0) → (l1 = 0 ∨ hkd h2 l1 = 15) ∧ C g d m_J4_comparator [.ref l1] h2 (oR (fun v32 h31 => C g d m_J19_equals [.ref (hG h2 535 l0), .ref v32] h31 (oI (fun v35 h34 => ((v35 = 0) → w_J4_putAll_77 g d l0 l1 h34 Q) ∧ ((¬ v35 = 0) → ∀ h38, h38 = setF 40 l0 ((hF h34 40 l0) + (1 : Int32)) h34 → C g d m_J4_entrySet [.ref l1] h38 (oR (fun v40 h39 => hkd h39 v40 = 17 ∧ C g d m_J30_iterator [.ref v40] h39 (oR (fun v44 h43 => C g d m_J4_buildFromSorted [.ref l0, .int v3, .ref v44, .ref (0 : Nat), .ref (0 : Nat)] h43 (oV (fun h46 => Q (.inl none) h46) (fun r hx => XR g d m_J4_putAll 69 [.ref l0, .ref l1, .int v3, .null] r hx Q))) (fun r hx => XR g d m_J4_putAll 62 [.ref l0, .ref l1, .int v3, .null] r hx Q))) (fun r hx => XR g d m_J4_putAll 57 [.ref l0, .ref l1, .int v3, .null] r hx Q)))) (fun r hx => Q (.inr r) hx))) (fun r hx => Q (.inr r) hx))))))) (fun r hx => Q (.inr r) hx))
theorem v_J4_putAll_0 {g : PG} {d : Nat} {l0 : Nat} {l1 : Nat} {h : PH} {Q : Out → PH → Prop} (H : w_J4_putAll_0 g d l0 l1 h Q) : R g d m_J4_putAll 0 [.ref l0, .ref l1, .null, .null] [] h Q := by
  refine r_aload_n dJ4_putAll_0 rfl rfl ?_
  obtain ⟨k1, H⟩ := H
  refine r_invF (y := m_J4_size) (Cn := "java/util/TreeMap") (x := ⟨"java/util/Map", "size", "()I"⟩) dJ4_putAll_1 rfl (lw_F q2145 q2014 q2005 q113 q2007) fw_t29 (n := 0) (by decide +kernel) (Nat.le_of_ble_eq_true rfl) (args := []) rfl rfl (Nat.le_of_ble_eq_true rfl) k1 (by decide) rfl (C.monoE H (fun o h2 _ x4 K => cont_I K (fun v3 H => ?_) (fun r HX => XR_nc rfl HX)))
  refine r_istore_n dJ4_putAll_6 rfl (Nat.le_of_ble_eq_true rfl) rfl (slS (slS sl0)) ?_
  refine r_aload_n dJ4_putAll_7 rfl rfl ?_
  obtain ⟨k5, H⟩ := H
  refine r_getF fr_J4_7_15 (by decide) dJ4_putAll_8 k5 (by decide) ?_
  refine r_if_ne (tgt := 77) dJ4_putAll_11 rfl (fun b6 => ?_) (fun b6 => ?_)
  · replace H := H.1 b6
    exact R.forget (v_J4_putAll_77 H) ⟨Or.inl rfl, ⟨Or.inl rfl, ⟨Or.inr rfl, ⟨Or.inl rfl, trivial⟩⟩⟩⟩
  · replace H := H.2 b6
    refine r_iload_n dJ4_putAll_14 rfl rfl ?_
    refine r_if_eq (tgt := 77) dJ4_putAll_15 rfl (fun b7 => ?_) (fun b7 => ?_)
    · replace H := H.1 b7
      exact R.forget (v_J4_putAll_77 H) ⟨Or.inl rfl, ⟨Or.inl rfl, ⟨Or.inr rfl, ⟨Or.inl rfl, trivial⟩⟩⟩⟩
    · replace H := H.2 b7
      refine r_aload_n dJ4_putAll_18 rfl rfl ?_
      refine r_instO (kv := 15) dJ4_putAll_19 q2148 (by decide) (Or.inl q2153) (fun k8 => ?_) (fun k8 => ⟨(H.2 k8).1, ?_⟩)
      · replace H := H.1 k8
        refine r_if_eq (tgt := 77) dJ4_putAll_22 rfl (fun b9 => ?_) (fun b9 => ?_)
        · replace H := H.1 b9
          exact R.forget (v_J4_putAll_77 H) ⟨Or.inl rfl, ⟨Or.inl rfl, ⟨Or.inr rfl, ⟨Or.inl rfl, trivial⟩⟩⟩⟩
        · replace H := H.2 b9
          refine r_aload_n dJ4_putAll_25 rfl rfl ?_
          refine r_getG fr_J4_16_15 (by decide) dJ4_putAll_26 k5 (by decide) ?_
          refine r_aload_n dJ4_putAll_29 rfl rfl ?_
          obtain ⟨k10, H⟩ := H
          refine r_castO (kv := 15) dJ4_putAll_30 q2148 (by decide) (Or.inl q2153) k10 ?_
          refine r_invF (y := m_J4_comparator) (Cn := "java/util/TreeMap") (x := ⟨"java/util/SortedMap", "comparator", "()Ljava/util/Comparator;"⟩) dJ4_putAll_33 rfl (lw_F q2150 q2154 q2156 q113 q2158) fw_t32 (n := 0) (by decide +kernel) (Nat.le_of_ble_eq_true rfl) (args := []) rfl rfl (Nat.le_of_ble_eq_true rfl) (x4.kd k1 (by decide)) (by decide) rfl (C.monoE H (fun o h11 _ x13 K => cont_R K (fun v12 H => ?_) (fun r HX => XR_nc rfl HX)))
          refine r_invS (y := m_J19_equals) dJ4_putAll_38 rfl (lw_S q2159 q2160 q131 q2161) py_J19_equals (Nat.le_of_ble_eq_true rfl) (args := [_, _]) rfl rfl (Nat.le_of_ble_eq_true rfl) (C.monoE H (fun o h14 _ x16 K => cont_I K (fun v15 H => ?_) (fun r HX => XR_nc rfl HX)))
          refine r_if_eq (tgt := 77) dJ4_putAll_41 rfl (fun b17 => ?_) (fun b17 => ?_)
          · replace H := H.1 b17
            exact R.forget (v_J4_putAll_77 H) ⟨Or.inl rfl, ⟨Or.inl rfl, ⟨Or.inr rfl, ⟨Or.inl rfl, trivial⟩⟩⟩⟩
          · replace H := H.2 b17
            refine r_aload_n dJ4_putAll_44 rfl rfl ?_
            refine r_dup dJ4_putAll_45 rfl ?_
            refine r_getF fr_J4_13_15 (by decide) dJ4_putAll_46 (x16.kd (x13.kd k5 (by decide)) (by decide)) (by decide) ?_
            refine r_iconst dJ4_putAll_49 rfl ?_
            refine r_iadd dJ4_putAll_50 ?_
            replace H := H _ rfl
            refine r_putF fw_J4_13_15 (by decide) dJ4_putAll_51 (x16.kd (x13.kd k5 (by decide)) (by decide)) (by decide) rfl rfl ?_
            refine r_aload_n dJ4_putAll_54 rfl rfl ?_
            refine r_iload_n dJ4_putAll_55 rfl rfl ?_
            refine r_aload_n dJ4_putAll_56 rfl rfl ?_
            refine r_invF (y := m_J4_entrySet) (Cn := "java/util/TreeMap") (x := ⟨"java/util/Map", "entrySet", "()Ljava/util/Set;"⟩) dJ4_putAll_57 rfl (lw_F q2204 q2207 q2209 q113 q2211) fw_t33 (n := 0) (by decide +kernel) (Nat.le_of_ble_eq_true rfl) (args := []) rfl rfl (Nat.le_of_ble_eq_true rfl) (x16.kd (x13.kd (x4.kd k1 (by decide)) (by decide)) (by decide)) (by decide) rfl (C.monoE H (fun o h19 _ x21 K => cont_R K (fun v20 H => ?_) (fun r HX => HX)))
            obtain ⟨k22, H⟩ := H
            refine r_invF (y := m_J30_iterator) (Cn := "java/util/TreeMap$EntrySet") (x := ⟨"java/util/Set", "iterator", "()Ljava/util/Iterator;"⟩) dJ4_putAll_62 rfl (lw_F q2223 q841 q843 q144 q845) fw_t0 (n := 0) (by decide +kernel) (Nat.le_of_ble_eq_true rfl) (args := []) rfl rfl (Nat.le_of_ble_eq_true rfl) k22 (by decide) rfl (C.monoE H (fun o h23 _ x25 K => cont_R K (fun v24 H => ?_) (fun r HX => HX)))
            refine r_null dJ4_putAll_67 ?_
            refine r_null dJ4_putAll_68 ?_
            refine r_invV (y := m_J4_buildFromSorted) dJ4_putAll_69 rfl (lw_V q2224 q2226 qp27 q113 q2227) py_J4_buildFromSorted (Nat.le_of_ble_eq_true rfl) (args := [_, _, _, _]) rfl rfl (Nat.le_of_ble_eq_true rfl) (x25.kd (x21.kd (x16.kd (x13.kd k5 (by decide)) (by decide)) (by decide)) (by decide)) (by decide) rfl (C.monoE H (fun o h26 _ x28 K => cont_V K (fun H => ?_) (fun r HX => HX)))
            refine r_goto (tgt := 76) dJ4_putAll_72 rfl ?_
            exact r_vret dJ4_putAll_76 rfl H
      · replace H := (H.2 k8).2
        refine r_if_eq (tgt := 77) dJ4_putAll_22 rfl (fun b29 => ?_) (fun b29 => ?_)
        · replace H := H.1 b29
          exact R.forget (v_J4_putAll_77 H) ⟨Or.inl rfl, ⟨Or.inl rfl, ⟨Or.inr rfl, ⟨Or.inl rfl, trivial⟩⟩⟩⟩
        · replace H := H.2 b29
          refine r_aload_n dJ4_putAll_25 rfl rfl ?_
          refine r_getG fr_J4_16_15 (by decide) dJ4_putAll_26 k5 (by decide) ?_
          refine r_aload_n dJ4_putAll_29 rfl rfl ?_
          obtain ⟨k30, H⟩ := H
          refine r_castO (kv := 15) dJ4_putAll_30 q2148 (by decide) (Or.inl q2153) k30 ?_
          refine r_invF (y := m_J4_comparator) (Cn := "java/util/TreeMap") (x := ⟨"java/util/SortedMap", "comparator", "()Ljava/util/Comparator;"⟩) dJ4_putAll_33 rfl (lw_F q2150 q2154 q2156 q113 q2158) fw_t32 (n := 0) (by decide +kernel) (Nat.le_of_ble_eq_true rfl) (args := []) rfl rfl (Nat.le_of_ble_eq_true rfl) (x4.kd k1 (by decide)) (by decide) rfl (C.monoE H (fun o h31 _ x33 K => cont_R K (fun v32 H => ?_) (fun r HX => XR_nc rfl HX)))
          refine r_invS (y := m_J19_equals) dJ4_putAll_38 rfl (lw_S q2159 q2160 q131 q2161) py_J19_equals (Nat.le_of_ble_eq_true rfl) (args := [_, _]) rfl rfl (Nat.le_of_ble_eq_true rfl) (C.monoE H (fun o h34 _ x36 K => cont_I K (fun v35 H => ?_) (fun r HX => XR_nc rfl HX)))
          refine r_if_eq (tgt := 77) dJ4_putAll_41 rfl (fun b37 => ?_) (fun b37 => ?_)
          · replace H := H.1 b37
            exact R.forget (v_J4_putAll_77 H) ⟨Or.inl rfl, ⟨Or.inl rfl, ⟨Or.inr rfl, ⟨Or.inl rfl, trivial⟩⟩⟩⟩
          · replace H := H.2 b37
            refine r_aload_n dJ4_putAll_44 rfl rfl ?_
            refine r_dup dJ4_putAll_45 rfl ?_
            refine r_getF fr_J4_13_15 (by decide) dJ4_putAll_46 (x36.kd (x33.kd k5 (by decide)) (by decide)) (by decide) ?_
            refine r_iconst dJ4_putAll_49 rfl ?_
            refine r_iadd dJ4_putAll_50 ?_
            replace H := H _ rfl
            refine r_putF fw_J4_13_15 (by decide) dJ4_putAll_51 (x36.kd (x33.kd k5 (by decide)) (by decide)) (by decide) rfl rfl ?_
            refine r_aload_n dJ4_putAll_54 rfl rfl ?_
            refine r_iload_n dJ4_putAll_55 rfl rfl ?_
            refine r_aload_n dJ4_putAll_56 rfl rfl ?_
            refine r_invF (y := m_J4_entrySet) (Cn := "java/util/TreeMap") (x := ⟨"java/util/Map", "entrySet", "()Ljava/util/Set;"⟩) dJ4_putAll_57 rfl (lw_F q2204 q2207 q2209 q113 q2211) fw_t33 (n := 0) (by decide +kernel) (Nat.le_of_ble_eq_true rfl) (args := []) rfl rfl (Nat.le_of_ble_eq_true rfl) (x36.kd (x33.kd (x4.kd k1 (by decide)) (by decide)) (by decide)) (by decide) rfl (C.monoE H (fun o h39 _ x41 K => cont_R K (fun v40 H => ?_) (fun r HX => HX)))
            obtain ⟨k42, H⟩ := H
            refine r_invF (y := m_J30_iterator) (Cn := "java/util/TreeMap$EntrySet") (x := ⟨"java/util/Set", "iterator", "()Ljava/util/Iterator;"⟩) dJ4_putAll_62 rfl (lw_F q2223 q841 q843 q144 q845) fw_t0 (n := 0) (by decide +kernel) (Nat.le_of_ble_eq_true rfl) (args := []) rfl rfl (Nat.le_of_ble_eq_true rfl) k42 (by decide) rfl (C.monoE H (fun o h43 _ x45 K => cont_R K (fun v44 H => ?_) (fun r HX => HX)))
            refine r_null dJ4_putAll_67 ?_
            refine r_null dJ4_putAll_68 ?_
            refine r_invV (y := m_J4_buildFromSorted) dJ4_putAll_69 rfl (lw_V q2224 q2226 qp27 q113 q2227) py_J4_buildFromSorted (Nat.le_of_ble_eq_true rfl) (args := [_, _, _, _]) rfl rfl (Nat.le_of_ble_eq_true rfl) (x45.kd (x41.kd (x36.kd (x33.kd k5 (by decide)) (by decide)) (by decide)) (by decide)) (by decide) rfl (C.monoE H (fun o h46 _ x48 K => cont_V K (fun H => ?_) (fun r HX => HX)))
            refine r_goto (tgt := 76) dJ4_putAll_72 rfl ?_
            exact r_vret dJ4_putAll_76 rfl H
theorem c_J4_putAll_0 {g : PG} {d : Nat} {l0 : Nat} {l1 : Nat} {h : PH} {Q : Out → PH → Prop} (H : w_J4_putAll_0 g d l0 l1 h Q) : C g (d + 1) m_J4_putAll [.ref l0, .ref l1] h Q := C_of_R rfl rfl (Nat.le_of_ble_eq_true rfl) rfl (v_J4_putAll_0 H)
abbrev w_J4_comparator_0 (g : PG) (d : Nat) (l0 : Nat) (h : PH) (Q : Out → PH → Prop) : Prop := hkd h l0 = 15 ∧ Q (.inl (some (.ref (hG h 535 l0)))) h
theorem v_J4_comparator_0 {g : PG} {d : Nat} {l0 : Nat} {h : PH} {Q : Out → PH → Prop} (H : w_J4_comparator_0 g d l0 h Q) : R g d m_J4_comparator 0 [.ref l0] [] h Q := by
  refine r_aload_n dJ4_comparator_0 rfl rfl ?_
  obtain ⟨k1, H⟩ := H
  refine r_getG fr_J4_16_15 (by decide) dJ4_comparator_1 k1 (by decide) ?_
  exact r_aret dJ4_comparator_4 rfl H
theorem c_J4_comparator_0 {g : PG} {d : Nat} {l0 : Nat} {h : PH} {Q : Out → PH → Prop} (H : w_J4_comparator_0 g d l0 h Q) : C g (d + 1) m_J4_comparator [.ref l0] h Q := C_of_R rfl rfl (Nat.le_of_ble_eq_true rfl) rfl (v_J4_comparator_0 H)
abbrev w_J4_entrySet_0 (g : PG) (d : Nat) (l0 : Nat) (h : PH) (Q : Out → PH → Prop) : Prop := hkd h l0 = 15 ∧ (((hG h 537 l0) = 0) → ∀ h3, h3 = hnew 17 0 2 h → 0 < (hnx h) ∧ C g d m_J30_init [.ref (hnx h), .ref l0] h3 (oV (fun h5 => hkd h5 l0 = 15 ∧ ∀ h9, h9 = setG 537 l0 (hnx h) h5 → Q (.inl (some (.ref (hnx h)))) h9) (fun r hx => Q (.inr r) hx))) ∧ ((¬ (hG h 537 l0) = 0) → Q (.inl (some (.ref (hG h 537 l0)))) h)
theorem v_J4_entrySet_0 {g : PG} {d : Nat} {l0 : Nat} {h : PH} {Q : Out → PH → Prop} (H : w_J4_entrySet_0 g d l0 h Q) : R g d m_J4_entrySet 0 [.ref l0, .null] [] h Q := by
  refine r_aload_n dJ4_entrySet_0 rfl rfl ?_
  obtain ⟨k1, H⟩ := H
  refine r_getG fr_J4_188_15 (by decide) dJ4_entrySet_1 k1 (by decide) ?_
  refine r_astore_n dJ4_entrySet_4 rfl (Nat.le_of_ble_eq_true rfl) rfl (slS sl0) ?_
  refine r_aload_n dJ4_entrySet_5 rfl rfl ?_
  refine r_ifnull (tgt := 13) dJ4_entrySet_6 rfl (fun b2 => ?_) (fun b2 => ?_)
  · replace H := H.1 b2
    refine r_aload_n dJ4_entrySet_13 rfl rfl ?_
    replace H := H _ rfl
    refine r_new (ci := 17) dJ4_entrySet_14 rfl (by decide) q2212 q2213 q144 ?_
    refine r_dup dJ4_entrySet_17 rfl ?_
    refine r_aload_n dJ4_entrySet_18 rfl rfl ?_
    obtain ⟨k4, H⟩ := H
    refine r_invI (y := m_J30_init) dJ4_entrySet_19 rfl rfl q2216 q144 q2214 q2215 rfl py_J30_init (Nat.le_of_ble_eq_true rfl) (args := [_]) rfl rfl (Nat.le_of_ble_eq_true rfl) k4 (C.monoE H (fun o h5 _ x7 K => cont_V K (fun H => ?_) (fun r HX => XR_nc rfl HX)))
    refine r_dup_x1 dJ4_entrySet_22 rfl rfl ?_
    obtain ⟨k8, H⟩ := H
    replace H := H _ rfl
    refine r_putG fw_J4_188_15 (by decide) dJ4_entrySet_23 k8 (by decide) rfl ?_
    exact r_aret dJ4_entrySet_26 rfl H
  · replace H := H.2 b2
    refine r_aload_n dJ4_entrySet_9 rfl rfl ?_
    refine r_goto (tgt := 26) dJ4_entrySet_10 rfl ?_
    exact r_aret dJ4_entrySet_26 rfl H
theorem c_J4_entrySet_0 {g : PG} {d : Nat} {l0 : Nat} {h : PH} {Q : Out → PH → Prop} (H : w_J4_entrySet_0 g d l0 h Q) : C g (d + 1) m_J4_entrySet [.ref l0] h Q := C_of_R rfl rfl (Nat.le_of_ble_eq_true rfl) rfl (v_J4_entrySet_0 H)
abbrev w_J4_buildFromSorted_0 (g : PG) (d : Nat) (l0 : Nat) (l1 : Int32) (l2 : Nat) (l3 : Nat) (l4 : Nat) (h : PH) (Q : Out → PH → Prop) : Prop := hkd h l0 = 15 ∧ ∀ h2, h2 = setF 39 l0 l1 h → C g d m_J4_computeRedLevel [.int l1] h2 (oI (fun v4 h3 => C g d m_J4_buildFromSorted_2 [.ref l0, .int 0, .int 0, .int (l1 - (1 : Int32)), .int v4, .ref l2, .ref l3, .ref l4] h3 (oR (fun v7 h6 => ∀ h9, h9 = setG 536 l0 v7 h6 → Q (.inl none) h9) (fun r hx => Q (.inr r) hx))) (fun r hx => Q (.inr r) hx))
theorem v_J4_buildFromSorted_0 {g : PG} {d : Nat} {l0 : Nat} {l1 : Int32} {l2 : Nat} {l3 : Nat} {l4 : Nat} {h : PH} {Q : Out → PH → Prop} (H : w_J4_buildFromSorted_0 g d l0 l1 l2 l3 l4 h Q) : R g d m_J4_buildFromSorted 0 [.ref l0, .int l1, .ref l2, .ref l3, .ref l4] [] h Q := by
  refine r_aload_n dJ4_buildFromSorted_0 rfl rfl ?_
  refine r_iload_n dJ4_buildFromSorted_1 rfl rfl ?_
  obtain ⟨k1, H⟩ := H
  replace H := H _ rfl
  refine r_putF fw_J4_7_15 (by decide) dJ4_buildFromSorted_2 k1 (by decide) rfl rfl ?_
  refine r_aload_n dJ4_buildFromSorted_5 rfl rfl ?_
  refine r_aload_n dJ4_buildFromSorted_6 rfl rfl ?_
  refine r_iconst dJ4_buildFromSorted_7 rfl ?_
  refine r_iconst dJ4_buildFromSorted_8 rfl ?_
  refine r_iload_n dJ4_buildFromSorted_9 rfl rfl ?_
  refine r_iconst dJ4_buildFromSorted_10 rfl ?_
  refine r_isub dJ4_buildFromSorted_11 ?_
  refine r_iload_n dJ4_buildFromSorted_12 rfl rfl ?_
  refine r_invS (y := m_J4_computeRedLevel) dJ4_buildFromSorted_13 rfl (lw_S q2228 q2229 q113 q2230) py_J4_computeRedLevel (Nat.le_of_ble_eq_true rfl) (args := [_]) rfl rfl (Nat.le_of_ble_eq_true rfl) (C.monoE H (fun o h3 _ x5 K => cont_I K (fun v4 H => ?_) (fun r HX => XR_nc rfl HX)))
  refine r_aload_n dJ4_buildFromSorted_16 rfl rfl ?_
  refine r_aload_n dJ4_buildFromSorted_17 rfl rfl ?_
  refine r_aload dJ4_buildFromSorted_18 rfl ?_
  refine r_invV (y := m_J4_buildFromSorted_2) dJ4_buildFromSorted_20 rfl (lw_V q2232 q2234 qp28 q113 q2235) py_J4_buildFromSorted_2 (Nat.le_of_ble_eq_true rfl) (args := [_, _, _, _, _, _, _]) rfl rfl (Nat.le_of_ble_eq_true rfl) (x5.kd k1 (by decide)) (by decide) rfl (C.monoE H (fun o h6 _ x8 K => cont_R K (fun v7 H => ?_) (fun r HX => XR_nc rfl HX)))
  replace H := H _ rfl
  refine r_putG fw_J4_101_15 (by decide) dJ4_buildFromSorted_23 (x8.kd (x5.kd k1 (by decide)) (by decide)) (by decide) rfl ?_
  exact r_vret dJ4_buildFromSorted_26 rfl H
theorem c_J4_buildFromSorted_0 {g : PG} {d : Nat} {l0 : Nat} {l1 : Int32} {l2 : Nat} {l3 : Nat} {l4 : Nat} {h : PH} {Q : Out → PH → Prop} (H : w_J4_buildFromSorted_0 g d l0 l1 l2 l3 l4 h Q) : C g (d + 1) m_J4_buildFromSorted [.ref l0, .int l1, .ref l2, .ref l3, .ref l4] h Q := C_of_R rfl rfl (Nat.le_of_ble_eq_true rfl) rfl (v_J4_buildFromSorted_0 H)
abbrev w_J4_computeRedLevel_0 (g : PG) (d : Nat) (l0 : Int32) (h : PH) (Q : Out → PH → Prop) : Prop := C g d m_J26_numberOfLeadingZeros [.int (l0 + (1 : Int32))] h (oI (fun v2 h1 => Q (.inl (some (.int ((31 : Int32) - v2)))) h1) (fun r hx => Q (.inr r) hx))
theorem v_J4_computeRedLevel_0 {g : PG} {d : Nat} {l0 : Int32} {h : PH} {Q : Out → PH → Prop} (H : w_J4_computeRedLevel_0 g d l0 h Q) : R g d m_J4_computeRedLevel 0 [.int l0] [] h Q := by
  refine r_bipush dJ4_computeRedLevel_0 rfl ?_
  refine r_iload_n dJ4_computeRedLevel_2 rfl rfl ?_
  refine r_iconst dJ4_computeRedLevel_3 rfl ?_
  refine r_iadd dJ4_computeRedLevel_4 ?_
  refine r_invS (y := m_J26_numberOfLeadingZeros) dJ4_computeRedLevel_5 rfl (lw_S q2231 q1444 q139 q1445) py_J26_numberOfLeadingZeros (Nat.le_of_ble_eq_true rfl) (args := [_]) rfl rfl (Nat.le_of_ble_eq_true rfl) (C.monoE H (fun o h1 _ x3 K => cont_I K (fun v2 H => ?_) (fun r HX => XR_nc rfl HX)))
  refine r_isub dJ4_computeRedLevel_8 ?_
  exact r_iret dJ4_computeRedLevel_9 rfl H
theorem c_J4_computeRedLevel_0 {g : PG} {d : Nat} {l0 : Int32} {h : PH} {Q : Out → PH → Prop} (H : w_J4_computeRedLevel_0 g d l0 h Q) : C g (d + 1) m_J4_computeRedLevel [.int l0] h Q := C_of_R rfl rfl (Nat.le_of_ble_eq_true rfl) rfl (v_J4_computeRedLevel_0 H)
abbrev w_J4_buildFromSorted_2_173 (g : PG) (d : Nat) (l0 : Nat) (l1 : Int32) (l3 : Int32) (l4 : Int32) (l5 : Nat) (l6 : Nat) (l7 : Nat) (l8 : Int32) (l12 : Nat) (h : PH) (Q : Out → PH → Prop) : Prop := ((l3 ≤ l8) → Q (.inl (some (.ref l12))) h) ∧ ((¬ l3 ≤ l8) → hkd h l0 = 15 ∧ C g d m_J4_buildFromSorted_2 [.ref l0, .int (l1 + (1 : Int32)), .int (l8 + (1 : Int32)), .int l3, .int l4, .ref l5, .ref l6, .ref l7] h (oR (fun v4 h3 => hkd h3 l12 = 16 ∧ ∀ h7, h7 = setG 543 l12 v4 h3 → hkd h7 v4 = 16 ∧ ∀ h9, h9 = setG 544 v4 l12 h7 → Q (.inl (some (.ref l12))) h9) (fun r hx => Q (.inr r) hx)))
theorem v_J4_buildFromSorted_2_173 {g : PG} {d : Nat} {l0 : Nat} {l1 : Int32} {l3 : Int32} {l4 : Int32} {l5 : Nat} {l6 : Nat} {l7 : Nat} {l8 : Int32} {l12 : Nat} {h : PH} {Q : Out → PH → Prop} (H : w_J4_buildFromSorted_2_173 g d l0 l1 l3 l4 l5 l6 l7 l8 l12 h Q) : R g d m_J4_buildFromSorted_2 173 [.ref l0, .int l1, .null, .int l3, .int l4, .ref l5, .ref l6, .ref l7, .int l8, .null, .null, .null, .ref l12, .null] [] h Q := by
  refine r_iload dJ4_buildFromSorted_2_173 rfl ?_
  refine r_iload_n dJ4_buildFromSorted_2_175 rfl rfl ?_
  refine r_icmp_ge (tgt := 215) dJ4_buildFromSorted_2_176 rfl (fun b1 => ?_) (fun b1 => ?_)
  · replace H := H.1 b1
    refine r_aload dJ4_buildFromSorted_2_215 rfl ?_
    exact r_aret dJ4_buildFromSorted_2_217 rfl H
  · replace H := H.2 b1
    refine r_aload_n dJ4_buildFromSorted_2_179 rfl rfl ?_
    refine r_iload_n dJ4_buildFromSorted_2_180 rfl rfl ?_
    refine r_iconst dJ4_buildFromSorted_2_181 rfl ?_
    refine r_iadd dJ4_buildFromSorted_2_182 ?_
    refine r_iload dJ4_buildFromSorted_2_183 rfl ?_
    refine r_iconst dJ4_buildFromSorted_2_185 rfl ?_
    refine r_iadd dJ4_buildFromSorted_2_186 ?_
    refine r_iload_n dJ4_buildFromSorted_2_187 rfl rfl ?_
    refine r_iload dJ4_buildFromSorted_2_188 rfl ?_
    refine r_aload dJ4_buildFromSorted_2_190 rfl ?_
    refine r_aload dJ4_buildFromSorted_2_192 rfl ?_
    refine r_aload dJ4_buildFromSorted_2_194 rfl ?_
    obtain ⟨k2, H⟩ := H
    refine r_invV (y := m_J4_buildFromSorted_2) dJ4_buildFromSorted_2_196 rfl (lw_V q2232 q2234 qp28 q113 q2235) py_J4_buildFromSorted_2 (Nat.le_of_ble_eq_true rfl) (args := [_, _, _, _, _, _, _]) rfl rfl (Nat.le_of_ble_eq_true rfl) k2 (by decide) rfl (C.monoE H (fun o h3 _ x5 K => cont_R K (fun v4 H => ?_) (fun r HX => XR_nc rfl HX)))
    refine r_astore dJ4_buildFromSorted_2_199 (Nat.le_of_ble_eq_true rfl) rfl (slS (slS (slS (slS (slS (slS (slS (slS (slS (slS (slS (slS (slS sl0))))))))))))) ?_
    refine r_aload dJ4_buildFromSorted_2_201 rfl ?_
    refine r_aload dJ4_buildFromSorted_2_203 rfl ?_
    obtain ⟨k6, H⟩ := H
    replace H := H _ rfl
    refine r_putG fw_J4_114_16 (by decide) dJ4_buildFromSorted_2_205 k6 (by decide) rfl ?_
    refine r_aload dJ4_buildFromSorted_2_208 rfl ?_
    refine r_aload dJ4_buildFromSorted_2_210 rfl ?_
    obtain ⟨k8, H⟩ := H
    replace H := H _ rfl
    refine r_putG fw_J4_124_16 (by decide) dJ4_buildFromSorted_2_212 k8 (by decide) rfl ?_
    refine r_aload dJ4_buildFromSorted_2_215 rfl ?_
    exact r_aret dJ4_buildFromSorted_2_217 rfl H
abbrev w_J4_buildFromSorted_2_154 (g : PG) (d : Nat) (l0 : Nat) (l1 : Int32) (l3 : Int32) (l4 : Int32) (l5 : Nat) (l6 : Nat) (l7 : Nat) (l8 : Int32) (l9 : Nat) (l12 : Nat) (h : PH) (Q : Out → PH → Prop) : Prop := ((l9 = 0) → w_J4_buildFromSorted_2_173 g d l0 l1 l3 l4 l5 l6 l7 l8 l12 h Q) ∧ ((¬ l9 = 0) → hkd h l12 = 16 ∧ ∀ h3, h3 = setG 542 l12 l9 h → hkd h3 l9 = 16 ∧ ∀ h5, h5 = setG 544 l9 l12 h3 → w_J4_buildFromSorted_2_173 g d l0 l1 l3 l4 l5 l6 l7 l8 l12 h5 Q)
theorem v_J4_buildFromSorted_2_154 {g : PG} {d : Nat} {l0 : Nat} {l1 : Int32} {l3 : Int32} {l4 : Int32} {l5 : Nat} {l6 : Nat} {l7 : Nat} {l8 : Int32} {l9 : Nat} {l12 : Nat} {h : PH} {Q : Out → PH → Prop} (H : w_J4_buildFromSorted_2_154 g d l0 l1 l3 l4 l5 l6 l7 l8 l9 l12 h Q) : R g d m_J4_buildFromSorted_2 154 [.ref l0, .int l1, .null, .int l3, .int l4, .ref l5, .ref l6, .ref l7, .int l8, .ref l9, .null, .null, .ref l12, .null] [] h Q := by
  refine r_aload dJ4_buildFromSorted_2_154 rfl ?_
  refine r_ifnull (tgt := 173) dJ4_buildFromSorted_2_156 rfl (fun b1 => ?_) (fun b1 => ?_)
  · replace H := H.1 b1
    exact R.forget (v_J4_buildFromSorted_2_173 H) ⟨Or.inl rfl, ⟨Or.inl rfl, ⟨Or.inl rfl, ⟨Or.inl rfl, ⟨Or.inl rfl, ⟨Or.inl rfl, ⟨Or.inl rfl, ⟨Or.inl rfl, ⟨Or.inl rfl, ⟨Or.inr rfl, ⟨Or.inl rfl, ⟨Or.inl rfl, ⟨Or.inl rfl, ⟨Or.inl rfl, trivial⟩⟩⟩⟩⟩⟩⟩⟩⟩⟩⟩⟩⟩⟩
  · replace H := H.2 b1
    refine r_aload dJ4_buildFromSorted_2_159 rfl ?_
    refine r_aload dJ4_buildFromSorted_2_161 rfl ?_
    obtain ⟨k2, H⟩ := H
    replace H := H _ rfl
    refine r_putG fw_J4_111_16 (by decide) dJ4_buildFromSorted_2_163 k2 (by decide) rfl ?_
    refine r_aload dJ4_buildFromSorted_2_166 rfl ?_
    refine r_aload dJ4_buildFromSorted_2_168 rfl ?_
    obtain ⟨k4, H⟩ := H
    replace H := H _ rfl
    refine r_putG fw_J4_124_16 (by decide) dJ4_buildFromSorted_2_170 k4 (by decide) rfl ?_
    exact R.forget (v_J4_buildFromSorted_2_173 H) ⟨Or.inl rfl, ⟨Or.inl rfl, ⟨Or.inl rfl, ⟨Or.inl rfl, ⟨Or.inl rfl, ⟨Or.inl rfl, ⟨Or.inl rfl, ⟨Or.inl rfl, ⟨Or.inl rfl, ⟨Or.inr rfl, ⟨Or.inl rfl, ⟨Or.inl rfl, ⟨Or.inl rfl, ⟨Or.inl rfl, trivial⟩⟩⟩⟩⟩⟩⟩⟩⟩⟩⟩⟩⟩⟩
abbrev w_J4_buildFromSorted_2_128 (g : PG) (d : Nat) (l0 : Nat) (l1 : Int32) (l3 : Int32) (l4 : Int32) (l5 : Nat) (l6 : Nat) (l7 : Nat) (l8 : Int32) (l9 : Nat) (l10 : Nat) (l11 : Nat) (h : PH) (Q : Out → PH → Prop) : Prop := ∀ h1, h1 = hnew 16 0 7 h → 0 < (hnx h) ∧ C g d m_J34_init [.ref (hnx h), .ref l10, .ref l11, .ref (0 : Nat)] h1 (oV (fun h3 => ((¬ l1 = l4) → w_J4_buildFromSorted_2_154 g d l0 l1 l3 l4 l5 l6 l7 l8 l9 (hnx h) h3 Q) ∧ ((l1 = l4) → ∀ h7, h7 = setF 41 (hnx h) (0 : Int32) h3 → w_J4_buildFromSorted_2_154 g d l0 l1 l3 l4 l5 l6 l7 l8 l9 (hnx h) h7 Q)) (fun r hx => Q (.inr r) hx))
theorem v_J4_buildFromSorted_2_128 {g : PG} {d : Nat} {l0 : Nat} {l1 : Int32} {l3 : Int32} {l4 : Int32} {l5 : Nat} {l6 : Nat} {l7 : Nat} {l8 : Int32} {l9 : Nat} {l10 : Nat} {l11 : Nat} {h : PH} {Q : Out → PH → Prop} (H : w_J4_buildFromSorted_2_128 g d l0 l1 l3 l4 l5 l6 l7 l8 l9 l10 l11 h Q) : R g d m_J4_buildFromSorted_2 128 [.ref l0, .int l1, .null, .int l3, .int l4, .ref l5, .ref l6, .ref l7, .int l8, .ref l9, .ref l10, .ref l11, .null, .null] [] h Q := by
  replace H := H _ rfl
  refine r_new (ci := 16) dJ4_buildFromSorted_2_128 rfl (by decide) q1689 q1690 q148 ?_
  refine r_dup dJ4_buildFromSorted_2_131 rfl ?_
  refine r_aload dJ4_buildFromSorted_2_132 rfl ?_
  refine r_aload dJ4_buildFromSorted_2_134 rfl ?_
  refine r_null dJ4_buildFromSorted_2_136 ?_
  obtain ⟨k2, H⟩ := H
  refine r_invI (y := m_J34_init) dJ4_buildFromSorted_2_137 rfl rfl q1693 q148 q1691 q1692 rfl py_J34_init (Nat.le_of_ble_eq_true rfl) (args := [_, _, _]) rfl rfl (Nat.le_of_ble_eq_true rfl) k2 (C.monoE H (fun o h3 _ x5 K => cont_V K (fun H => ?_) (fun r HX => XR_nc rfl HX)))
  refine r_astore dJ4_buildFromSorted_2_140 (Nat.le_of_ble_eq_true rfl) rfl (slS (slS (slS (slS (slS (slS (slS (slS (slS (slS (slS (slS sl0)))))))))))) ?_
  refine r_iload_n dJ4_buildFromSorted_2_142 rfl rfl ?_
  refine r_iload dJ4_buildFromSorted_2_143 rfl ?_
  refine r_icmp_ne (tgt := 154) dJ4_buildFromSorted_2_145 rfl (fun b6 => ?_) (fun b6 => ?_)
  · replace H := H.1 b6
    exact R.forget (v_J4_buildFromSorted_2_154 H) ⟨Or.inl rfl, ⟨Or.inl rfl, ⟨Or.inl rfl, ⟨Or.inl rfl, ⟨Or.inl rfl, ⟨Or.inl rfl, ⟨Or.inl rfl, ⟨Or.inl rfl, ⟨Or.inl rfl, ⟨Or.inl rfl, ⟨Or.inr rfl, ⟨Or.inr rfl, ⟨Or.inl rfl, ⟨Or.inl rfl, trivial⟩⟩⟩⟩⟩⟩⟩⟩⟩⟩⟩⟩⟩⟩
  · replace H := H.2 b6
    refine r_aload dJ4_buildFromSorted_2_148 rfl ?_
    refine r_iconst dJ4_buildFromSorted_2_150 rfl ?_
    replace H := H _ rfl
    refine r_putF fw_J4_290_16 (by decide) dJ4_buildFromSorted_2_151 (x5.kd (kd_self _ _ _ _) (by decide)) (by decide) rfl rfl ?_
    exact R.forget (v_J4_buildFromSorted_2_154 H) ⟨Or.inl rfl, ⟨Or.inl rfl, ⟨Or.inl rfl, ⟨Or.inl rfl, ⟨Or.inl rfl, ⟨Or.inl rfl, ⟨Or.inl rfl, ⟨Or.inl rfl, ⟨Or.inl rfl, ⟨Or.inl rfl, ⟨Or.inr rfl, ⟨Or.inr rfl, ⟨Or.inl rfl, ⟨Or.inl rfl, trivial⟩⟩⟩⟩⟩⟩⟩⟩⟩⟩⟩⟩⟩⟩
abbrev w_J4_buildFromSorted_2_45 (g : PG) (d : Nat) (l0 : Nat) (l1 : Int32) (l3 : Int32) (l4 : Int32) (l5 : Nat) (l6 : Nat) (l7 : Nat) (l8 : Int32) (l9 : Nat) (h : PH) (Q : Out → PH → Prop) : Prop := ((l5 = 0) → False) ∧ ((¬ l5 = 0) → ((¬ l7 = 0) → hkd h l5 = 20 ∧ C g d m_J32_next [.ref l5] h (oR (fun v5 h4 => w_J4_buildFromSorted_2_128 g d l0 l1 l3 l4 l5 l6 l7 l8 l9 v5 l7 h4 Q) (fun r hx => Q (.inr r) hx))) ∧ ((l7 = 0) → hkd h l5 = 20 ∧ C g d m_J32_next [.ref l5] h (oR (fun v9 h8 => (v9 = 0 ∨ hkd h8 v9 = 16) ∧ hkd h8 v9 = 16 ∧ C g d m_J34_getKey [.ref v9] h8 (oR (fun v14 h13 => C g d m_J34_getValue [.ref v9] h13 (oR (fun v17 h16 => w_J4_buildFromSorted_2_128 g d l0 l1 l3 l4 l5 l6 l7 l8 l9 v14 v17 h16 Q) (fun r hx => Q (.inr r) hx))) (fun r hx => Q (.inr r) hx))) (fun r hx => Q (.inr r) hx))))
theorem v_J4_buildFromSorted_2_45 {g : PG} {d : Nat} {l0 : Nat} {l1 : Int32} {l3 : Int32} {l4 : Int32} {l5 : Nat} {l6 : Nat} {l7 : Nat} {l8 : Int32} {l9 : Nat} {h : PH} {Q : Out → PH → Prop} (H : w_J4_buildFromSorted_2_45 g d l0 l1 l3 l4 l5 l6 l7 l8 l9 h Q) : R g d m_J4_buildFromSorted_2 45 [.ref l0, .int l1, .null, .int l3, .int l4, .ref l5, .ref l6, .ref l7, .int l8, .ref l9, .null, .null, .null, .null] [] h Q := by
  refine r_aload dJ4_buildFromSorted_2_45 rfl ?_
  refine r_ifnull (tgt := 104) dJ4_buildFromSorted_2_47 rfl (fun b1 => ?_) (fun b1 => ?_)
  · replace H := H.1 b1
    exact H.elim
  · replace H := H.2 b1
    refine r_aload dJ4_buildFromSorted_2_50 rfl ?_
    refine r_ifnonnull (tgt := 88) dJ4_buildFromSorted_2_52 rfl (fun b2 => ?_) (fun b2 => ?_)
    · replace H := H.1 b2
      refine r_aload dJ4_buildFromSorted_2_88 rfl ?_
      obtain ⟨k3, H⟩ := H
      refine r_invF (y := m_J32_next) (Cn := "java/util/TreeMap$EntryIterator") (x := ⟨"java/util/Iterator", "next", "()Ljava/lang/Object;"⟩) dJ4_buildFromSorted_2_90 rfl (lw_F q2237 q1213 q1215 q146 q1217) fw_t9 (n := 0) (by decide +kernel) (Nat.le_of_ble_eq_true rfl) (args := []) rfl rfl (Nat.le_of_ble_eq_true rfl) k3 (by decide) rfl (C.monoE H (fun o h4 _ x6 K => cont_R K (fun v5 H => ?_) (fun r HX => XR_nc rfl HX)))
      refine r_astore dJ4_buildFromSorted_2_95 (Nat.le_of_ble_eq_true rfl) rfl (slS (slS (slS (slS (slS (slS (slS (slS (slS (slS sl0)))))))))) ?_
      refine r_aload dJ4_buildFromSorted_2_97 rfl ?_
      refine r_astore dJ4_buildFromSorted_2_99 (Nat.le_of_ble_eq_true rfl) rfl (slS (slS (slS (slS (slS (slS (slS (slS (slS (slS (slS sl0))))))))))) ?_
      refine r_goto (tgt := 128) dJ4_buildFromSorted_2_101 rfl ?_
      exact v_J4_buildFromSorted_2_128 H
    · replace H := H.2 b2
      refine r_aload dJ4_buildFromSorted_2_55 rfl ?_
      obtain ⟨k7, H⟩ := H
      refine r_invF (y := m_J32_next) (Cn := "java/util/TreeMap$EntryIterator") (x := ⟨"java/util/Iterator", "next", "()Ljava/lang/Object;"⟩) dJ4_buildFromSorted_2_57 rfl (lw_F q2237 q1213 q1215 q146 q1217) fw_t9 (n := 0) (by decide +kernel) (Nat.le_of_ble_eq_true rfl) (args := []) rfl rfl (Nat.le_of_ble_eq_true rfl) k7 (by decide) rfl (C.monoE H (fun o h8 _ x10 K => cont_R K (fun v9 H => ?_) (fun r HX => XR_nc rfl HX)))
      obtain ⟨k11, H⟩ := H
      refine r_castO (kv := 16) dJ4_buildFromSorted_2_62 q2238 (by decide) (Or.inl q2243) k11 ?_
      refine r_astore dJ4_buildFromSorted_2_65 (Nat.le_of_ble_eq_true rfl) rfl (slS (slS (slS (slS (slS (slS (slS (slS (slS (slS (slS (slS sl0)))))))))))) ?_
      refine r_aload dJ4_buildFromSorted_2_67 rfl ?_
      obtain ⟨k12, H⟩ := H
      refine r_invF (y := m_J34_getKey) (Cn := "java/util/TreeMap$Entry") (x := ⟨"java/util/Map$Entry", "getKey", "()Ljava/lang/Object;"⟩) dJ4_buildFromSorted_2_69 rfl (lw_F q2240 q2244 q2246 q148 q2248) fw_t34 (n := 0) (by decide +kernel) (Nat.le_of_ble_eq_true rfl) (args := []) rfl rfl (Nat.le_of_ble_eq_true rfl) k12 (by decide) rfl (C.monoE H (fun o h13 _ x15 K => cont_R K (fun v14 H => ?_) (fun r HX => XR_nc rfl HX)))
      refine r_astore dJ4_buildFromSorted_2_74 (Nat.le_of_ble_eq_true rfl) rfl (slS (slS (slS (slS (slS (slS (slS (slS (slS (slS sl0)))))))))) ?_
      refine r_aload dJ4_buildFromSorted_2_76 rfl ?_
      refine r_invF (y := m_J34_getValue) (Cn := "java/util/TreeMap$Entry") (x := ⟨"java/util/Map$Entry", "getValue", "()Ljava/lang/Object;"⟩) dJ4_buildFromSorted_2_78 rfl (lw_F q2250 q2253 q2255 q148 q2257) fw_t35 (n := 0) (by decide +kernel) (Nat.le_of_ble_eq_true rfl) (args := []) rfl rfl (Nat.le_of_ble_eq_true rfl) (x15.kd k12 (by decide)) (by decide) rfl (C.monoE H (fun o h16 _ x18 K => cont_R K (fun v17 H => ?_) (fun r HX => XR_nc rfl HX)))
      refine r_astore dJ4_buildFromSorted_2_83 (Nat.le_of_ble_eq_true rfl) rfl (slS (slS (slS (slS (slS (slS (slS (slS (slS (slS (slS sl0))))))))))) ?_
      refine r_goto (tgt := 128) dJ4_buildFromSorted_2_85 rfl ?_
      exact R.forget (v_J4_buildFromSorted_2_128 H) ⟨Or.inl rfl, ⟨Or.inl rfl, ⟨Or.inl rfl, ⟨Or.inl rfl, ⟨Or.inl rfl, ⟨Or.inl rfl, ⟨Or.inl rfl, ⟨Or.inl rfl, ⟨Or.inl rfl, ⟨Or.inl rfl, ⟨Or.inl rfl, ⟨Or.inl rfl, ⟨Or.inr rfl, ⟨Or.inl rfl, trivial⟩⟩⟩⟩⟩⟩⟩⟩⟩⟩⟩⟩⟩⟩
abbrev w_J4_buildFromSorted_2_0 (g : PG) (d : Nat) (l0 : Nat) (l1 : Int32) (l2 : Int32) (l3 : Int32) (l4 : Int32) (l5 : Nat) (l6 : Nat) (l7 : Nat) (h : PH) (Q : Out → PH → Prop) : Prop := ((l2 ≤ l3) → (((iushr9 (l2 + l3) (1 : Int32)) ≤ l2) → w_J4_buildFromSorted_2_45 g d l0 l1 l3 l4 l5 l6 l7 (iushr9 (l2 + l3) (1 : Int32)) (0 : Nat) h Q) ∧ ((¬ (iushr9 (l2 + l3) (1 : Int32)) ≤ l2) → hkd h l0 = 15 ∧ C g d m_J4_buildFromSorted_2 [.ref l0, .int (l1 + (1 : Int32)), .int l2, .int ((iushr9 (l2 + l3) (1 : Int32)) - (1 : Int32)), .int l4, .ref l5, .ref l6, .ref l7] h (oR (fun v5 h4 => w_J4_buildFromSorted_2_45 g d l0 l1 l3 l4 l5 l6 l7 (iushr9 (l2 + l3) (1 : Int32)) v5 h4 Q) (fun r hx => Q (.inr r) hx)))) ∧ ((¬ l2 ≤ l3) → Q (.inl (some (.ref (0 : Nat)))) h)
theorem v_J4_buildFromSorted_2_0 {g : PG} {d : Nat} {l0 : Nat} {l1 : Int32} {l2 : Int32} {l3 : Int32} {l4 : Int32} {l5 : Nat} {l6 : Nat} {l7 : Nat} {h : PH} {Q : Out → PH → Prop} (H : w_J4_buildFromSorted_2_0 g d l0 l1 l2 l3 l4 l5 l6 l7 h Q) : R g d m_J4_buildFromSorted_2 0 [.ref l0, .int l1, .int l2, .int l3, .int l4, .ref l5, .ref l6, .ref l7, .null, .null, .null, .null, .null, .null] [] h Q := by
  refine r_iload_n dJ4_buildFromSorted_2_0 rfl rfl ?_
  refine r_iload_n dJ4_buildFromSorted_2_1 rfl rfl ?_
  refine r_icmp_ge (tgt := 7) dJ4_buildFromSorted_2_2 rfl (fun b1 => ?_) (fun b1 => ?_)
  · replace H := H.1 b1
    refine r_iload_n dJ4_buildFromSorted_2_7 rfl rfl ?_
    refine r_iload_n dJ4_buildFromSorted_2_8 rfl rfl ?_
    refine r_iadd dJ4_buildFromSorted_2_9 ?_
    refine r_iconst dJ4_buildFromSorted_2_10 rfl ?_
    refine r_iushr dJ4_buildFromSorted_2_11 rfl ?_
    refine r_istore dJ4_buildFromSorted_2_12 (Nat.le_of_ble_eq_true rfl) rfl (slS (slS (slS (slS (slS (slS (slS (slS sl0)))))))) ?_
    refine r_null dJ4_buildFromSorted_2_14 ?_
    refine r_astore dJ4_buildFromSorted_2_15 (Nat.le_of_ble_eq_true rfl) rfl (slS (slS (slS (slS (slS (slS (slS (slS (slS sl0))))))))) ?_
    refine r_iload_n dJ4_buildFromSorted_2_17 rfl rfl ?_
    refine r_iload dJ4_buildFromSorted_2_18 rfl ?_
    refine r_icmp_ge (tgt := 45) dJ4_buildFromSorted_2_20 rfl (fun b2 => ?_) (fun b2 => ?_)
    · replace H := H.1 b2
      exact R.forget (v_J4_buildFromSorted_2_45 H) ⟨Or.inl rfl, ⟨Or.inl rfl, ⟨Or.inr rfl, ⟨Or.inl rfl, ⟨Or.inl rfl, ⟨Or.inl rfl, ⟨Or.inl rfl, ⟨Or.inl rfl, ⟨Or.inl rfl, ⟨Or.inl rfl, ⟨Or.inl rfl, ⟨Or.inl rfl, ⟨Or.inl rfl, ⟨Or.inl rfl, trivial⟩⟩⟩⟩⟩⟩⟩⟩⟩⟩⟩⟩⟩⟩
    · replace H := H.2 b2
      refine r_aload_n dJ4_buildFromSorted_2_23 rfl rfl ?_
      refine r_iload_n dJ4_buildFromSorted_2_24 rfl rfl ?_
      refine r_iconst dJ4_buildFromSorted_2_25 rfl ?_
      refine r_iadd dJ4_buildFromSorted_2_26 ?_
      refine r_iload_n dJ4_buildFromSorted_2_27 rfl rfl ?_
      refine r_iload dJ4_buildFromSorted_2_28 rfl ?_
      refine r_iconst dJ4_buildFromSorted_2_30 rfl ?_
      refine r_isub dJ4_buildFromSorted_2_31 ?_
      refine r_iload dJ4_buildFromSorted_2_32 rfl ?_
      refine r_aload dJ4_buildFromSorted_2_34 rfl ?_
      refine r_aload dJ4_buildFromSorted_2_36 rfl ?_
      refine r_aload dJ4_buildFromSorted_2_38 rfl ?_
      obtain ⟨k3, H⟩ := H
      refine r_invV (y := m_J4_buildFromSorted_2) dJ4_buildFromSorted_2_40 rfl (lw_V q2232 q2234 qp28 q113 q2235) py_J4_buildFromSorted_2 (Nat.le_of_ble_eq_true rfl) (args := [_, _, _, _, _, _, _]) rfl rfl (Nat.le_of_ble_eq_true rfl) k3 (by decide) rfl (C.monoE H (fun o h4 _ x6 K => cont_R K (fun v5 H => ?_) (fun r HX => XR_nc rfl HX)))
      refine r_astore dJ4_buildFromSorted_2_43 (Nat.le_of_ble_eq_true rfl) rfl (slS (slS (slS (slS (slS (slS (slS (slS (slS sl0))))))))) ?_
      exact R.forget (v_J4_buildFromSorted_2_45 H) ⟨Or.inl rfl, ⟨Or.inl rfl, ⟨Or.inr rfl, ⟨Or.inl rfl, ⟨Or.inl rfl, ⟨Or.inl rfl, ⟨Or.inl rfl, ⟨Or.inl rfl, ⟨Or.inl rfl, ⟨Or.inl rfl, ⟨Or.inl rfl, ⟨Or.inl rfl, ⟨Or.inl rfl, ⟨Or.inl rfl, trivial⟩⟩⟩⟩⟩⟩⟩⟩⟩⟩⟩⟩⟩⟩
  · replace H := H.2 b1
    refine r_null dJ4_buildFromSorted_2_5 ?_
    exact r_aret dJ4_buildFromSorted_2_6 rfl H
theorem c_J4_buildFromSorted_2_0 {g : PG} {d : Nat} {l0 : Nat} {l1 : Int32} {l2 : Int32} {l3 : Int32} {l4 : Int32} {l5 : Nat} {l6 : Nat} {l7 : Nat} {h : PH} {Q : Out → PH → Prop} (H : w_J4_buildFromSorted_2_0 g d l0 l1 l2 l3 l4 l5 l6 l7 h Q) : C g (d + 1) m_J4_buildFromSorted_2 [.ref l0, .int l1, .int l2, .int l3, .int l4, .ref l5, .ref l6, .ref l7] h Q := C_of_R rfl rfl (Nat.le_of_ble_eq_true rfl) rfl (v_J4_buildFromSorted_2_0 H)
abbrev w_J4_remove_0 (g : PG) (d : Nat) (l0 : Nat) (l1 : Nat) (h : PH) (Q : Out → PH → Prop) : Prop := hkd h l0 = 15 ∧ C g d m_J4_getEntry [.ref l0, .ref l1] h (oR (fun v3 h2 => ((¬ v3 = 0) → hkd h2 v3 = 16 ∧ C g d m_J4_deleteEntry [.ref l0, .ref v3] h2 (oV (fun h7 => Q (.inl (some (.ref (hG h2 541 v3)))) h7) (fun r hx => Q (.inr r) hx))) ∧ ((v3 = 0) → Q (.inl (some (.ref (0 : Nat)))) h2)) (fun r hx => Q (.inr r) hx))
theorem v_J4_remove_0 {g : PG} {d : Nat} {l0 : Nat} {l1 : Nat} {h : PH} {Q : Out → PH → Prop} (H : w_J4_remove_0 g d l0 l1 h Q) : R g d m_J4_remove 0 [.ref l0, .ref l1, .null, .null] [] h Q := by
  refine r_aload_n dJ4_remove_0 rfl rfl ?_
  refine r_aload_n dJ4_remove_1 rfl rfl ?_
  obtain ⟨k1, H⟩ := H
  refine r_invV (y := m_J4_getEntry) dJ4_remove_2 rfl (lw_V q1278 q1279 q1280 q113 q1281) py_J4_getEntry (Nat.le_of_ble_eq_true rfl) (args := [_]) rfl rfl (Nat.le_of_ble_eq_true rfl) k1 (by decide) rfl (C.monoE H (fun o h2 _ x4 K => cont_R K (fun v3 H => ?_) (fun r HX => XR_nc rfl HX)))
  refine r_astore_n dJ4_remove_5 rfl (Nat.le_of_ble_eq_true rfl) rfl (slS (slS sl0)) ?_
  refine r_aload_n dJ4_remove_6 rfl rfl ?_
  refine r_ifnonnull (tgt := 12) dJ4_remove_7 rfl (fun b5 => ?_) (fun b5 => ?_)
  · replace H := H.1 b5
    refine r_aload_n dJ4_remove_12 rfl rfl ?_
    obtain ⟨k6, H⟩ := H
    refine r_getG fr_J4_58_16 (by decide) dJ4_remove_13 k6 (by decide) ?_
    refine r_astore_n dJ4_remove_16 rfl (Nat.le_of_ble_eq_true rfl) rfl (slS (slS (slS sl0))) ?_
    refine r_aload_n dJ4_remove_17 rfl rfl ?_
    refine r_aload_n dJ4_remove_18 rfl rfl ?_
    refine r_invV (y := m_J4_deleteEntry) dJ4_remove_19 rfl (lw_V q2548 q2550 qp38 q113 q2551) py_J4_deleteEntry (Nat.le_of_ble_eq_true rfl) (args := [_]) rfl rfl (Nat.le_of_ble_eq_true rfl) (x4.kd k1 (by decide)) (by decide) rfl (C.monoE H (fun o h7 _ x9 K => cont_V K (fun H => ?_) (fun r HX => XR_nc rfl HX)))
    refine r_aload_n dJ4_remove_22 rfl rfl ?_
    exact r_aret dJ4_remove_23 rfl H
  · replace H := H.2 b5
    refine r_null dJ4_remove_10 ?_
    exact r_aret dJ4_remove_11 rfl H
theorem c_J4_remove_0 {g : PG} {d : Nat} {l0 : Nat} {l1 : Nat} {h : PH} {Q : Out → PH → Prop} (H : w_J4_remove_0 g d l0 l1 h Q) : C g (d + 1) m_J4_remove [.ref l0, .ref l1] h Q := C_of_R rfl rfl (Nat.le_of_ble_eq_true rfl) rfl (v_J4_remove_0 H)
abbrev w_J4_deleteEntry_240 (g : PG) (d : Nat) (l1 : Nat) (h : PH) (Q : Out → PH → Prop) : Prop := hkd h l1 = 16 ∧ ∀ h2, h2 = setG 544 l1 (0 : Nat) h → Q (.inl none) h2
theorem v_J4_deleteEntry_240 {g : PG} {d : Nat} {l1 : Nat} {h : PH} {Q : Out → PH → Prop} (H : w_J4_deleteEntry_240 g d l1 h Q) : R g d m_J4_deleteEntry 240 [.null, .ref l1, .null] [] h Q := by
  refine r_aload_n dJ4_deleteEntry_240 rfl rfl ?_
  refine r_null dJ4_deleteEntry_241 ?_
  obtain ⟨k1, H⟩ := H
  replace H := H _ rfl
  refine r_putG fw_J4_124_16 (by decide) dJ4_deleteEntry_242 k1 (by decide) rfl ?_
  exact r_vret dJ4_deleteEntry_245 rfl H
abbrev w_J4_deleteEntry_192 (g : PG) (d : Nat) (l1 : Nat) (h : PH) (Q : Out → PH → Prop) : Prop := hkd h l1 = 16 ∧ (((hG h 544 l1) = 0) → Q (.inl none) h) ∧ ((¬ (hG h 544 l1) = 0) → hkd h (hG h 544 l1) = 16 ∧ ((¬ l1 = (hG h 542 (hG h 544 l1))) → ((¬ l1 = (hG h 543 (hG h 544 l1))) → w_J4_deleteEntry_240 g d l1 h Q) ∧ ((l1 = (hG h 543 (hG h 544 l1))) → ∀ h6, h6 = setG 543 (hG h 544 l1) (0 : Nat) h → w_J4_deleteEntry_240 g d l1 h6 Q)) ∧ ((l1 = (hG h 542 (hG h 544 l1))) → ∀ h7, h7 = setG 542 (hG h 544 l1) (0 : Nat) h → w_J4_deleteEntry_240 g d l1 h7 Q))
theorem v_J4_deleteEntry_192 {g : PG} {d : Nat} {l1 : Nat} {h : PH} {Q : Out → PH → Prop} (H : w_J4_deleteEntry_192 g d l1 h Q) : R g d m_J4_deleteEntry 192 [.null, .ref l1, .null] [] h Q := by
  refine r_aload_n dJ4_deleteEntry_192 rfl rfl ?_
  obtain ⟨k1, H⟩ := H
  refine r_getG fr_J4_124_16 (by decide) dJ4_deleteEntry_193 k1 (by decide) ?_
  refine r_ifnull (tgt := 245) dJ4_deleteEntry_196 rfl (fun b2 => ?_) (fun b2 => ?_)
  · replace H := H.1 b2
    exact r_vret dJ4_deleteEntry_245 rfl H
  · replace H := H.2 b2
    refine r_aload_n dJ4_deleteEntry_199 rfl rfl ?_
    refine r_aload_n dJ4_deleteEntry_200 rfl rfl ?_
    refine r_getG fr_J4_124_16 (by decide) dJ4_deleteEntry_201 k1 (by decide) ?_
    obtain ⟨k3, H⟩ := H
    refine r_getG fr_J4_111_16 (by decide) dJ4_deleteEntry_204 k3 (by decide) ?_
    refine r_acmp_ne (tgt := 221) dJ4_deleteEntry_207 rfl (fun b4 => ?_) (fun b4 => ?_)
    · replace H := H.1 b4
      refine r_aload_n dJ4_deleteEntry_221 rfl rfl ?_
      refine r_aload_n dJ4_deleteEntry_222 rfl rfl ?_
      refine r_getG fr_J4_124_16 (by decide) dJ4_deleteEntry_223 k1 (by decide) ?_
      refine r_getG fr_J4_114_16 (by decide) dJ4_deleteEntry_226 k3 (by decide) ?_
      refine r_acmp_ne (tgt := 240) dJ4_deleteEntry_229 rfl (fun b5 => ?_) (fun b5 => ?_)
      · replace H := H.1 b5
        exact v_J4_deleteEntry_240 H
      · replace H := H.2 b5
        refine r_aload_n dJ4_deleteEntry_232 rfl rfl ?_
        refine r_getG fr_J4_124_16 (by decide) dJ4_deleteEntry_233 k1 (by decide) ?_
        refine r_null dJ4_deleteEntry_236 ?_
        replace H := H _ rfl
        refine r_putG fw_J4_114_16 (by decide) dJ4_deleteEntry_237 k3 (by decide) rfl ?_
        exact v_J4_deleteEntry_240 H
    · replace H := H.2 b4
      refine r_aload_n dJ4_deleteEntry_210 rfl rfl ?_
      refine r_getG fr_J4_124_16 (by decide) dJ4_deleteEntry_211 k1 (by decide) ?_
      refine r_null dJ4_deleteEntry_214 ?_
      replace H := H _ rfl
      refine r_putG fw_J4_111_16 (by decide) dJ4_deleteEntry_215 k3 (by decide) rfl ?_
      refine r_goto (tgt := 240) dJ4_deleteEntry_218 rfl ?_
      exact v_J4_deleteEntry_240 H
abbrev w_J4_deleteEntry_133 (g : PG) (d : Nat) (l0 : Nat) (l1 : Nat) (l2 : Nat) (h : PH) (Q : Out → PH → Prop) : Prop := hkd h l1 = 16 ∧ ∀ h2, h2 = setG 544 l1 (0 : Nat) h → ∀ h3, h3 = setG 543 l1 (0 : Nat) h2 → ∀ h4, h4 = setG 542 l1 (0 : Nat) h3 → ((¬ (hF h4 41 l1) = (1 : Int32)) → Q (.inl none) h4) ∧ (((hF h4 41 l1) = (1 : Int32)) → hkd h4 l0 = 15 ∧ C g d m_J4_fixAfterDeletion [.ref l0, .ref l2] h4 (oV (fun h7 => Q (.inl none) h7) (fun r hx => Q (.inr r) hx)))
theorem v_J4_deleteEntry_133 {g : PG} {d : Nat} {l0 : Nat} {l1 : Nat} {l2 : Nat} {h : PH} {Q : Out → PH → Prop} (H : w_J4_deleteEntry_133 g d l0 l1 l2 h Q) : R g d m_J4_deleteEntry 133 [.ref l0, .ref l1, .ref l2] [] h Q := by
  refine r_aload_n dJ4_deleteEntry_133 rfl rfl ?_
  refine r_aload_n dJ4_deleteEntry_134 rfl rfl ?_
  refine r_aload_n dJ4_deleteEntry_135 rfl rfl ?_
  refine r_null dJ4_deleteEntry_136 ?_
  refine r_dup_x1 dJ4_deleteEntry_137 rfl rfl ?_
  obtain ⟨k1, H⟩ := H
  replace H := H _ rfl
  refine r_putG fw_J4_124_16 (by decide) dJ4_deleteEntry_138 k1 (by decide) rfl ?_
  refine r_dup_x1 dJ4_deleteEntry_141 rfl rfl ?_
  replace H := H _ rfl
  refine r_putG fw_J4_114_16 (by decide) dJ4_deleteEntry_142 k1 (by decide) rfl ?_
  replace H := H _ rfl
  refine r_putG fw_J4_111_16 (by decide) dJ4_deleteEntry_145 k1 (by decide) rfl ?_
  refine r_aload_n dJ4_deleteEntry_148 rfl rfl ?_
  refine r_getF fr_J4_290_16 (by decide) dJ4_deleteEntry_149 k1 (by decide) ?_
  refine r_iconst dJ4_deleteEntry_152 rfl ?_
  refine r_icmp_ne (tgt := 245) dJ4_deleteEntry_153 rfl (fun b5 => ?_) (fun b5 => ?_)
  · replace H := H.1 b5
    exact r_vret dJ4_deleteEntry_245 rfl H
  · replace H := H.2 b5
    refine r_aload_n dJ4_deleteEntry_156 rfl rfl ?_
    refine r_aload_n dJ4_deleteEntry_157 rfl rfl ?_
    obtain ⟨k6, H⟩ := H
    refine r_invV (y := m_J4_fixAfterDeletion) dJ4_deleteEntry_158 rfl (lw_V q2553 q2555 qp39 q113 q2556) py_J4_fixAfterDeletion (Nat.le_of_ble_eq_true rfl) (args := [_]) rfl rfl (Nat.le_of_ble_eq_true rfl) k6 (by decide) rfl (C.monoE H (fun o h7 _ x9 K => cont_V K (fun H => ?_) (fun r HX => XR_nc rfl HX)))
    refine r_goto (tgt := 245) dJ4_deleteEntry_161 rfl ?_
    exact r_vret dJ4_deleteEntry_245 rfl H
abbrev w_J4_deleteEntry_75 (g : PG) (d : Nat) (l0 : Nat) (l1 : Nat) (s0 : Nat) (h : PH) (Q : Out → PH → Prop) : Prop := ((s0 = 0) → hkd h l1 = 16 ∧ ((¬ (hG h 544 l1) = 0) → ((¬ (hF h 41 l1) = (1 : Int32)) → w_J4_deleteEntry_192 g d l1 h Q) ∧ (((hF h 41 l1) = (1 : Int32)) → hkd h l0 = 15 ∧ C g d m_J4_fixAfterDeletion [.ref l0, .ref l1] h (oV (fun h6 => w_J4_deleteEntry_192 g d l1 h6 Q) (fun r hx => Q (.inr r) hx)))) ∧ (((hG h 544 l1) = 0) → hkd h l0 = 15 ∧ ∀ h10, h10 = setG 536 l0 (0 : Nat) h → Q (.inl none) h10)) ∧ ((¬ s0 = 0) → hkd h l1 = 16 ∧ hkd h s0 = 16 ∧ ∀ h13, h13 = setG 544 s0 (hG h 544 l1) h → ((¬ (hG h13 544 l1) = 0) → hkd h13 (hG h13 544 l1) = 16 ∧ ((¬ l1 = (hG h13 542 (hG h13 544 l1))) → ∀ h17, h17 = setG 543 (hG h13 544 l1) s0 h13 → w_J4_deleteEntry_133 g d l0 l1 s0 h17 Q) ∧ ((l1 = (hG h13 542 (hG h13 544 l1))) → ∀ h18, h18 = setG 542 (hG h13 544 l1) s0 h13 → w_J4_deleteEntry_133 g d l0 l1 s0 h18 Q)) ∧ (((hG h13 544 l1) = 0) → hkd h13 l0 = 15 ∧ ∀ h20, h20 = setG 536 l0 s0 h13 → w_J4_deleteEntry_133 g d l0 l1 s0 h20 Q))
theorem v_J4_deleteEntry_75 {g : PG} {d : Nat} {l0 : Nat} {l1 : Nat} {s0 : Nat} {h : PH} {Q : Out → PH → Prop} (H : w_J4_deleteEntry_75 g d l0 l1 s0 h Q) : R g d m_J4_deleteEntry 75 [.ref l0, .ref l1, .null] [.ref s0] h Q := by
  refine r_astore_n dJ4_deleteEntry_75 rfl (Nat.le_of_ble_eq_true rfl) rfl (slS (slS sl0)) ?_
  refine r_aload_n dJ4_deleteEntry_76 rfl rfl ?_
  refine r_ifnull (tgt := 164) dJ4_deleteEntry_77 rfl (fun b1 => ?_) (fun b1 => ?_)
  · replace H := H.1 b1
    refine r_aload_n dJ4_deleteEntry_164 rfl rfl ?_
    obtain ⟨k2, H⟩ := H
    refine r_getG fr_J4_124_16 (by decide) dJ4_deleteEntry_165 k2 (by decide) ?_
    refine r_ifnonnull (tgt := 179) dJ4_deleteEntry_168 rfl (fun b3 => ?_) (fun b3 => ?_)
    · replace H := H.1 b3
      refine r_aload_n dJ4_deleteEntry_179 rfl rfl ?_
      refine r_getF fr_J4_290_16 (by decide) dJ4_deleteEntry_180 k2 (by decide) ?_
      refine r_iconst dJ4_deleteEntry_183 rfl ?_
      refine r_icmp_ne (tgt := 192) dJ4_deleteEntry_184 rfl (fun b4 => ?_) (fun b4 => ?_)
      · replace H := H.1 b4
        exact R.forget (v_J4_deleteEntry_192 H) ⟨Or.inr rfl, ⟨Or.inl rfl, ⟨Or.inr rfl, trivial⟩⟩⟩
      · replace H := H.2 b4
        refine r_aload_n dJ4_deleteEntry_187 rfl rfl ?_
        refine r_aload_n dJ4_deleteEntry_188 rfl rfl ?_
        obtain ⟨k5, H⟩ := H
        refine r_invV (y := m_J4_fixAfterDeletion) dJ4_deleteEntry_189 rfl (lw_V q2553 q2555 qp39 q113 q2556) py_J4_fixAfterDeletion (Nat.le_of_ble_eq_true rfl) (args := [_]) rfl rfl (Nat.le_of_ble_eq_true rfl) k5 (by decide) rfl (C.monoE H (fun o h6 _ x8 K => cont_V K (fun H => ?_) (fun r HX => XR_nc rfl HX)))
        exact R.forget (v_J4_deleteEntry_192 H) ⟨Or.inr rfl, ⟨Or.inl rfl, ⟨Or.inr rfl, trivial⟩⟩⟩
    · replace H := H.2 b3
      refine r_aload_n dJ4_deleteEntry_171 rfl rfl ?_
      refine r_null dJ4_deleteEntry_172 ?_
      obtain ⟨k9, H⟩ := H
      replace H := H _ rfl
      refine r_putG fw_J4_101_15 (by decide) dJ4_deleteEntry_173 k9 (by decide) rfl ?_
      refine r_goto (tgt := 245) dJ4_deleteEntry_176 rfl ?_
      exact r_vret dJ4_deleteEntry_245 rfl H
  · replace H := H.2 b1
    refine r_aload_n dJ4_deleteEntry_80 rfl rfl ?_
    refine r_aload_n dJ4_deleteEntry_81 rfl rfl ?_
    obtain ⟨k11, H⟩ := H
    refine r_getG fr_J4_124_16 (by decide) dJ4_deleteEntry_82 k11 (by decide) ?_
    obtain ⟨k12, H⟩ := H
    replace H := H _ rfl
    refine r_putG fw_J4_124_16 (by decide) dJ4_deleteEntry_85 k12 (by decide) rfl ?_
    refine r_aload_n dJ4_deleteEntry_88 rfl rfl ?_
    refine r_getG fr_J4_124_16 (by decide) dJ4_deleteEntry_89 k11 (by decide) ?_
    refine r_ifnonnull (tgt := 103) dJ4_deleteEntry_92 rfl (fun b14 => ?_) (fun b14 => ?_)
    · replace H := H.1 b14
      refine r_aload_n dJ4_deleteEntry_103 rfl rfl ?_
      refine r_aload_n dJ4_deleteEntry_104 rfl rfl ?_
      refine r_getG fr_J4_124_16 (by decide) dJ4_deleteEntry_105 k11 (by decide) ?_
      obtain ⟨k15, H⟩ := H
      refine r_getG fr_J4_111_16 (by decide) dJ4_deleteEntry_108 k15 (by decide) ?_
      refine r_acmp_ne (tgt := 125) dJ4_deleteEntry_111 rfl (fun b16 => ?_) (fun b16 => ?_)
      · replace H := H.1 b16
        refine r_aload_n dJ4_deleteEntry_125 rfl rfl ?_
        refine r_getG fr_J4_124_16 (by decide) dJ4_deleteEntry_126 k11 (by decide) ?_
        refine r_aload_n dJ4_deleteEntry_129 rfl rfl ?_
        replace H := H _ rfl
        refine r_putG fw_J4_114_16 (by decide) dJ4_deleteEntry_130 k15 (by decide) rfl ?_
        exact v_J4_deleteEntry_133 H
      · replace H := H.2 b16
        refine r_aload_n dJ4_deleteEntry_114 rfl rfl ?_
        refine r_getG fr_J4_124_16 (by decide) dJ4_deleteEntry_115 k11 (by decide) ?_
        refine r_aload_n dJ4_deleteEntry_118 rfl rfl ?_
        replace H := H _ rfl
        refine r_putG fw_J4_111_16 (by decide) dJ4_deleteEntry_119 k15 (by decide) rfl ?_
        refine r_goto (tgt := 133) dJ4_deleteEntry_122 rfl ?_
        exact v_J4_deleteEntry_133 H
    · replace H := H.2 b14
      refine r_aload_n dJ4_deleteEntry_95 rfl rfl ?_
      refine r_aload_n dJ4_deleteEntry_96 rfl rfl ?_
      obtain ⟨k19, H⟩ := H
      replace H := H _ rfl
      refine r_putG fw_J4_101_15 (by decide) dJ4_deleteEntry_97 k19 (by decide) rfl ?_
      refine r_goto (tgt := 133) dJ4_deleteEntry_100 rfl ?_
      exact v_J4_deleteEntry_133 H
abbrev w_J4_deleteEntry_57 (g : PG) (d : Nat) (l0 : Nat) (l1 : Nat) (h : PH) (Q : Out → PH → Prop) : Prop := hkd h l1 = 16 ∧ (((hG h 542 l1) = 0) → w_J4_deleteEntry_75 g d l0 l1 (hG h 543 l1) h Q) ∧ ((¬ (hG h 542 l1) = 0) → w_J4_deleteEntry_75 g d l0 l1 (hG h 542 l1) h Q)
theorem v_J4_deleteEntry_57 {g : PG} {d : Nat} {l0 : Nat} {l1 : Nat} {h : PH} {Q : Out → PH → Prop} (H : w_J4_deleteEntry_57 g d l0 l1 h Q) : R g d m_J4_deleteEntry 57 [.ref l0, .ref l1, .null] [] h Q := by
  refine r_aload_n dJ4_deleteEntry_57 rfl rfl ?_
  obtain ⟨k1, H⟩ := H
  refine r_getG fr_J4_111_16 (by decide) dJ4_deleteEntry_58 k1 (by decide) ?_
  refine r_ifnull (tgt := 71) dJ4_deleteEntry_61 rfl (fun b2 => ?_) (fun b2 => ?_)
  · replace H := H.1 b2
    refine r_aload_n dJ4_deleteEntry_71 rfl rfl ?_
    refine r_getG fr_J4_114_16 (by decide) dJ4_deleteEntry_72 k1 (by decide) ?_
    exact v_J4_deleteEntry_75 H
  · replace H := H.2 b2
    refine r_aload_n dJ4_deleteEntry_64 rfl rfl ?_
    refine r_getG fr_J4_111_16 (by decide) dJ4_deleteEntry_65 k1 (by decide) ?_
    refine r_goto (tgt := 75) dJ4_deleteEntry_68 rfl ?_
    exact v_J4_deleteEntry_75 H
abbrev w_J4_deleteEntry_0 (g : PG) (d : Nat) (l0 : Nat) (l1 : Nat) (h : PH) (Q : Out → PH → Prop) : Prop := hkd h l0 = 15 ∧ ∀ h2, h2 = setF 40 l0 ((hF h 40 l0) + (1 : Int32)) h → ∀ h3, h3 = setF 39 l0 ((hF h2 39 l0) - (1 : Int32)) h2 → hkd h3 l1 = 16 ∧ (((hG h3 542 l1) = 0) → w_J4_deleteEntry_57 g d l0 l1 h3 Q) ∧ ((¬ (hG h3 542 l1) = 0) → (((hG h3 543 l1) = 0) → w_J4_deleteEntry_57 g d l0 l1 h3 Q) ∧ ((¬ (hG h3 543 l1) = 0) → C g d m_J4_successor [.ref l1] h3 (oR (fun v8 h7 => hkd h7 v8 = 16 ∧ ∀ h11, h11 = setG 540 l1 (hG h7 540 v8) h7 → ∀ h12, h12 = setG 541 l1 (hG h11 541 v8) h11 → w_J4_deleteEntry_57 g d l0 v8 h12 Q) (fun r hx => Q (.inr r) hx))))
theorem v_J4_deleteEntry_0 {g : PG} {d : Nat} {l0 : Nat} {l1 : Nat} {h : PH} {Q : Out → PH → Prop} (H : w_J4_deleteEntry_0 g d l0 l1 h Q) : R g d m_J4_deleteEntry 0 [.ref l0, .ref l1, .null] [] h Q := by
  refine r_aload_n dJ4_deleteEntry_0 rfl rfl ?_
  refine r_dup dJ4_deleteEntry_1 rfl ?_
  obtain ⟨k1, H⟩ := H
  refine r_getF fr_J4_13_15 (by decide) dJ4_deleteEntry_2 k1 (by decide) ?_
  refine r_iconst dJ4_deleteEntry_5 rfl ?_
  refine r_iadd dJ4_deleteEntry_6 ?_
  replace H := H _ rfl
  refine r_putF fw_J4_13_15 (by decide) dJ4_deleteEntry_7 k1 (by decide) rfl rfl ?_
  refine r_aload_n dJ4_deleteEntry_10 rfl rfl ?_
  refine r_dup dJ4_deleteEntry_11 rfl ?_
  refine r_getF fr_J4_7_15 (by decide) dJ4_deleteEntry_12 k1 (by decide) ?_
  refine r_iconst dJ4_deleteEntry_15 rfl ?_
  refine r_isub dJ4_deleteEntry_16 ?_
  replace H := H _ rfl
  refine r_putF fw_J4_7_15 (by decide) dJ4_deleteEntry_17 k1 (by decide) rfl rfl ?_
  refine r_aload_n dJ4_deleteEntry_20 rfl rfl ?_
  obtain ⟨k4, H⟩ := H
  refine r_getG fr_J4_111_16 (by decide) dJ4_deleteEntry_21 k4 (by decide) ?_
  refine r_ifnull (tgt := 57) dJ4_deleteEntry_24 rfl (fun b5 => ?_) (fun b5 => ?_)
  · replace H := H.1 b5
    exact v_J4_deleteEntry_57 H
  · replace H := H.2 b5
    refine r_aload_n dJ4_deleteEntry_27 rfl rfl ?_
    refine r_getG fr_J4_114_16 (by decide) dJ4_deleteEntry_28 k4 (by decide) ?_
    refine r_ifnull (tgt := 57) dJ4_deleteEntry_31 rfl (fun b6 => ?_) (fun b6 => ?_)
    · replace H := H.1 b6
      exact v_J4_deleteEntry_57 H
    · replace H := H.2 b6
      refine r_aload_n dJ4_deleteEntry_34 rfl rfl ?_
      refine r_invS (y := m_J4_successor) dJ4_deleteEntry_35 rfl (lw_S q2552 q1231 q113 q1232) py_J4_successor (Nat.le_of_ble_eq_true rfl) (args := [_]) rfl rfl (Nat.le_of_ble_eq_true rfl) (C.monoE H (fun o h7 _ x9 K => cont_R K (fun v8 H => ?_) (fun r HX => XR_nc rfl HX)))
      refine r_astore_n dJ4_deleteEntry_38 rfl (Nat.le_of_ble_eq_true rfl) rfl (slS (slS sl0)) ?_
      refine r_aload_n dJ4_deleteEntry_39 rfl rfl ?_
      refine r_aload_n dJ4_deleteEntry_40 rfl rfl ?_
      obtain ⟨k10, H⟩ := H
      refine r_getG fr_J4_105_16 (by decide) dJ4_deleteEntry_41 k10 (by decide) ?_
      replace H := H _ rfl
      refine r_putG fw_J4_105_16 (by decide) dJ4_deleteEntry_44 (x9.kd k4 (by decide)) (by decide) rfl ?_
      refine r_aload_n dJ4_deleteEntry_47 rfl rfl ?_
      refine r_aload_n dJ4_deleteEntry_48 rfl rfl ?_
      refine r_getG fr_J4_58_16 (by decide) dJ4_deleteEntry_49 k10 (by decide) ?_
      replace H := H _ rfl
      refine r_putG fw_J4_58_16 (by decide) dJ4_deleteEntry_52 (x9.kd k4 (by decide)) (by decide) rfl ?_
      refine r_aload_n dJ4_deleteEntry_55 rfl rfl ?_
      refine r_astore_n dJ4_deleteEntry_56 rfl (Nat.le_of_ble_eq_true rfl) rfl (slS sl0) ?_
      exact R.forget (v_J4_deleteEntry_57 H) ⟨Or.inl rfl, ⟨Or.inl rfl, ⟨Or.inr rfl, trivial⟩⟩⟩
theorem c_J4_deleteEntry_0 {g : PG} {d : Nat} {l0 : Nat} {l1 : Nat} {h : PH} {Q : Out → PH → Prop} (H : w_J4_deleteEntry_0 g d l0 l1 h Q) : C g (d + 1) m_J4_deleteEntry [.ref l0, .ref l1] h Q := C_of_R rfl rfl (Nat.le_of_ble_eq_true rfl) rfl (v_J4_deleteEntry_0 H)
abbrev w_J4_fixAfterDeletion_345 (g : PG) (d : Nat) (l1 : Nat) (h : PH) (Q : Out → PH → Prop) : Prop := C g d m_J4_setColor [.ref l1, .int 1] h (oV (fun h1 => Q (.inl none) h1) (fun r hx => Q (.inr r) hx))
theorem v_J4_fixAfterDeletion_345 {g : PG} {d : Nat} {l1 : Nat} {h : PH} {Q : Out → PH → Prop} (H : w_J4_fixAfterDeletion_345 g d l1 h Q) : R g d m_J4_fixAfterDeletion 345 [.null, .ref l1, .null] [] h Q := by
  refine r_aload_n dJ4_fixAfterDeletion_345 rfl rfl ?_
  refine r_iconst dJ4_fixAfterDeletion_346 rfl ?_
  refine r_invS (y := m_J4_setColor) dJ4_fixAfterDeletion_347 rfl (lw_S q1740 q1741 q113 q1742) py_J4_setColor (Nat.le_of_ble_eq_true rfl) (args := [_, _]) rfl rfl (Nat.le_of_ble_eq_true rfl) (C.monoE H (fun o h1 _ x3 K => cont_V K (fun H => ?_) (fun r HX => XR_nc rfl HX)))
  exact r_vret dJ4_fixAfterDeletion_350 rfl H
abbrev w_J4_fixAfterDeletion_342 (g : PG) (d : Nat) (l0 : Nat) (l1 : Nat) (h : PH) (Q : Out → PH → Prop) : Prop := R g d m_J4_fixAfterDeletion 0 [.ref l0, .ref l1, .null] [] h Q
theorem v_J4_fixAfterDeletion_342 {g : PG} {d : Nat} {l0 : Nat} {l1 : Nat} {h : PH} {Q : Out → PH → Prop} (H : w_J4_fixAfterDeletion_342 g d l0 l1 h Q) : R g d m_J4_fixAfterDeletion 342 [.ref l0, .ref l1, .null] [] h Q := by
  refine r_goto (tgt := 0) dJ4_fixAfterDeletion_342 rfl ?_
  exact H
abbrev w_J4_fixAfterDeletion_302 (g : PG) (d : Nat) (l0 : Nat) (l1 : Nat) (l2 : Nat) (h : PH) (Q : Out → PH → Prop) : Prop := C g d m_J4_parentOf [.ref l1] h (oR (fun v2 h1 => C g d m_J4_colorOf [.ref v2] h1 (oI (fun v5 h4 => C g d m_J4_setColor [.ref l2, .int v5] h4 (oV (fun h7 => C g d m_J4_parentOf [.ref l1] h7 (oR (fun v11 h10 => C g d m_J4_setColor [.ref v11, .int 1] h10 (oV (fun h13 => C g d m_J4_leftOf [.ref l2] h13 (oR (fun v17 h16 => C g d m_J4_setColor [.ref v17, .int 1] h16 (oV (fun h19 => C g d m_J4_parentOf [.ref l1] h19 (oR (fun v23 h22 => hkd h22 l0 = 15 ∧ C g d m_J4_rotateRight [.ref l0, .ref v23] h22 (oV (fun h26 => w_J4_fixAfterDeletion_342 g d l0 (hG h26 536 l0) h26 Q) (fun r hx => Q (.inr r) hx))) (fun r hx => Q (.inr r) hx))) (fun r hx => Q (.inr r) hx))) (fun r hx => Q (.inr r) hx))) (fun r hx => Q (.inr r) hx))) (fun r hx => Q (.inr r) hx))) (fun r hx => Q (.inr r) hx))) (fun r hx => Q (.inr r) hx))) (fun r hx => Q (.inr r) hx))
theorem v_J4_fixAfterDeletion_302 {g : PG} {d : Nat} {l0 : Nat} {l1 : Nat} {l2 : Nat} {h : PH} {Q : Out → PH → Prop} (H : w_J4_fixAfterDeletion_302 g d l0 l1 l2 h Q) : R g d m_J4_fixAfterDeletion 302 [.ref l0, .ref l1, .ref l2] [] h Q := by
  refine r_aload_n dJ4_fixAfterDeletion_302 rfl rfl ?_
  refine r_aload_n dJ4_fixAfterDeletion_303 rfl rfl ?_
  refine r_invS (y := m_J4_parentOf) dJ4_fixAfterDeletion_304 rfl (lw_S q1728 q1729 q113 q1730) py_J4_parentOf (Nat.le_of_ble_eq_true rfl) (args := [_]) rfl rfl (Nat.le_of_ble_eq_true rfl) (C.monoE H (fun o h1 _ x3 K => cont_R K (fun v2 H => ?_) (fun r HX => XR_nc rfl HX)))
  refine r_invS (y := m_J4_colorOf) dJ4_fixAfterDeletion_307 rfl (lw_S q1737 q1738 q113 q1739) py_J4_colorOf (Nat.le_of_ble_eq_true rfl) (args := [_]) rfl rfl (Nat.le_of_ble_eq_true rfl) (C.monoE H (fun o h4 _ x6 K => cont_I K (fun v5 H => ?_) (fun r HX => XR_nc rfl HX)))
  refine r_invS (y := m_J4_setColor) dJ4_fixAfterDeletion_310 rfl (lw_S q1740 q1741 q113 q1742) py_J4_setColor (Nat.le_of_ble_eq_true rfl) (args := [_, _]) rfl rfl (Nat.le_of_ble_eq_true rfl) (C.monoE H (fun o h7 _ x9 K => cont_V K (fun H => ?_) (fun r HX => XR_nc rfl HX)))
  refine r_aload_n dJ4_fixAfterDeletion_313 rfl rfl ?_
  refine r_invS (y := m_J4_parentOf) dJ4_fixAfterDeletion_314 rfl (lw_S q1728 q1729 q113 q1730) py_J4_parentOf (Nat.le_of_ble_eq_true rfl) (args := [_]) rfl rfl (Nat.le_of_ble_eq_true rfl) (C.monoE H (fun o h10 _ x12 K => cont_R K (fun v11 H => ?_) (fun r HX => XR_nc rfl HX)))
  refine r_iconst dJ4_fixAfterDeletion_317 rfl ?_
  refine r_invS (y := m_J4_setColor) dJ4_fixAfterDeletion_318 rfl (lw_S q1740 q1741 q113 q1742) py_J4_setColor (Nat.le_of_ble_eq_true rfl) (args := [_, _]) rfl rfl (Nat.le_of_ble_eq_true rfl) (C.monoE H (fun o h13 _ x15 K => cont_V K (fun H => ?_) (fun r HX => XR_nc rfl HX)))
  refine r_aload_n dJ4_fixAfterDeletion_321 rfl rfl ?_
  refine r_invS (y := m_J4_leftOf) dJ4_fixAfterDeletion_322 rfl (lw_S q1731 q1732 q113 q1733) py_J4_leftOf (Nat.le_of_ble_eq_true rfl) (args := [_]) rfl rfl (Nat.le_of_ble_eq_true rfl) (C.monoE H (fun o h16 _ x18 K => cont_R K (fun v17 H => ?_) (fun r HX => XR_nc rfl HX)))
  refine r_iconst dJ4_fixAfterDeletion_325 rfl ?_
  refine r_invS (y := m_J4_setColor) dJ4_fixAfterDeletion_326 rfl (lw_S q1740 q1741 q113 q1742) py_J4_setColor (Nat.le_of_ble_eq_true rfl) (args := [_, _]) rfl rfl (Nat.le_of_ble_eq_true rfl) (C.monoE H (fun o h19 _ x21 K => cont_V K (fun H => ?_) (fun r HX => XR_nc rfl HX)))
  refine r_aload_n dJ4_fixAfterDeletion_329 rfl rfl ?_
  refine r_aload_n dJ4_fixAfterDeletion_330 rfl rfl ?_
  refine r_invS (y := m_J4_parentOf) dJ4_fixAfterDeletion_331 rfl (lw_S q1728 q1729 q113 q1730) py_J4_parentOf (Nat.le_of_ble_eq_true rfl) (args := [_]) rfl rfl (Nat.le_of_ble_eq_true rfl) (C.monoE H (fun o h22 _ x24 K => cont_R K (fun v23 H => ?_) (fun r HX => XR_nc rfl HX)))
  obtain ⟨k25, H⟩ := H
  refine r_invV (y := m_J4_rotateRight) dJ4_fixAfterDeletion_334 rfl (lw_V q1747 q1749 qp17 q113 q1750) py_J4_rotateRight (Nat.le_of_ble_eq_true rfl) (args := [_]) rfl rfl (Nat.le_of_ble_eq_true rfl) k25 (by decide) rfl (C.monoE H (fun o h26 _ x28 K => cont_V K (fun H => ?_) (fun r HX => XR_nc rfl HX)))
  refine r_aload_n dJ4_fixAfterDeletion_337 rfl rfl ?_
  refine r_getG fr_J4_101_15 (by decide) dJ4_fixAfterDeletion_338 (x28.kd k25 (by decide)) (by decide) ?_
  refine r_astore_n dJ4_fixAfterDeletion_341 rfl (Nat.le_of_ble_eq_true rfl) rfl (slS sl0) ?_
  exact R.forget (v_J4_fixAfterDeletion_342 H) ⟨Or.inl rfl, ⟨Or.inl rfl, ⟨Or.inr rfl, trivial⟩⟩⟩
abbrev w_J4_fixAfterDeletion_265 (g : PG) (d : Nat) (l0 : Nat) (l1 : Nat) (l2 : Nat) (h : PH) (Q : Out → PH → Prop) : Prop := C g d m_J4_leftOf [.ref l2] h (oR (fun v2 h1 => C g d m_J4_colorOf [.ref v2] h1 (oI (fun v5 h4 => ((¬ v5 = (1 : Int32)) → w_J4_fixAfterDeletion_302 g d l0 l1 l2 h4 Q) ∧ ((v5 = (1 : Int32)) → C g d m_J4_rightOf [.ref l2] h4 (oR (fun v9 h8 => C g d m_J4_setColor [.ref v9, .int 1] h8 (oV (fun h11 => C g d m_J4_setColor [.ref l2, .int 0] h11 (oV (fun h14 => hkd h14 l0 = 15 ∧ C g d m_J4_rotateLeft [.ref l0, .ref l2] h14 (oV (fun h18 => C g d m_J4_parentOf [.ref l1] h18 (oR (fun v22 h21 => C g d m_J4_leftOf [.ref v22] h21 (oR (fun v25 h24 => w_J4_fixAfterDeletion_302 g d l0 l1 v25 h24 Q) (fun r hx => Q (.inr r) hx))) (fun r hx => Q (.inr r) hx))) (fun r hx => Q (.inr r) hx))) (fun r hx => Q (.inr r) hx))) (fun r hx => Q (.inr r) hx))) (fun r hx => Q (.inr r) hx)))) (fun r hx => Q (.inr r) hx))) (fun r hx => Q (.inr r) hx))
theorem v_J4_fixAfterDeletion_265 {g : PG} {d : Nat} {l0 : Nat} {l1 : Nat} {l2 : Nat} {h : PH} {Q : Out → PH → Prop} (H : w_J4_fixAfterDeletion_265 g d l0 l1 l2 h Q) : R g d m_J4_fixAfterDeletion 265 [.ref l0, .ref l1, .ref l2] [] h Q := by
  refine r_aload_n dJ4_fixAfterDeletion_265 rfl rfl ?_
  refine r_invS (y := m_J4_leftOf) dJ4_fixAfterDeletion_266 rfl (lw_S q1731 q1732 q113 q1733) py_J4_leftOf (Nat.le_of_ble_eq_true rfl) (args := [_]) rfl rfl (Nat.le_of_ble_eq_true rfl) (C.monoE H (fun o h1 _ x3 K => cont_R K (fun v2 H => ?_) (fun r HX => XR_nc rfl HX)))
  refine r_invS (y := m_J4_colorOf) dJ4_fixAfterDeletion_269 rfl (lw_S q1737 q1738 q113 q1739) py_J4_colorOf (Nat.le_of_ble_eq_true rfl) (args := [_]) rfl rfl (Nat.le_of_ble_eq_true rfl) (C.monoE H (fun o h4 _ x6 K => cont_I K (fun v5 H => ?_) (fun r HX => XR_nc rfl HX)))
  refine r_iconst dJ4_fixAfterDeletion_272 rfl ?_
  refine r_icmp_ne (tgt := 302) dJ4_fixAfterDeletion_273 rfl (fun b7 => ?_) (fun b7 => ?_)
  · replace H := H.1 b7
    exact v_J4_fixAfterDeletion_302 H
  · replace H := H.2 b7
    refine r_aload_n dJ4_fixAfterDeletion_276 rfl rfl ?_
    refine r_invS (y := m_J4_rightOf) dJ4_fixAfterDeletion_277 rfl (lw_S q1734 q1735 q113 q1736) py_J4_rightOf (Nat.le_of_ble_eq_true rfl) (args := [_]) rfl rfl (Nat.le_of_ble_eq_true rfl) (C.monoE H (fun o h8 _ x10 K => cont_R K (fun v9 H => ?_) (fun r HX => XR_nc rfl HX)))
    refine r_iconst dJ4_fixAfterDeletion_280 rfl ?_
    refine r_invS (y := m_J4_setColor) dJ4_fixAfterDeletion_281 rfl (lw_S q1740 q1741 q113 q1742) py_J4_setColor (Nat.le_of_ble_eq_true rfl) (args := [_, _]) rfl rfl (Nat.le_of_ble_eq_true rfl) (C.monoE H (fun o h11 _ x13 K => cont_V K (fun H => ?_) (fun r HX => XR_nc rfl HX)))
    refine r_aload_n dJ4_fixAfterDeletion_284 rfl rfl ?_
    refine r_iconst dJ4_fixAfterDeletion_285 rfl ?_
    refine r_invS (y := m_J4_setColor) dJ4_fixAfterDeletion_286 rfl (lw_S q1740 q1741 q113 q1742) py_J4_setColor (Nat.le_of_ble_eq_true rfl) (args := [_, _]) rfl rfl (Nat.le_of_ble_eq_true rfl) (C.monoE H (fun o h14 _ x16 K => cont_V K (fun H => ?_) (fun r HX => XR_nc rfl HX)))
    refine r_aload_n dJ4_fixAfterDeletion_289 rfl rfl ?_
    refine r_aload_n dJ4_fixAfterDeletion_290 rfl rfl ?_
    obtain ⟨k17, H⟩ := H
    refine r_invV (y := m_J4_rotateLeft) dJ4_fixAfterDeletion_291 rfl (lw_V q1743 q1745 qp16 q113 q1746) py_J4_rotateLeft (Nat.le_of_ble_eq_true rfl) (args := [_]) rfl rfl (Nat.le_of_ble_eq_true rfl) k17 (by decide) rfl (C.monoE H (fun o h18 _ x20 K => cont_V K (fun H => ?_) (fun r HX => XR_nc rfl HX)))
    refine r_aload_n dJ4_fixAfterDeletion_294 rfl rfl ?_
    refine r_invS (y := m_J4_parentOf) dJ4_fixAfterDeletion_295 rfl (lw_S q1728 q1729 q113 q1730) py_J4_parentOf (Nat.le_of_ble_eq_true rfl) (args := [_]) rfl rfl (Nat.le_of_ble_eq_true rfl) (C.monoE H (fun o h21 _ x23 K => cont_R K (fun v22 H => ?_) (fun r HX => XR_nc rfl HX)))
    refine r_invS (y := m_J4_leftOf) dJ4_fixAfterDeletion_298 rfl (lw_S q1731 q1732 q113 q1733) py_J4_leftOf (Nat.le_of_ble_eq_true rfl) (args := [_]) rfl rfl (Nat.le_of_ble_eq_true rfl) (C.monoE H (fun o h24 _ x26 K => cont_R K (fun v25 H => ?_) (fun r HX => XR_nc rfl HX)))
    refine r_astore_n dJ4_fixAfterDeletion_301 rfl (Nat.le_of_ble_eq_true rfl) rfl (slS (slS sl0)) ?_
    exact v_J4_fixAfterDeletion_302 H
abbrev w_J4_fixAfterDeletion_230 (g : PG) (d : Nat) (l0 : Nat) (l1 : Nat) (l2 : Nat) (h : PH) (Q : Out → PH → Prop) : Prop := C g d m_J4_rightOf [.ref l2] h (oR (fun v2 h1 => C g d m_J4_colorOf [.ref v2] h1 (oI (fun v5 h4 => ((¬ v5 = (1 : Int32)) → w_J4_fixAfterDeletion_265 g d l0 l1 l2 h4 Q) ∧ ((v5 = (1 : Int32)) → C g d m_J4_leftOf [.ref l2] h4 (oR (fun v9 h8 => C g d m_J4_colorOf [.ref v9] h8 (oI (fun v12 h11 => ((¬ v12 = (1 : Int32)) → w_J4_fixAfterDeletion_265 g d l0 l1 l2 h11 Q) ∧ ((v12 = (1 : Int32)) → C g d m_J4_setColor [.ref l2, .int 0] h11 (oV (fun h15 => C g d m_J4_parentOf [.ref l1] h15 (oR (fun v19 h18 => w_J4_fixAfterDeletion_342 g d l0 v19 h18 Q) (fun r hx => Q (.inr r) hx))) (fun r hx => Q (.inr r) hx)))) (fun r hx => Q (.inr r) hx))) (fun r hx => Q (.inr r) hx)))) (fun r hx => Q (.inr r) hx))) (fun r hx => Q (.inr r) hx))
theorem v_J4_fixAfterDeletion_230 {g : PG} {d : Nat} {l0 : Nat} {l1 : Nat} {l2 : Nat} {h : PH} {Q : Out → PH → Prop} (H : w_J4_fixAfterDeletion_230 g d l0 l1 l2 h Q) : R g d m_J4_fixAfterDeletion 230 [.ref l0, .ref l1, .ref l2] [] h Q := by
  refine r_aload_n dJ4_fixAfterDeletion_230 rfl rfl ?_
  refine r_invS (y := m_J4_rightOf) dJ4_fixAfterDeletion_231 rfl (lw_S q1734 q1735 q113 q1736) py_J4_rightOf (Nat.le_of_ble_eq_true rfl) (args := [_]) rfl rfl (Nat.le_of_ble_eq_true rfl) (C.monoE H (fun o h1 _ x3 K => cont_R K (fun v2 H => ?_) (fun r HX => XR_nc rfl HX)))
  refine r_invS (y := m_J4_colorOf) dJ4_fixAfterDeletion_234 rfl (lw_S q1737 q1738 q113 q1739) py_J4_colorOf (Nat.le_of_ble_eq_true rfl) (args := [_]) rfl rfl (Nat.le_of_ble_eq_true rfl) (C.monoE H (fun o h4 _ x6 K => cont_I K (fun v5 H => ?_) (fun r HX => XR_nc rfl HX)))
  refine r_iconst dJ4_fixAfterDeletion_237 rfl ?_
  refine r_icmp_ne (tgt := 265) dJ4_fixAfterDeletion_238 rfl (fun b7 => ?_) (fun b7 => ?_)
  · replace H := H.1 b7
    exact v_J4_fixAfterDeletion_265 H
  · replace H := H.2 b7
    refine r_aload_n dJ4_fixAfterDeletion_241 rfl rfl ?_
    refine r_invS (y := m_J4_leftOf) dJ4_fixAfterDeletion_242 rfl (lw_S q1731 q1732 q113 q1733) py_J4_leftOf (Nat.le_of_ble_eq_true rfl) (args := [_]) rfl rfl (Nat.le_of_ble_eq_true rfl) (C.monoE H (fun o h8 _ x10 K => cont_R K (fun v9 H => ?_) (fun r HX => XR_nc rfl HX)))
    refine r_invS (y := m_J4_colorOf) dJ4_fixAfterDeletion_245 rfl (lw_S q1737 q1738 q113 q1739) py_J4_colorOf (Nat.le_of_ble_eq_true rfl) (args := [_]) rfl rfl (Nat.le_of_ble_eq_true rfl) (C.monoE H (fun o h11 _ x13 K => cont_I K (fun v12 H => ?_) (fun r HX => XR_nc rfl HX)))
    refine r_iconst dJ4_fixAfterDeletion_248 rfl ?_
    refine r_icmp_ne (tgt := 265) dJ4_fixAfterDeletion_249 rfl (fun b14 => ?_) (fun b14 => ?_)
    · replace H := H.1 b14
      exact v_J4_fixAfterDeletion_265 H
    · replace H := H.2 b14
      refine r_aload_n dJ4_fixAfterDeletion_252 rfl rfl ?_
      refine r_iconst dJ4_fixAfterDeletion_253 rfl ?_
      refine r_invS (y := m_J4_setColor) dJ4_fixAfterDeletion_254 rfl (lw_S q1740 q1741 q113 q1742) py_J4_setColor (Nat.le_of_ble_eq_true rfl) (args := [_, _]) rfl rfl (Nat.le_of_ble_eq_true rfl) (C.monoE H (fun o h15 _ x17 K => cont_V K (fun H => ?_) (fun r HX => XR_nc rfl HX)))
      refine r_aload_n dJ4_fixAfterDeletion_257 rfl rfl ?_
      refine r_invS (y := m_J4_parentOf) dJ4_fixAfterDeletion_258 rfl (lw_S q1728 q1729 q113 q1730) py_J4_parentOf (Nat.le_of_ble_eq_true rfl) (args := [_]) rfl rfl (Nat.le_of_ble_eq_true rfl) (C.monoE H (fun o h18 _ x20 K => cont_R K (fun v19 H => ?_) (fun r HX => XR_nc rfl HX)))
      refine r_astore_n dJ4_fixAfterDeletion_261 rfl (Nat.le_of_ble_eq_true rfl) rfl (slS sl0) ?_
      refine r_goto (tgt := 342) dJ4_fixAfterDeletion_262 rfl ?_
      exact R.forget (v_J4_fixAfterDeletion_342 H) ⟨Or.inl rfl, ⟨Or.inl rfl, ⟨Or.inr rfl, trivial⟩⟩⟩
abbrev w_J4_fixAfterDeletion_183 (g : PG) (d : Nat) (l0 : Nat) (l1 : Nat) (h : PH) (Q : Out → PH → Prop) : Prop := R g d m_J4_fixAfterDeletion 0 [.ref l0, .ref l1, .null] [] h Q
theorem v_J4_fixAfterDeletion_183 {g : PG} {d : Nat} {l0 : Nat} {l1 : Nat} {h : PH} {Q : Out → PH → Prop} (H : w_J4_fixAfterDeletion_183 g d l0 l1 h Q) : R g d m_J4_fixAfterDeletion 183 [.ref l0, .ref l1, .null] [] h Q := by
  refine r_goto (tgt := 0) dJ4_fixAfterDeletion_183 rfl ?_
  exact H
abbrev w_J4_fixAfterDeletion_143 (g : PG) (d : Nat) (l0 : Nat) (l1 : Nat) (l2 : Nat) (h : PH) (Q : Out → PH → Prop) : Prop := C g d m_J4_parentOf [.ref l1] h (oR (fun v2 h1 => C g d m_J4_colorOf [.ref v2] h1 (oI (fun v5 h4 => C g d m_J4_setColor [.ref l2, .int v5] h4 (oV (fun h7 => C g d m_J4_parentOf [.ref l1] h7 (oR (fun v11 h10 => C g d m_J4_setColor [.ref v11, .int 1] h10 (oV (fun h13 => C g d m_J4_rightOf [.ref l2] h13 (oR (fun v17 h16 => C g d m_J4_setColor [.ref v17, .int 1] h16 (oV (fun h19 => C g d m_J4_parentOf [.ref l1] h19 (oR (fun v23 h22 => hkd h22 l0 = 15 ∧ C g d m_J4_rotateLeft [.ref l0, .ref v23] h22 (oV (fun h26 => w_J4_fixAfterDeletion_183 g d l0 (hG h26 536 l0) h26 Q) (fun r hx => Q (.inr r) hx))) (fun r hx => Q (.inr r) hx))) (fun r hx => Q (.inr r) hx))) (fun r hx => Q (.inr r) hx))) (fun r hx => Q (.inr r) hx))) (fun r hx => Q (.inr r) hx))) (fun r hx => Q (.inr r) hx))) (fun r hx => Q (.inr r) hx))) (fun r hx => Q (.inr r) hx))
theorem v_J4_fixAfterDeletion_143 {g : PG} {d : Nat} {l0 : Nat} {l1 : Nat} {l2 : Nat} {h : PH} {Q : Out → PH → Prop} (H : w_J4_fixAfterDeletion_143 g d l0 l1 l2 h Q) : R g d m_J4_fixAfterDeletion 143 [.ref l0, .ref l1, .ref l2] [] h Q := by
  refine r_aload_n dJ4_fixAfterDeletion_143 rfl rfl ?_
  refine r_aload_n dJ4_fixAfterDeletion_144 rfl rfl ?_
  refine r_invS (y := m_J4_parentOf) dJ4_fixAfterDeletion_145 rfl (lw_S q1728 q1729 q113 q1730) py_J4_parentOf (Nat.le_of_ble_eq_true rfl) (args := [_]) rfl rfl (Nat.le_of_ble_eq_true rfl) (C.monoE H (fun o h1 _ x3 K => cont_R K (fun v2 H => ?_) (fun r HX => XR_nc rfl HX)))
  refine r_invS (y := m_J4_colorOf) dJ4_fixAfterDeletion_148 rfl (lw_S q1737 q1738 q113 q1739) py_J4_colorOf (Nat.le_of_ble_eq_true rfl) (args := [_]) rfl rfl (Nat.le_of_ble_eq_true rfl) (C.monoE H (fun o h4 _ x6 K => cont_I K (fun v5 H => ?_) (fun r HX => XR_nc rfl HX)))
  refine r_invS (y := m_J4_setColor) dJ4_fixAfterDeletion_151 rfl (lw_S q1740 q1741 q113 q1742) py_J4_setColor (Nat.le_of_ble_eq_true rfl) (args := [_, _]) rfl rfl (Nat.le_of_ble_eq_true rfl) (C.monoE H (fun o h7 _ x9 K => cont_V K (fun H => ?_) (fun r HX => XR_nc rfl HX)))
  refine r_aload_n dJ4_fixAfterDeletion_154 rfl rfl ?_
  refine r_invS (y := m_J4_parentOf) dJ4_fixAfterDeletion_155 rfl (lw_S q1728 q1729 q113 q1730) py_J4_parentOf (Nat.le_of_ble_eq_true rfl) (args := [_]) rfl rfl (Nat.le_of_ble_eq_true rfl) (C.monoE H (fun o h10 _ x12 K => cont_R K (fun v11 H => ?_) (fun r HX => XR_nc rfl HX)))
  refine r_iconst dJ4_fixAfterDeletion_158 rfl ?_
  refine r_invS (y := m_J4_setColor) dJ4_fixAfterDeletion_159 rfl (lw_S q1740 q1741 q113 q1742) py_J4_setColor (Nat.le_of_ble_eq_true rfl) (args := [_, _]) rfl rfl (Nat.le_of_ble_eq_true rfl) (C.monoE H (fun o h13 _ x15 K => cont_V K (fun H => ?_) (fun r HX => XR_nc rfl HX)))
  refine r_aload_n dJ4_fixAfterDeletion_162 rfl rfl ?_
  refine r_invS (y := m_J4_rightOf) dJ4_fixAfterDeletion_163 rfl (lw_S q1734 q1735 q113 q1736) py_J4_rightOf (Nat.le_of_ble_eq_true rfl) (args := [_]) rfl rfl (Nat.le_of_ble_eq_true rfl) (C.monoE H (fun o h16 _ x18 K => cont_R K (fun v17 H => ?_) (fun r HX => XR_nc rfl HX)))
  refine r_iconst dJ4_fixAfterDeletion_166 rfl ?_
  refine r_invS (y := m_J4_setColor) dJ4_fixAfterDeletion_167 rfl (lw_S q1740 q1741 q113 q1742) py_J4_setColor (Nat.le_of_ble_eq_true rfl) (args := [_, _]) rfl rfl (Nat.le_of_ble_eq_true rfl) (C.monoE H (fun o h19 _ x21 K => cont_V K (fun H => ?_) (fun r HX => XR_nc rfl HX)))
  refine r_aload_n dJ4_fixAfterDeletion_170 rfl rfl ?_
  refine r_aload_n dJ4_fixAfterDeletion_171 rfl rfl ?_
  refine r_invS (y := m_J4_parentOf) dJ4_fixAfterDeletion_172 rfl (lw_S q1728 q1729 q113 q1730) py_J4_parentOf (Nat.le_of_ble_eq_true rfl) (args := [_]) rfl rfl (Nat.le_of_ble_eq_true rfl) (C.monoE H (fun o h22 _ x24 K => cont_R K (fun v23 H => ?_) (fun r HX => XR_nc rfl HX)))
  obtain ⟨k25, H⟩ := H
  refine r_invV (y := m_J4_rotateLeft) dJ4_fixAfterDeletion_175 rfl (lw_V q1743 q1745 qp16 q113 q1746) py_J4_rotateLeft (Nat.le_of_ble_eq_true rfl) (args := [_]) rfl rfl (Nat.le_of_ble_eq_true rfl) k25 (by decide) rfl (C.monoE H (fun o h26 _ x28 K => cont_V K (fun H => ?_) (fun r HX => XR_nc rfl HX)))
  refine r_aload_n dJ4_fixAfterDeletion_178 rfl rfl ?_
  refine r_getG fr_J4_101_15 (by decide) dJ4_fixAfterDeletion_179 (x28.kd k25 (by decide)) (by decide) ?_
  refine r_astore_n dJ4_fixAfterDeletion_182 rfl (Nat.le_of_ble_eq_true rfl) rfl (slS sl0) ?_
  exact R.forget (v_J4_fixAfterDeletion_183 H) ⟨Or.inl rfl, ⟨Or.inl rfl, ⟨Or.inr rfl, trivial⟩⟩⟩
abbrev w_J4_fixAfterDeletion_106 (g : PG) (d : Nat) (l0 : Nat) (l1 : Nat) (l2 : Nat) (h : PH) (Q : Out → PH → Prop) : Prop := C g d m_J4_rightOf [.ref l2] h (oR (fun v2 h1 => C g d m_J4_colorOf [.ref v2] h1 (oI (fun v5 h4 => ((¬ v5 = (1 : Int32)) → w_J4_fixAfterDeletion_143 g d l0 l1 l2 h4 Q) ∧ ((v5 = (1 : Int32)) → C g d m_J4_leftOf [.ref l2] h4 (oR (fun v9 h8 => C g d m_J4_setColor [.ref v9, .int 1] h8 (oV (fun h11 => C g d m_J4_setColor [.ref l2, .int 0] h11 (oV (fun h14 => hkd h14 l0 = 15 ∧ C g d m_J4_rotateRight [.ref l0, .ref l2] h14 (oV (fun h18 => C g d m_J4_parentOf [.ref l1] h18 (oR (fun v22 h21 => C g d m_J4_rightOf [.ref v22] h21 (oR (fun v25 h24 => w_J4_fixAfterDeletion_143 g d l0 l1 v25 h24 Q) (fun r hx => Q (.inr r) hx))) (fun r hx => Q (.inr r) hx))) (fun r hx => Q (.inr r) hx))) (fun r hx => Q (.inr r) hx))) (fun r hx => Q (.inr r) hx))) (fun r hx => Q (.inr r) hx)))) (fun r hx => Q (.inr r) hx))) (fun r hx => Q (.inr r) hx))
theorem v_J4_fixAfterDeletion_106 {g : PG} {d : Nat} {l0 : Nat} {l1 : Nat} {l2 : Nat} {h : PH} {Q : Out → PH → Prop} (H : w_J4_fixAfterDeletion_106 g d l0 l1 l2 h Q) : R g d m_J4_fixAfterDeletion 106 [.ref l0, .ref l1, .ref l2] [] h Q := by
  refine r_aload_n dJ4_fixAfterDeletion_106 rfl rfl ?_
  refine r_invS (y := m_J4_rightOf) dJ4_fixAfterDeletion_107 rfl (lw_S q1734 q1735 q113 q1736) py_J4_rightOf (Nat.le_of_ble_eq_true rfl) (args := [_]) rfl rfl (Nat.le_of_ble_eq_true rfl) (C.monoE H (fun o h1 _ x3 K => cont_R K (fun v2 H => ?_) (fun r HX => XR_nc rfl HX)))
  refine r_invS (y := m_J4_colorOf) dJ4_fixAfterDeletion_110 rfl (lw_S q1737 q1738 q113 q1739) py_J4_colorOf (Nat.le_of_ble_eq_true rfl) (args := [_]) rfl rfl (Nat.le_of_ble_eq_true rfl) (C.monoE H (fun o h4 _ x6 K => cont_I K (fun v5 H => ?_) (fun r HX => XR_nc rfl HX)))
  refine r_iconst dJ4_fixAfterDeletion_113 rfl ?_
  refine r_icmp_ne (tgt := 143) dJ4_fixAfterDeletion_114 rfl (fun b7 => ?_) (fun b7 => ?_)
  · replace H := H.1 b7
    exact v_J4_fixAfterDeletion_143 H
  · replace H := H.2 b7
    refine r_aload_n dJ4_fixAfterDeletion_117 rfl rfl ?_
    refine r_invS (y := m_J4_leftOf) dJ4_fixAfterDeletion_118 rfl (lw_S q1731 q1732 q113 q1733) py_J4_leftOf (Nat.le_of_ble_eq_true rfl) (args := [_]) rfl rfl (Nat.le_of_ble_eq_true rfl) (C.monoE H (fun o h8 _ x10 K => cont_R K (fun v9 H => ?_) (fun r HX => XR_nc rfl HX)))
    refine r_iconst dJ4_fixAfterDeletion_121 rfl ?_
    refine r_invS (y := m_J4_setColor) dJ4_fixAfterDeletion_122 rfl (lw_S q1740 q1741 q113 q1742) py_J4_setColor (Nat.le_of_ble_eq_true rfl) (args := [_, _]) rfl rfl (Nat.le_of_ble_eq_true rfl) (C.monoE H (fun o h11 _ x13 K => cont_V K (fun H => ?_) (fun r HX => XR_nc rfl HX)))
    refine r_aload_n dJ4_fixAfterDeletion_125 rfl rfl ?_
    refine r_iconst dJ4_fixAfterDeletion_126 rfl ?_
    refine r_invS (y := m_J4_setColor) dJ4_fixAfterDeletion_127 rfl (lw_S q1740 q1741 q113 q1742) py_J4_setColor (Nat.le_of_ble_eq_true rfl) (args := [_, _]) rfl rfl (Nat.le_of_ble_eq_true rfl) (C.monoE H (fun o h14 _ x16 K => cont_V K (fun H => ?_) (fun r HX => XR_nc rfl HX)))
    refine r_aload_n dJ4_fixAfterDeletion_130 rfl rfl ?_
    refine r_aload_n dJ4_fixAfterDeletion_131 rfl rfl ?_
    obtain ⟨k17, H⟩ := H
    refine r_invV (y := m_J4_rotateRight) dJ4_fixAfterDeletion_132 rfl (lw_V q1747 q1749 qp17 q113 q1750) py_J4_rotateRight (Nat.le_of_ble_eq_true rfl) (args := [_]) rfl rfl (Nat.le_of_ble_eq_true rfl) k17 (by decide) rfl (C.monoE H (fun o h18 _ x20 K => cont_V K (fun H => ?_) (fun r HX => XR_nc rfl HX)))
    refine r_aload_n dJ4_fixAfterDeletion_135 rfl rfl ?_
    refine r_invS (y := m_J4_parentOf) dJ4_fixAfterDeletion_136 rfl (lw_S q1728 q1729 q113 q1730) py_J4_parentOf (Nat.le_of_ble_eq_true rfl) (args := [_]) rfl rfl (Nat.le_of_ble_eq_true rfl) (C.monoE H (fun o h21 _ x23 K => cont_R K (fun v22 H => ?_) (fun r HX => XR_nc rfl HX)))
    refine r_invS (y := m_J4_rightOf) dJ4_fixAfterDeletion_139 rfl (lw_S q1734 q1735 q113 q1736) py_J4_rightOf (Nat.le_of_ble_eq_true rfl) (args := [_]) rfl rfl (Nat.le_of_ble_eq_true rfl) (C.monoE H (fun o h24 _ x26 K => cont_R K (fun v25 H => ?_) (fun r HX => XR_nc rfl HX)))
    refine r_astore_n dJ4_fixAfterDeletion_142 rfl (Nat.le_of_ble_eq_true rfl) rfl (slS (slS sl0)) ?_
    exact v_J4_fixAfterDeletion_143 H
abbrev w_J4_fixAfterDeletion_71 (g : PG) (d : Nat) (l0 : Nat) (l1 : Nat) (l2 : Nat) (h : PH) (Q : Out → PH → Prop) : Prop := C g d m_J4_leftOf [.ref l2] h (oR (fun v2 h1 => C g d m_J4_colorOf [.ref v2] h1 (oI (fun v5 h4 => ((¬ v5 = (1 : Int32)) → w_J4_fixAfterDeletion_106 g d l0 l1 l2 h4 Q) ∧ ((v5 = (1 : Int32)) → C g d m_J4_rightOf [.ref l2] h4 (oR (fun v9 h8 => C g d m_J4_colorOf [.ref v9] h8 (oI (fun v12 h11 => ((¬ v12 = (1 : Int32)) → w_J4_fixAfterDeletion_106 g d l0 l1 l2 h11 Q) ∧ ((v12 = (1 : Int32)) → C g d m_J4_setColor [.ref l2, .int 0] h11 (oV (fun h15 => C g d m_J4_parentOf [.ref l1] h15 (oR (fun v19 h18 => w_J4_fixAfterDeletion_183 g d l0 v19 h18 Q) (fun r hx => Q (.inr r) hx))) (fun r hx => Q (.inr r) hx)))) (fun r hx => Q (.inr r) hx))) (fun r hx => Q (.inr r) hx)))) (fun r hx => Q (.inr r) hx))) (fun r hx => Q (.inr r) hx))
theorem v_J4_fixAfterDeletion_71 {g : PG} {d : Nat} {l0 : Nat} {l1 : Nat} {l2 : Nat} {h : PH} {Q : Out → PH → Prop} (H : w_J4_fixAfterDeletion_71 g d l0 l1 l2 h Q) : R g d m_J4_fixAfterDeletion 71 [.ref l0, .ref l1, .ref l2] [] h Q := by
  refine r_aload_n dJ4_fixAfterDeletion_71 rfl rfl ?_
  refine r_invS (y := m_J4_leftOf) dJ4_fixAfterDeletion_72 rfl (lw_S q1731 q1732 q113 q1733) py_J4_leftOf (Nat.le_of_ble_eq_true rfl) (args := [_]) rfl rfl (Nat.le_of_ble_eq_true rfl) (C.monoE H (fun o h1 _ x3 K => cont_R K (fun v2 H => ?_) (fun r HX => XR_nc rfl HX)))
  refine r_invS (y := m_J4_colorOf) dJ4_fixAfterDeletion_75 rfl (lw_S q1737 q1738 q113 q1739) py_J4_colorOf (Nat.le_of_ble_eq_true rfl) (args := [_]) rfl rfl (Nat.le_of_ble_eq_true rfl) (C.monoE H (fun o h4 _ x6 K => cont_I K (fun v5 H => ?_) (fun r HX => XR_nc rfl HX)))
  refine r_iconst dJ4_fixAfterDeletion_78 rfl ?_
  refine r_icmp_ne (tgt := 106) dJ4_fixAfterDeletion_79 rfl (fun b7 => ?_) (fun b7 => ?_)
  · replace H := H.1 b7
    exact v_J4_fixAfterDeletion_106 H
  · replace H := H.2 b7
    refine r_aload_n dJ4_fixAfterDeletion_82 rfl rfl ?_
    refine r_invS (y := m_J4_rightOf) dJ4_fixAfterDeletion_83 rfl (lw_S q1734 q1735 q113 q1736) py_J4_rightOf (Nat.le_of_ble_eq_true rfl) (args := [_]) rfl rfl (Nat.le_of_ble_eq_true rfl) (C.monoE H (fun o h8 _ x10 K => cont_R K (fun v9 H => ?_) (fun r HX => XR_nc rfl HX)))
    refine r_invS (y := m_J4_colorOf) dJ4_fixAfterDeletion_86 rfl (lw_S q1737 q1738 q113 q1739) py_J4_colorOf (Nat.le_of_ble_eq_true rfl) (args := [_]) rfl rfl (Nat.le_of_ble_eq_true rfl) (C.monoE H (fun o h11 _ x13 K => cont_I K (fun v12 H => ?_) (fun r HX => XR_nc rfl HX)))
    refine r_iconst dJ4_fixAfterDeletion_89 rfl ?_
    refine r_icmp_ne (tgt := 106) dJ4_fixAfterDeletion_90 rfl (fun b14 => ?_) (fun b14 => ?_)
    · replace H := H.1 b14
      exact v_J4_fixAfterDeletion_106 H
    · replace H := H.2 b14
      refine r_aload_n dJ4_fixAfterDeletion_93 rfl rfl ?_
      refine r_iconst dJ4_fixAfterDeletion_94 rfl ?_
      refine r_invS (y := m_J4_setColor) dJ4_fixAfterDeletion_95 rfl (lw_S q1740 q1741 q113 q1742) py_J4_setColor (Nat.le_of_ble_eq_true rfl) (args := [_, _]) rfl rfl (Nat.le_of_ble_eq_true rfl) (C.monoE H (fun o h15 _ x17 K => cont_V K (fun H => ?_) (fun r HX => XR_nc rfl HX)))
      refine r_aload_n dJ4_fixAfterDeletion_98 rfl rfl ?_
      refine r_invS (y := m_J4_parentOf) dJ4_fixAfterDeletion_99 rfl (lw_S q1728 q1729 q113 q1730) py_J4_parentOf (Nat.le_of_ble_eq_true rfl) (args := [_]) rfl rfl (Nat.le_of_ble_eq_true rfl) (C.monoE H (fun o h18 _ x20 K => cont_R K (fun v19 H => ?_) (fun r HX => XR_nc rfl HX)))
      refine r_astore_n dJ4_fixAfterDeletion_102 rfl (Nat.le_of_ble_eq_true rfl) rfl (slS sl0) ?_
      refine r_goto (tgt := 183) dJ4_fixAfterDeletion_103 rfl ?_
      exact R.forget (v_J4_fixAfterDeletion_183 H) ⟨Or.inl rfl, ⟨Or.inl rfl, ⟨Or.inr rfl, trivial⟩⟩⟩
abbrev w_J4_fixAfterDeletion_0 (g : PG) (d : Nat) (l0 : Nat) (l1 : Nat) (h : PH) (Q : Out → PH → Prop) : Prop := hkd h l0 = 15 ∧ ((l1 = (hG h 536 l0)) → w_J4_fixAfterDeletion_345 g d l1 h Q) ∧ ((¬ l1 = (hG h 536 l0)) → C g d m_J4_colorOf [.ref l1] h (oI (fun v4 h3 => ((¬ v4 = (1 : Int32)) → w_J4_fixAfterDeletion_345 g d l1 h3 Q) ∧ ((v4 = (1 : Int32)) → C g d m_J4_parentOf [.ref l1] h3 (oR (fun v8 h7 => C g d m_J4_leftOf [.ref v8] h7 (oR (fun v11 h10 => ((¬ l1 = v11) → C g d m_J4_parentOf [.ref l1] h10 (oR (fun v15 h14 => C g d m_J4_leftOf [.ref v15] h14 (oR (fun v18 h17 => C g d m_J4_colorOf [.ref v18] h17 (oI (fun v21 h20 => ((¬ v21 = 0) → w_J4_fixAfterDeletion_230 g d l0 l1 v18 h20 Q) ∧ ((v21 = 0) → C g d m_J4_setColor [.ref v18, .int 1] h20 (oV (fun h24 => C g d m_J4_parentOf [.ref l1] h24 (oR (fun v28 h27 => C g d m_J4_setColor [.ref v28, .int 0] h27 (oV (fun h30 => C g d m_J4_parentOf [.ref l1] h30 (oR (fun v34 h33 => C g d m_J4_rotateRight [.ref l0, .ref v34] h33 (oV (fun h36 => C g d m_J4_parentOf [.ref l1] h36 (oR (fun v40 h39 => C g d m_J4_leftOf [.ref v40] h39 (oR (fun v43 h42 => w_J4_fixAfterDeletion_230 g d l0 l1 v43 h42 Q) (fun r hx => Q (.inr r) hx))) (fun r hx => Q (.inr r) hx))) (fun r hx => Q (.inr r) hx))) (fun r hx => Q (.inr r) hx))) (fun r hx => Q (.inr r) hx))) (fun r hx => Q (.inr r) hx))) (fun r hx => Q (.inr r) hx)))) (fun r hx => Q (.inr r) hx))) (fun r hx => Q (.inr r) hx))) (fun r hx => Q (.inr r) hx))) ∧ ((l1 = v11) → C g d m_J4_parentOf [.ref l1] h10 (oR (fun v46 h45 => C g d m_J4_rightOf [.ref v46] h45 (oR (fun v49 h48 => C g d m_J4_colorOf [.ref v49] h48 (oI (fun v52 h51 => ((¬ v52 = 0) → w_J4_fixAfterDeletion_71 g d l0 l1 v49 h51 Q) ∧ ((v52 = 0) → C g d m_J4_setColor [.ref v49, .int 1] h51 (oV (fun h55 => C g d m_J4_parentOf [.ref l1] h55 (oR (fun v59 h58 => C g d m_J4_setColor [.ref v59, .int 0] h58 (oV (fun h61 => C g d m_J4_parentOf [.ref l1] h61 (oR (fun v65 h64 => C g d m_J4_rotateLeft [.ref l0, .ref v65] h64 (oV (fun h67 => C g d m_J4_parentOf [.ref l1] h67 (oR (fun v71 h70 => C g d m_J4_rightOf [.ref v71] h70 (oR (fun v74 h73 => w_J4_fixAfterDeletion_71 g d l0 l1 v74 h73 Q) (fun r hx => Q (.inr r) hx))) (fun r hx => Q (.inr r) hx))) (fun r hx => Q (.inr r) hx))) (fun r hx => Q (.inr r) hx))) (fun r hx => Q (.inr r) hx))) (fun r hx => Q (.inr r) hx))) (fun r hx => Q (.inr r) hx)))) (fun r hx => Q (.inr r) hx))) (fun r hx => Q (.inr r) hx))) (fun r hx => Q (.inr r) hx)))) (fun r hx => Q (.inr r) hx))) (fun r hx => Q (.inr r) hx)))) (fun r hx => Q (.inr r) hx)))
theorem v_J4_fixAfterDeletion_0 {g : PG} {d : Nat} {l0 : Nat} {l1 : Nat} {h : PH} {Q : Out → PH → Prop} (H : w_J4_fixAfterDeletion_0 g d l0 l1 h Q) : R g d m_J4_fixAfterDeletion 0 [.ref l0, .ref l1, .null] [] h Q := by
  refine r_aload_n dJ4_fixAfterDeletion_0 rfl rfl ?_
  refine r_aload_n dJ4_fixAfterDeletion_1 rfl rfl ?_
  obtain ⟨k1, H⟩ := H
  refine r_getG fr_J4_101_15 (by decide) dJ4_fixAfterDeletion_2 k1 (by decide) ?_
  refine r_acmp_eq (tgt := 345) dJ4_fixAfterDeletion_5 rfl (fun b2 => ?_) (fun b2 => ?_)
  · replace H := H.1 b2
    exact R.forget (v_J4_fixAfterDeletion_345 H) ⟨Or.inr rfl, ⟨Or.inl rfl, ⟨Or.inl rfl, trivial⟩⟩⟩
  · replace H := H.2 b2
    refine r_aload_n dJ4_fixAfterDeletion_8 rfl rfl ?_
    refine r_invS (y := m_J4_colorOf) dJ4_fixAfterDeletion_9 rfl (lw_S q1737 q1738 q113 q1739) py_J4_colorOf (Nat.le_of_ble_eq_true rfl) (args := [_]) rfl rfl (Nat.le_of_ble_eq_true rfl) (C.monoE H (fun o h3 _ x5 K => cont_I K (fun v4 H => ?_) (fun r HX => XR_nc rfl HX)))
    refine r_iconst dJ4_fixAfterDeletion_12 rfl ?_
    refine r_icmp_ne (tgt := 345) dJ4_fixAfterDeletion_13 rfl (fun b6 => ?_) (fun b6 => ?_)
    · replace H := H.1 b6
      exact R.forget (v_J4_fixAfterDeletion_345 H) ⟨Or.inr rfl, ⟨Or.inl rfl, ⟨Or.inl rfl, trivial⟩⟩⟩
    · replace H := H.2 b6
      refine r_aload_n dJ4_fixAfterDeletion_16 rfl rfl ?_
      refine r_aload_n dJ4_fixAfterDeletion_17 rfl rfl ?_
      refine r_invS (y := m_J4_parentOf) dJ4_fixAfterDeletion_18 rfl (lw_S q1728 q1729 q113 q1730) py_J4_parentOf (Nat.le_of_ble_eq_true rfl) (args := [_]) rfl rfl (Nat.le_of_ble_eq_true rfl) (C.monoE H (fun o h7 _ x9 K => cont_R K (fun v8 H => ?_) (fun r HX => XR_nc rfl HX)))
      refine r_invS (y := m_J4_leftOf) dJ4_fixAfterDeletion_21 rfl (lw_S q1731 q1732 q113 q1733) py_J4_leftOf (Nat.le_of_ble_eq_true rfl) (args := [_]) rfl rfl (Nat.le_of_ble_eq_true rfl) (C.monoE H (fun o h10 _ x12 K => cont_R K (fun v11 H => ?_) (fun r HX => XR_nc rfl HX)))
      refine r_acmp_ne (tgt := 186) dJ4_fixAfterDeletion_24 rfl (fun b13 => ?_) (fun b13 => ?_)
      · replace H := H.1 b13
        refine r_aload_n dJ4_fixAfterDeletion_186 rfl rfl ?_
        refine r_invS (y := m_J4_parentOf) dJ4_fixAfterDeletion_187 rfl (lw_S q1728 q1729 q113 q1730) py_J4_parentOf (Nat.le_of_ble_eq_true rfl) (args := [_]) rfl rfl (Nat.le_of_ble_eq_true rfl) (C.monoE H (fun o h14 _ x16 K => cont_R K (fun v15 H => ?_) (fun r HX => XR_nc rfl HX)))
        refine r_invS (y := m_J4_leftOf) dJ4_fixAfterDeletion_190 rfl (lw_S q1731 q1732 q113 q1733) py_J4_leftOf (Nat.le_of_ble_eq_true rfl) (args := [_]) rfl rfl (Nat.le_of_ble_eq_true rfl) (C.monoE H (fun o h17 _ x19 K => cont_R K (fun v18 H => ?_) (fun r HX => XR_nc rfl HX)))
        refine r_astore_n dJ4_fixAfterDeletion_193 rfl (Nat.le_of_ble_eq_true rfl) rfl (slS (slS sl0)) ?_
        refine r_aload_n dJ4_fixAfterDeletion_194 rfl rfl ?_
        refine r_invS (y := m_J4_colorOf) dJ4_fixAfterDeletion_195 rfl (lw_S q1737 q1738 q113 q1739) py_J4_colorOf (Nat.le_of_ble_eq_true rfl) (args := [_]) rfl rfl (Nat.le_of_ble_eq_true rfl) (C.monoE H (fun o h20 _ x22 K => cont_I K (fun v21 H => ?_) (fun r HX => XR_nc rfl HX)))
        refine r_if_ne (tgt := 230) dJ4_fixAfterDeletion_198 rfl (fun b23 => ?_) (fun b23 => ?_)
        · replace H := H.1 b23
          exact v_J4_fixAfterDeletion_230 H
        · replace H := H.2 b23
          refine r_aload_n dJ4_fixAfterDeletion_201 rfl rfl ?_
          refine r_iconst dJ4_fixAfterDeletion_202 rfl ?_
          refine r_invS (y := m_J4_setColor) dJ4_fixAfterDeletion_203 rfl (lw_S q1740 q1741 q113 q1742) py_J4_setColor (Nat.le_of_ble_eq_true rfl) (args := [_, _]) rfl rfl (Nat.le_of_ble_eq_true rfl) (C.monoE H (fun o h24 _ x26 K => cont_V K (fun H => ?_) (fun r HX => XR_nc rfl HX)))
          refine r_aload_n dJ4_fixAfterDeletion_206 rfl rfl ?_
          refine r_invS (y := m_J4_parentOf) dJ4_fixAfterDeletion_207 rfl (lw_S q1728 q1729 q113 q1730) py_J4_parentOf (Nat.le_of_ble_eq_true rfl) (args := [_]) rfl rfl (Nat.le_of_ble_eq_true rfl) (C.monoE H (fun o h27 _ x29 K => cont_R K (fun v28 H => ?_) (fun r HX => XR_nc rfl HX)))
          refine r_iconst dJ4_fixAfterDeletion_210 rfl ?_
          refine r_invS (y := m_J4_setColor) dJ4_fixAfterDeletion_211 rfl (lw_S q1740 q1741 q113 q1742) py_J4_setColor (Nat.le_of_ble_eq_true rfl) (args := [_, _]) rfl rfl (Nat.le_of_ble_eq_true rfl) (C.monoE H (fun o h30 _ x32 K => cont_V K (fun H => ?_) (fun r HX => XR_nc rfl HX)))
          refine r_aload_n dJ4_fixAfterDeletion_214 rfl rfl ?_
          refine r_aload_n dJ4_fixAfterDeletion_215 rfl rfl ?_
          refine r_invS (y := m_J4_parentOf) dJ4_fixAfterDeletion_216 rfl (lw_S q1728 q1729 q113 q1730) py_J4_parentOf (Nat.le_of_ble_eq_true rfl) (args := [_]) rfl rfl (Nat.le_of_ble_eq_true rfl) (C.monoE H (fun o h33 _ x35 K => cont_R K (fun v34 H => ?_) (fun r HX => XR_nc rfl HX)))
          refine r_invV (y := m_J4_rotateRight) dJ4_fixAfterDeletion_219 rfl (lw_V q1747 q1749 qp17 q113 q1750) py_J4_rotateRight (Nat.le_of_ble_eq_true rfl) (args := [_]) rfl rfl (Nat.le_of_ble_eq_true rfl) (x35.kd (x32.kd (x29.kd (x26.kd (x22.kd (x19.kd (x16.kd (x12.kd (x9.kd (x5.kd k1 (by decide)) (by decide)) (by decide)) (by decide)) (by decide)) (by decide)) (by decide)) (by decide)) (by decide)) (by decide)) (by decide) rfl (C.monoE H (fun o h36 _ x38 K => cont_V K (fun H => ?_) (fun r HX => XR_nc rfl HX)))
          refine r_aload_n dJ4_fixAfterDeletion_222 rfl rfl ?_
          refine r_invS (y := m_J4_parentOf) dJ4_fixAfterDeletion_223 rfl (lw_S q1728 q1729 q113 q1730) py_J4_parentOf (Nat.le_of_ble_eq_true rfl) (args := [_]) rfl rfl (Nat.le_of_ble_eq_true rfl) (C.monoE H (fun o h39 _ x41 K => cont_R K (fun v40 H => ?_) (fun r HX => XR_nc rfl HX)))
          refine r_invS (y := m_J4_leftOf) dJ4_fixAfterDeletion_226 rfl (lw_S q1731 q1732 q113 q1733) py_J4_leftOf (Nat.le_of_ble_eq_true rfl) (args := [_]) rfl rfl (Nat.le_of_ble_eq_true rfl) (C.monoE H (fun o h42 _ x44 K => cont_R K (fun v43 H => ?_) (fun r HX => XR_nc rfl HX)))
          refine r_astore_n dJ4_fixAfterDeletion_229 rfl (Nat.le_of_ble_eq_true rfl) rfl (slS (slS sl0)) ?_
          exact v_J4_fixAfterDeletion_230 H
      · replace H := H.2 b13
        refine r_aload_n dJ4_fixAfterDeletion_27 rfl rfl ?_
        refine r_invS (y := m_J4_parentOf) dJ4_fixAfterDeletion_28 rfl (lw_S q1728 q1729 q113 q1730) py_J4_parentOf (Nat.le_of_ble_eq_true rfl) (args := [_]) rfl rfl (Nat.le_of_ble_eq_true rfl) (C.monoE H (fun o h45 _ x47 K => cont_R K (fun v46 H => ?_) (fun r HX => XR_nc rfl HX)))
        refine r_invS (y := m_J4_rightOf) dJ4_fixAfterDeletion_31 rfl (lw_S q1734 q1735 q113 q1736) py_J4_rightOf (Nat.le_of_ble_eq_true rfl) (args := [_]) rfl rfl (Nat.le_of_ble_eq_true rfl) (C.monoE H (fun o h48 _ x50 K => cont_R K (fun v49 H => ?_) (fun r HX => XR_nc rfl HX)))
        refine r_astore_n dJ4_fixAfterDeletion_34 rfl (Nat.le_of_ble_eq_true rfl) rfl (slS (slS sl0)) ?_
        refine r_aload_n dJ4_fixAfterDeletion_35 rfl rfl ?_
        refine r_invS (y := m_J4_colorOf) dJ4_fixAfterDeletion_36 rfl (lw_S q1737 q1738 q113 q1739) py_J4_colorOf (Nat.le_of_ble_eq_true rfl) (args := [_]) rfl rfl (Nat.le_of_ble_eq_true rfl) (C.monoE H (fun o h51 _ x53 K => cont_I K (fun v52 H => ?_) (fun r HX => XR_nc rfl HX)))
        refine r_if_ne (tgt := 71) dJ4_fixAfterDeletion_39 rfl (fun b54 => ?_) (fun b54 => ?_)
        · replace H := H.1 b54
          exact v_J4_fixAfterDeletion_71 H
        · replace H := H.2 b54
          refine r_aload_n dJ4_fixAfterDeletion_42 rfl rfl ?_
          refine r_iconst dJ4_fixAfterDeletion_43 rfl ?_
          refine r_invS (y := m_J4_setColor) dJ4_fixAfterDeletion_44 rfl (lw_S q1740 q1741 q113 q1742) py_J4_setColor (Nat.le_of_ble_eq_true rfl) (args := [_, _]) rfl rfl (Nat.le_of_ble_eq_true rfl) (C.monoE H (fun o h55 _ x57 K => cont_V K (fun H => ?_) (fun r HX => XR_nc rfl HX)))
          refine r_aload_n dJ4_fixAfterDeletion_47 rfl rfl ?_
          refine r_invS (y := m_J4_parentOf) dJ4_fixAfterDeletion_48 rfl (lw_S q1728 q1729 q113 q1730) py_J4_parentOf (Nat.le_of_ble_eq_true rfl) (args := [_]) rfl rfl (Nat.le_of_ble_eq_true rfl) (C.monoE H (fun o h58 _ x60 K => cont_R K (fun v59 H => ?_) (fun r HX => XR_nc rfl HX)))
          refine r_iconst dJ4_fixAfterDeletion_51 rfl ?_
          refine r_invS (y := m_J4_setColor) dJ4_fixAfterDeletion_52 rfl (lw_S q1740 q1741 q113 q1742) py_J4_setColor (Nat.le_of_ble_eq_true rfl) (args := [_, _]) rfl rfl (Nat.le_of_ble_eq_true rfl) (C.monoE H (fun o h61 _ x63 K => cont_V K (fun H => ?_) (fun r HX => XR_nc rfl HX)))
          refine r_aload_n dJ4_fixAfterDeletion_55 rfl rfl ?_
          refine r_aload_n dJ4_fixAfterDeletion_56 rfl rfl ?_
          refine r_invS (y := m_J4_parentOf) dJ4_fixAfterDeletion_57 rfl (lw_S q1728 q1729 q113 q1730) py_J4_parentOf (Nat.le_of_ble_eq_true rfl) (args := [_]) rfl rfl (Nat.le_of_ble_eq_true rfl) (C.monoE H (fun o h64 _ x66 K => cont_R K (fun v65 H => ?_) (fun r HX => XR_nc rfl HX)))
          refine r_invV (y := m_J4_rotateLeft) dJ4_fixAfterDeletion_60 rfl (lw_V q1743 q1745 qp16 q113 q1746) py_J4_rotateLeft (Nat.le_of_ble_eq_true rfl) (args := [_]) rfl rfl (Nat.le_of_ble_eq_true rfl) (x66.kd (x63.kd (x60.kd (x57.kd (x53.kd (x50.kd (x47.kd (x12.kd (x9.kd (x5.kd k1 (by decide)) (by decide)) (by decide)) (by decide)) (by decide)) (by decide)) (by decide)) (by decide)) (by decide)) (by decide)) (by decide) rfl (C.monoE H (fun o h67 _ x69 K => cont_V K (fun H => ?_) (fun r HX => XR_nc rfl HX)))
          refine r_aload_n dJ4_fixAfterDeletion_63 rfl rfl ?_
          refine r_invS (y := m_J4_parentOf) dJ4_fixAfterDeletion_64 rfl (lw_S q1728 q1729 q113 q1730) py_J4_parentOf (Nat.le_of_ble_eq_true rfl) (args := [_]) rfl rfl (Nat.le_of_ble_eq_true rfl) (C.monoE H (fun o h70 _ x72 K => cont_R K (fun v71 H => ?_) (fun r HX => XR_nc rfl HX)))
          refine r_invS (y := m_J4_rightOf) dJ4_fixAfterDeletion_67 rfl (lw_S q1734 q1735 q113 q1736) py_J4_rightOf (Nat.le_of_ble_eq_true rfl) (args := [_]) rfl rfl (Nat.le_of_ble_eq_true rfl) (C.monoE H (fun o h73 _ x75 K => cont_R K (fun v74 H => ?_) (fun r HX => XR_nc rfl HX)))
          refine r_astore_n dJ4_fixAfterDeletion_70 rfl (Nat.le_of_ble_eq_true rfl) rfl (slS (slS sl0)) ?_
          exact v_J4_fixAfterDeletion_71 H
theorem c_J4_fixAfterDeletion_0 {g : PG} {d : Nat} {l0 : Nat} {l1 : Nat} {h : PH} {Q : Out → PH → Prop} (H : w_J4_fixAfterDeletion_0 g d l0 l1 h Q) : C g (d + 1) m_J4_fixAfterDeletion [.ref l0, .ref l1] h Q := C_of_R rfl rfl (Nat.le_of_ble_eq_true rfl) rfl (v_J4_fixAfterDeletion_0 H)
abbrev w_J41_hasNext_0 (g : PG) (d : Nat) (l0 : Nat) (h : PH) (Q : Out → PH → Prop) : Prop := hkd h l0 = 25 ∧ hkd h (hG h 558 l0) = 23 ∧ (((hF h 43 (hG h 558 l0)) ≤ (hF h 44 l0)) → Q (.inl (some (.int 0))) h) ∧ ((¬ (hF h 43 (hG h 558 l0)) ≤ (hF h 44 l0)) → Q (.inl (some (.int 1))) h)
theorem v_J41_hasNext_0 {g : PG} {d : Nat} {l0 : Nat} {h : PH} {Q : Out → PH → Prop} (H : w_J41_hasNext_0 g d l0 h Q) : R g d m_J41_hasNext 0 [.ref l0] [] h Q := by
  refine r_aload_n dJ41_hasNext_0 rfl rfl ?_
  obtain ⟨k1, H⟩ := H
  refine r_getF fr_J41_33_25 (by decide) dJ41_hasNext_1 k1 (by decide) ?_
  refine r_aload_n dJ41_hasNext_4 rfl rfl ?_
  refine r_getG fr_J41_1_25 (by decide) dJ41_hasNext_5 k1 (by decide) ?_
  obtain ⟨k2, H⟩ := H
  refine r_getF fr_J41_22_23 (by decide) dJ41_hasNext_8 k2 (by decide) ?_
  refine r_icmp_ge (tgt := 18) dJ41_hasNext_11 rfl (fun b3 => ?_) (fun b3 => ?_)
  · replace H := H.1 b3
    refine r_iconst dJ41_hasNext_18 rfl ?_
    exact r_zret dJ41_hasNext_19 rfl rfl H
  · replace H := H.2 b3
    refine r_iconst dJ41_hasNext_14 rfl ?_
    refine r_goto (tgt := 19) dJ41_hasNext_15 rfl ?_
    exact r_zret dJ41_hasNext_19 rfl rfl H
theorem c_J41_hasNext_0 {g : PG} {d : Nat} {l0 : Nat} {h : PH} {Q : Out → PH → Prop} (H : w_J41_hasNext_0 g d l0 h Q) : C g (d + 1) m_J41_hasNext [.ref l0] h Q := C_of_R rfl rfl (Nat.le_of_ble_eq_true rfl) rfl (v_J41_hasNext_0 H)
abbrev w_J41_next_0 (g : PG) (d : Nat) (l0 : Nat) (h : PH) (Q : Out → PH → Prop) : Prop := hkd h l0 = 25 ∧ C g d m_J41_checkForComodification [.ref l0] h (oV (fun h2 => C g d m_J41_hasNext [.ref l0] h2 (oI (fun v6 h5 => ((¬ v6 = 0) → ∀ h9, h9 = setG 556 l0 (hG h5 557 l0) h5 → hkd h9 (hG h9 557 l0) = 24 ∧ ∀ h11, h11 = setG 557 l0 (hG h9 554 (hG h9 557 l0)) h9 → ∀ h12, h12 = setF 44 l0 ((hF h11 44 l0) + (1 : Int32)) h11 → hkd h12 (hG h12 556 l0) = 24 ∧ Q (.inl (some (.ref (hG h12 553 (hG h12 556 l0))))) h12) ∧ ((v6 = 0) → 5 ≤ d ∧ Q (.inr (hnx h5)) (hnew 34 0 7 h5))) (fun r hx => Q (.inr r) hx))) (fun r hx => Q (.inr r) hx))
theorem v_J41_next_0 {g : PG} {d : Nat} {l0 : Nat} {h : PH} {Q : Out → PH → Prop} (H : w_J41_next_0 g d l0 h Q) : R g d m_J41_next 0 [.ref l0] [] h Q := by
  refine r_aload_n dJ41_next_0 rfl rfl ?_
  obtain ⟨k1, H⟩ := H
  refine r_invV (y := m_J41_checkForComodification) dJ41_next_1 rfl (lw_V q1187 q1188 q1189 q157 q1190) py_J41_checkForComodification (Nat.le_of_ble_eq_true rfl) (args := []) rfl rfl (Nat.le_of_ble_eq_true rfl) k1 (by decide) rfl (C.monoE H (fun o h2 _ x4 K => cont_V K (fun H => ?_) (fun r HX => XR_nc rfl HX)))
  refine r_aload_n dJ41_next_4 rfl rfl ?_
  refine r_invV (y := m_J41_hasNext) dJ41_next_5 rfl (lw_V q1191 q936 q3678 q157 q938) py_J41_hasNext (Nat.le_of_ble_eq_true rfl) (args := []) rfl rfl (Nat.le_of_ble_eq_true rfl) (x4.kd k1 (by decide)) (by decide) rfl (C.monoE H (fun o h5 _ x7 K => cont_I K (fun v6 H => ?_) (fun r HX => XR_nc rfl HX)))
  refine r_if_ne (tgt := 19) dJ41_next_8 rfl (fun b8 => ?_) (fun b8 => ?_)
  · replace H := H.1 b8
    refine r_aload_n dJ41_next_19 rfl rfl ?_
    refine r_aload_n dJ41_next_20 rfl rfl ?_
    refine r_getG fr_J41_29_25 (by decide) dJ41_next_21 (x7.kd (x4.kd k1 (by decide)) (by decide)) (by decide) ?_
    replace H := H _ rfl
    refine r_putG fw_J41_46_25 (by decide) dJ41_next_24 (x7.kd (x4.kd k1 (by decide)) (by decide)) (by decide) rfl ?_
    refine r_aload_n dJ41_next_27 rfl rfl ?_
    refine r_aload_n dJ41_next_28 rfl rfl ?_
    refine r_getG fr_J41_29_25 (by decide) dJ41_next_29 (x7.kd (x4.kd k1 (by decide)) (by decide)) (by decide) ?_
    obtain ⟨k10, H⟩ := H
    refine r_getG fr_J41_49_24 (by decide) dJ41_next_32 k10 (by decide) ?_
    replace H := H _ rfl
    refine r_putG fw_J41_29_25 (by decide) dJ41_next_35 (x7.kd (x4.kd k1 (by decide)) (by decide)) (by decide) rfl ?_
    refine r_aload_n dJ41_next_38 rfl rfl ?_
    refine r_dup dJ41_next_39 rfl ?_
    refine r_getF fr_J41_33_25 (by decide) dJ41_next_40 (x7.kd (x4.kd k1 (by decide)) (by decide)) (by decide) ?_
    refine r_iconst dJ41_next_43 rfl ?_
    refine r_iadd dJ41_next_44 ?_
    replace H := H _ rfl
    refine r_putF fw_J41_33_25 (by decide) dJ41_next_45 (x7.kd (x4.kd k1 (by decide)) (by decide)) (by decide) rfl rfl ?_
    refine r_aload_n dJ41_next_48 rfl rfl ?_
    refine r_getG fr_J41_46_25 (by decide) dJ41_next_49 (x7.kd (x4.kd k1 (by decide)) (by decide)) (by decide) ?_
    obtain ⟨k13, H⟩ := H
    refine r_getG fr_J41_52_24 (by decide) dJ41_next_52 k13 (by decide) ?_
    exact r_aret dJ41_next_55 rfl H
  · replace H := H.2 b8
    exact r_throw0 (kE := 34) (names := ["java/lang/RuntimeException", "java/lang/Exception"]) (by decide) dJ41_next_11 dJ41_next_14 dJ41_next_15 dJ41_next_18 (by decide +kernel) (by decide +kernel) tw_J41_43_45 rfl H.1 (Nat.le_of_ble_eq_true rfl) H.2
theorem c_J41_next_0 {g : PG} {d : Nat} {l0 : Nat} {h : PH} {Q : Out → PH → Prop} (H : w_J41_next_0 g d l0 h Q) : C g (d + 1) m_J41_next [.ref l0] h Q := C_of_R rfl rfl (Nat.le_of_ble_eq_true rfl) rfl (v_J41_next_0 H)
abbrev w_J41_checkForComodification_0 (g : PG) (d : Nat) (l0 : Nat) (h : PH) (Q : Out → PH → Prop) : Prop := hkd h l0 = 25 ∧ hkd h (hG h 558 l0) = 23 ∧ (((hF h 34 (hG h 558 l0)) = (hF h 45 l0)) → Q (.inl none) h) ∧ ((¬ (hF h 34 (hG h 558 l0)) = (hF h 45 l0)) → False)
theorem v_J41_checkForComodification_0 {g : PG} {d : Nat} {l0 : Nat} {h : PH} {Q : Out → PH → Prop} (H : w_J41_checkForComodification_0 g d l0 h Q) : R g d m_J41_checkForComodification 0 [.ref l0] [] h Q := by
  refine r_aload_n dJ41_checkForComodification_0 rfl rfl ?_
  obtain ⟨k1, H⟩ := H
  refine r_getG fr_J41_1_25 (by decide) dJ41_checkForComodification_1 k1 (by decide) ?_
  obtain ⟨k2, H⟩ := H
  refine r_getF fr_J41_13_23 (by decide) dJ41_checkForComodification_4 k2 (by decide) ?_
  refine r_aload_n dJ41_checkForComodification_7 rfl rfl ?_
  refine r_getF fr_J41_19_25 (by decide) dJ41_checkForComodification_8 k1 (by decide) ?_
  refine r_icmp_eq (tgt := 22) dJ41_checkForComodification_11 rfl (fun b3 => ?_) (fun b3 => ?_)
  · replace H := H.1 b3
    exact r_vret dJ41_checkForComodification_22 rfl H
  · replace H := H.2 b3
    exact H.elim
theorem c_J41_checkForComodification_0 {g : PG} {d : Nat} {l0 : Nat} {h : PH} {Q : Out → PH → Prop} (H : w_J41_checkForComodification_0 g d l0 h Q) : C g (d + 1) m_J41_checkForComodification [.ref l0] h Q := C_of_R rfl rfl (Nat.le_of_ble_eq_true rfl) rfl (v_J41_checkForComodification_0 H)
abbrev w_J41_init_38 (g : PG) (d : Nat) (l0 : Nat) (l2 : Int32) (s0 : Nat) (s1 : Nat) (h : PH) (Q : Out → PH → Prop) : Prop := hkd h s0 = 25 ∧ ∀ h2, h2 = setG 557 s0 s1 h → hkd h2 l0 = 25 ∧ ∀ h4, h4 = setF 44 l0 l2 h2 → Q (.inl none) h4
theorem v_J41_init_38 {g : PG} {d : Nat} {l0 : Nat} {l2 : Int32} {s0 : Nat} {s1 : Nat} {h : PH} {Q : Out → PH → Prop} (H : w_J41_init_38 g d l0 l2 s0 s1 h Q) : R g d m_J41_init 38 [.ref l0, .null, .int l2] [.ref s1, .ref s0] h Q := by
  obtain ⟨k1, H⟩ := H
  replace H := H _ rfl
  refine r_putG fw_J41_29_25_i (by decide) dJ41_init_38 k1 (by decide) rfl ?_
  refine r_aload_n dJ41_init_41 rfl rfl ?_
  refine r_iload_n dJ41_init_42 rfl rfl ?_
  obtain ⟨k3, H⟩ := H
  replace H := H _ rfl
  refine r_putF fw_J41_33_25_i (by decide) dJ41_init_43 k3 (by decide) rfl rfl ?_
  exact r_vret dJ41_init_46 rfl H
abbrev w_J41_init_0 (g : PG) (d : Nat) (l0 : Nat) (l1 : Nat) (l2 : Int32) (h : PH) (Q : Out → PH → Prop) : Prop := hkd h l0 = 25 ∧ ∀ h2, h2 = setG 558 l0 l1 h → 0 < l0 ∧ hkd h2 (hG h2 558 l0) = 23 ∧ ∀ h5, h5 = setF 45 l0 (hF h2 34 (hG h2 558 l0)) h2 → hkd h5 l1 = 23 ∧ ((¬ l2 = (hF h5 43 l1)) → C g d m_J6_node [.ref l1, .int l2] h5 (oR (fun v9 h8 => w_J41_init_38 g d l0 l2 l0 v9 h8 Q) (fun r hx => Q (.inr r) hx))) ∧ ((l2 = (hF h5 43 l1)) → w_J41_init_38 g d l0 l2 l0 (0 : Nat) h5 Q)
theorem v_J41_init_0 {g : PG} {d : Nat} {l0 : Nat} {l1 : Nat} {l2 : Int32} {h : PH} {Q : Out → PH → Prop} (H : w_J41_init_0 g d l0 l1 l2 h Q) : R g d m_J41_init 0 [.ref l0, .ref l1, .int l2] [] h Q := by
  refine r_aload_n dJ41_init_0 rfl rfl ?_
  refine r_aload_n dJ41_init_1 rfl rfl ?_
  obtain ⟨k1, H⟩ := H
  replace H := H _ rfl
  refine r_putG fw_J41_1_25_i (by decide) dJ41_init_2 k1 (by decide) rfl ?_
  refine r_aload_n dJ41_init_5 rfl rfl ?_
  obtain ⟨k3, H⟩ := H
  refine r_oinit dJ41_init_6 q1870 q182 q183 k3 (Nat.le_of_ble_eq_true rfl) ?_
  refine r_aload_n dJ41_init_9 rfl rfl ?_
  refine r_aload_n dJ41_init_10 rfl rfl ?_
  refine r_getG fr_J41_1_25 (by decide) dJ41_init_11 k1 (by decide) ?_
  obtain ⟨k4, H⟩ := H
  refine r_getF fr_J41_13_23 (by decide) dJ41_init_14 k4 (by decide) ?_
  replace H := H _ rfl
  refine r_putF fw_J41_19_25_i (by decide) dJ41_init_17 k1 (by decide) rfl rfl ?_
  refine r_aload_n dJ41_init_20 rfl rfl ?_
  refine r_iload_n dJ41_init_21 rfl rfl ?_
  refine r_aload_n dJ41_init_22 rfl rfl ?_
  obtain ⟨k6, H⟩ := H
  refine r_getF fr_J41_22_23 (by decide) dJ41_init_23 k6 (by decide) ?_
  refine r_icmp_ne (tgt := 33) dJ41_init_26 rfl (fun b7 => ?_) (fun b7 => ?_)
  · replace H := H.1 b7
    refine r_aload_n dJ41_init_33 rfl rfl ?_
    refine r_iload_n dJ41_init_34 rfl rfl ?_
    refine r_invV (y := m_J6_node) dJ41_init_35 rfl (lw_V q1871 q1024 q1025 q115 q1026) py_J6_node (Nat.le_of_ble_eq_true rfl) (args := [_]) rfl rfl (Nat.le_of_ble_eq_true rfl) k6 (by decide) rfl (C.monoE H (fun o h8 _ x10 K => cont_R K (fun v9 H => ?_) (fun r HX => XR_nc rfl HX)))
    exact R.forget (v_J41_init_38 H) ⟨Or.inl rfl, ⟨Or.inr rfl, ⟨Or.inl rfl, trivial⟩⟩⟩
  · replace H := H.2 b7
    refine r_null dJ41_init_29 ?_
    refine r_goto (tgt := 38) dJ41_init_30 rfl ?_
    exact R.forget (v_J41_init_38 H) ⟨Or.inl rfl, ⟨Or.inr rfl, ⟨Or.inl rfl, trivial⟩⟩⟩
theorem c_J41_init_0 {g : PG} {d : Nat} {l0 : Nat} {l1 : Nat} {l2 : Int32} {h : PH} {Q : Out → PH → Prop} (H : w_J41_init_0 g d l0 l1 l2 h Q) : C g (d + 1) m_J41_init [.ref l0, .ref l1, .int l2] h Q := C_of_R rfl rfl (Nat.le_of_ble_eq_true rfl) rfl (v_J41_init_0 H)
abbrev w_J43_next_0 (g : PG) (d : Nat) (l0 : Nat) (h : PH) (Q : Out → PH → Prop) : Prop := hkd h l0 = 22 ∧ C g d m_J31_nextEntry [.ref l0] h (oR (fun v3 h2 => hkd h2 v3 = 16 ∧ Q (.inl (some (.ref (hG h2 541 v3)))) h2) (fun r hx => Q (.inr r) hx))
theorem v_J43_next_0 {g : PG} {d : Nat} {l0 : Nat} {h : PH} {Q : Out → PH → Prop} (H : w_J43_next_0 g d l0 h Q) : R g d m_J43_next 0 [.ref l0] [] h Q := by
  refine r_aload_n dJ43_next_0 rfl rfl ?_
  obtain ⟨k1, H⟩ := H
  refine r_invU (y := m_J31_nextEntry) (owner := "java/util/TreeMap$PrivateEntryIterator") (Cn := "java/util/TreeMap$ValueIterator") (x := ⟨"java/util/TreeMap$ValueIterator", "nextEntry", "()Ljava/util/TreeMap$Entry;"⟩) dJ43_next_1 (n := 0) ⟨rfl, by decide +kernel, by decide, by decide, Or.inl ⟨lw_U q1246 q1247 q1248 q1226 q145 q1227, Or.inl rfl⟩⟩ (Nat.le_of_ble_eq_true rfl) (args := []) rfl rfl (Nat.le_of_ble_eq_true rfl) k1 (by decide) rfl (C.monoE H (fun o h2 _ x4 K => cont_R K (fun v3 H => ?_) (fun r HX => XR_nc rfl HX)))
  obtain ⟨k5, H⟩ := H
  refine r_getG fr_J43_13_16 (by decide) dJ43_next_4 k5 (by decide) ?_
  exact r_aret dJ43_next_7 rfl H
theorem c_J43_next_0 {g : PG} {d : Nat} {l0 : Nat} {h : PH} {Q : Out → PH → Prop} (H : w_J43_next_0 g d l0 h Q) : C g (d + 1) m_J43_next [.ref l0] h Q := C_of_R rfl rfl (Nat.le_of_ble_eq_true rfl) rfl (v_J43_next_0 H)
abbrev w_J43_init_0 (g : PG) (d : Nat) (l0 : Nat) (l1 : Nat) (l2 : Nat) (h : PH) (Q : Out → PH → Prop) : Prop := 0 < l0 ∧ C g d m_J31_init [.ref l0, .ref l1, .ref l2] h (oV (fun h2 => Q (.inl none) h2) (fun r hx => Q (.inr r) hx))
theorem v_J43_init_0 {g : PG} {d : Nat} {l0 : Nat} {l1 : Nat} {l2 : Nat} {h : PH} {Q : Out → PH → Prop} (H : w_J43_init_0 g d l0 l1 l2 h Q) : R g d m_J43_init 0 [.ref l0, .ref l1, .ref l2] [] h Q := by
  refine r_aload_n dJ43_init_0 rfl rfl ?_
  refine r_aload_n dJ43_init_1 rfl rfl ?_
  refine r_aload_n dJ43_init_2 rfl rfl ?_
  obtain ⟨k1, H⟩ := H
  refine r_invI (y := m_J31_init) dJ43_init_3 rfl rfl q857 q145 q1936 q856 rfl py_J31_init (Nat.le_of_ble_eq_true rfl) (args := [_, _]) rfl rfl (Nat.le_of_ble_eq_true rfl) k1 (C.monoE H (fun o h2 _ x4 K => cont_V K (fun H => ?_) (fun r HX => XR_nc rfl HX)))
  exact r_vret dJ43_init_6 rfl H
theorem c_J43_init_0 {g : PG} {d : Nat} {l0 : Nat} {l1 : Nat} {l2 : Nat} {h : PH} {Q : Out → PH → Prop} (H : w_J43_init_0 g d l0 l1 l2 h Q) : C g (d + 1) m_J43_init [.ref l0, .ref l1, .ref l2] h Q := C_of_R rfl rfl (Nat.le_of_ble_eq_true rfl) rfl (v_J43_init_0 H)
abbrev w_J44_init_0 (g : PG) (d : Nat) (l0 : Nat) (l1 : Nat) (l2 : Nat) (l3 : Nat) (h : PH) (Q : Out → PH → Prop) : Prop := 0 < l0 ∧ hkd h l0 = 24 ∧ ∀ h3, h3 = setG 553 l0 l2 h → ∀ h4, h4 = setG 554 l0 l3 h3 → ∀ h5, h5 = setG 555 l0 l1 h4 → Q (.inl none) h5
theorem v_J44_init_0 {g : PG} {d : Nat} {l0 : Nat} {l1 : Nat} {l2 : Nat} {l3 : Nat} {h : PH} {Q : Out → PH → Prop} (H : w_J44_init_0 g d l0 l1 l2 l3 h Q) : R g d m_J44_init 0 [.ref l0, .ref l1, .ref l2, .ref l3] [] h Q := by
  refine r_aload_n dJ44_init_0 rfl rfl ?_
  obtain ⟨k1, H⟩ := H
  refine r_oinit dJ44_init_1 q1657 q182 q183 k1 (Nat.le_of_ble_eq_true rfl) ?_
  refine r_aload_n dJ44_init_4 rfl rfl ?_
  refine r_aload_n dJ44_init_5 rfl rfl ?_
  obtain ⟨k2, H⟩ := H
  replace H := H _ rfl
  refine r_putG fw_J44_7_24_i (by decide) dJ44_init_6 k2 (by decide) rfl ?_
  refine r_aload_n dJ44_init_9 rfl rfl ?_
  refine r_aload_n dJ44_init_10 rfl rfl ?_
  replace H := H _ rfl
  refine r_putG fw_J44_13_24_i (by decide) dJ44_init_11 k2 (by decide) rfl ?_
  refine r_aload_n dJ44_init_14 rfl rfl ?_
  refine r_aload_n dJ44_init_15 rfl rfl ?_
  replace H := H _ rfl
  refine r_putG fw_J44_17_24_i (by decide) dJ44_init_16 k2 (by decide) rfl ?_
  exact r_vret dJ44_init_19 rfl H
theorem c_J44_init_0 {g : PG} {d : Nat} {l0 : Nat} {l1 : Nat} {l2 : Nat} {l3 : Nat} {h : PH} {Q : Out → PH → Prop} (H : w_J44_init_0 g d l0 l1 l2 l3 h Q) : C g (d + 1) m_J44_init [.ref l0, .ref l1, .ref l2, .ref l3] h Q := C_of_R rfl rfl (Nat.le_of_ble_eq_true rfl) rfl (v_J44_init_0 H)
abbrev w_J46_init_0 (g : PG) (d : Nat) (l0 : Nat) (l1 : Nat) (h : PH) (Q : Out → PH → Prop) : Prop := 0 < l0 ∧ C g d m_J29_init [.ref l0] h (oV (fun h2 => hkd h2 l0 = 18 ∧ ∀ h6, h6 = setG 546 l0 l1 h2 → Q (.inl none) h6) (fun r hx => Q (.inr r) hx))
theorem v_J46_init_0 {g : PG} {d : Nat} {l0 : Nat} {l1 : Nat} {h : PH} {Q : Out → PH → Prop} (H : w_J46_init_0 g d l0 l1 h Q) : R g d m_J46_init 0 [.ref l0, .ref l1] [] h Q := by
  refine r_aload_n dJ46_init_0 rfl rfl ?_
  obtain ⟨k1, H⟩ := H
  refine r_invI (y := m_J29_init) dJ46_init_1 rfl rfl q830 q143 q828 q829 rfl py_J29_init (Nat.le_of_ble_eq_true rfl) (args := []) rfl rfl (Nat.le_of_ble_eq_true rfl) k1 (C.monoE H (fun o h2 _ x4 K => cont_V K (fun H => ?_) (fun r HX => XR_nc rfl HX)))
  refine r_aload_n dJ46_init_4 rfl rfl ?_
  refine r_aload_n dJ46_init_5 rfl rfl ?_
  obtain ⟨k5, H⟩ := H
  replace H := H _ rfl
  refine r_putG fw_J46_7_18_i (by decide) dJ46_init_6 k5 (by decide) rfl ?_
  exact r_vret dJ46_init_9 rfl H
theorem c_J46_init_0 {g : PG} {d : Nat} {l0 : Nat} {l1 : Nat} {h : PH} {Q : Out → PH → Prop} (H : w_J46_init_0 g d l0 l1 h Q) : C g (d + 1) m_J46_init [.ref l0, .ref l1] h Q := C_of_R rfl rfl (Nat.le_of_ble_eq_true rfl) rfl (v_J46_init_0 H)
abbrev w_J46_iterator_0 (g : PG) (d : Nat) (l0 : Nat) (h : PH) (Q : Out → PH → Prop) : Prop := hkd h l0 = 18 ∧ ((hG h 546 l0) = 0 → (((0 : Int32) = 0) → False) ∧ ((¬ (0 : Int32) = 0) → ((hG h 546 l0) = 0 ∨ hkd h (hG h 546 l0) = 15) ∧ hkd h (hG h 546 l0) = 15 ∧ C g d m_J4_keyIterator [.ref (hG h 546 l0)] h (oR (fun v7 h6 => Q (.inl (some (.ref v7))) h6) (fun r hx => Q (.inr r) hx)))) ∧ (¬ (hG h 546 l0) = 0 → hkd h (hG h 546 l0) = 15 ∧ (((1 : Int32) = 0) → False) ∧ ((¬ (1 : Int32) = 0) → ((hG h 546 l0) = 0 ∨ hkd h (hG h 546 l0) = 15) ∧ hkd h (hG h 546 l0) = 15 ∧ C g d m_J4_keyIterator [.ref (hG h 546 l0)] h (oR (fun v13 h12 => Q (.inl (some (.ref v13))) h12) (fun r hx => Q (.inr r) hx))))
theorem v_J46_iterator_0 {g : PG} {d : Nat} {l0 : Nat} {h : PH} {Q : Out → PH → Prop} (H : w_J46_iterator_0 g d l0 h Q) : R g d m_J46_iterator 0 [.ref l0] [] h Q := by
  refine r_aload_n dJ46_iterator_0 rfl rfl ?_
  obtain ⟨k1, H⟩ := H
  refine r_getG fr_J46_7_18 (by decide) dJ46_iterator_1 k1 (by decide) ?_
  refine r_instO (kv := 15) dJ46_iterator_4 q878 (by decide) (Or.inr rfl) (fun k2 => ?_) (fun k2 => ⟨(H.2 k2).1, ?_⟩)
  · replace H := H.1 k2
    refine r_if_eq (tgt := 21) dJ46_iterator_7 rfl (fun b3 => ?_) (fun b3 => ?_)
    · replace H := H.1 b3
      exact H.elim
    · replace H := H.2 b3
      refine r_aload_n dJ46_iterator_10 rfl rfl ?_
      refine r_getG fr_J46_7_18 (by decide) dJ46_iterator_11 k1 (by decide) ?_
      obtain ⟨k4, H⟩ := H
      refine r_castO (kv := 15) dJ46_iterator_14 q878 (by decide) (Or.inr rfl) k4 ?_
      obtain ⟨k5, H⟩ := H
      refine r_invV (y := m_J4_keyIterator) dJ46_iterator_17 rfl (lw_V q879 q880 q881 q113 q882) py_J4_keyIterator (Nat.le_of_ble_eq_true rfl) (args := []) rfl rfl (Nat.le_of_ble_eq_true rfl) k5 (by decide) rfl (C.monoE H (fun o h6 _ x8 K => cont_R K (fun v7 H => ?_) (fun r HX => XR_nc rfl HX)))
      exact r_aret dJ46_iterator_20 rfl H
  · replace H := (H.2 k2).2
    refine r_if_eq (tgt := 21) dJ46_iterator_7 rfl (fun b9 => ?_) (fun b9 => ?_)
    · replace H := H.1 b9
      exact H.elim
    · replace H := H.2 b9
      refine r_aload_n dJ46_iterator_10 rfl rfl ?_
      refine r_getG fr_J46_7_18 (by decide) dJ46_iterator_11 k1 (by decide) ?_
      obtain ⟨k10, H⟩ := H
      refine r_castO (kv := 15) dJ46_iterator_14 q878 (by decide) (Or.inr rfl) k10 ?_
      obtain ⟨k11, H⟩ := H
      refine r_invV (y := m_J4_keyIterator) dJ46_iterator_17 rfl (lw_V q879 q880 q881 q113 q882) py_J4_keyIterator (Nat.le_of_ble_eq_true rfl) (args := []) rfl rfl (Nat.le_of_ble_eq_true rfl) k11 (by decide) rfl (C.monoE H (fun o h12 _ x14 K => cont_R K (fun v13 H => ?_) (fun r HX => XR_nc rfl HX)))
      exact r_aret dJ46_iterator_20 rfl H
theorem c_J46_iterator_0 {g : PG} {d : Nat} {l0 : Nat} {h : PH} {Q : Out → PH → Prop} (H : w_J46_iterator_0 g d l0 h Q) : C g (d + 1) m_J46_iterator [.ref l0] h Q := C_of_R rfl rfl (Nat.le_of_ble_eq_true rfl) rfl (v_J46_iterator_0 H)
abbrev w_J47_init_0 (g : PG) (d : Nat) (l0 : Nat) (h : PH) (Q : Out → PH → Prop) : Prop := 0 < l0 ∧ C g d m_J0_init [.ref l0] h (oV (fun h2 => Q (.inl none) h2) (fun r hx => Q (.inr r) hx))
theorem v_J47_init_0 {g : PG} {d : Nat} {l0 : Nat} {h : PH} {Q : Out → PH → Prop} (H : w_J47_init_0 g d l0 h Q) : R g d m_J47_init 0 [.ref l0] [] h Q := by
  refine r_aload_n dJ47_init_0 rfl rfl ?_
  obtain ⟨k1, H⟩ := H
  refine r_invI (y := m_J0_init) dJ47_init_1 rfl rfl q202 q109 q2774 q201 rfl py_J0_init (Nat.le_of_ble_eq_true rfl) (args := []) rfl rfl (Nat.le_of_ble_eq_true rfl) k1 (C.monoE H (fun o h2 _ x4 K => cont_V K (fun H => ?_) (fun r HX => XR_nc rfl HX)))
  exact r_vret dJ47_init_4 rfl H
theorem c_J47_init_0 {g : PG} {d : Nat} {l0 : Nat} {h : PH} {Q : Out → PH → Prop} (H : w_J47_init_0 g d l0 h Q) : C g (d + 1) m_J47_init [.ref l0] h Q := C_of_R rfl rfl (Nat.le_of_ble_eq_true rfl) rfl (v_J47_init_0 H)
abbrev w_J47_addAll_k27_62 (g : PG) (d : Nat) (l0 : Nat) (l2 : Int32) (l3 : Nat) (h : PH) (Q : Out → PH → Prop) : Prop := R g d m_J47_addAll 34 [.ref l0, .null, .int l2, .ref l3, .null] [] h Q
theorem v_J47_addAll_k27_62 {g : PG} {d : Nat} {l0 : Nat} {l2 : Int32} {l3 : Nat} {h : PH} {Q : Out → PH → Prop} (H : w_J47_addAll_k27_62 g d l0 l2 l3 h Q) : R g d m_J47_addAll 62 [.ref l0, .null, .int l2, .ref l3, .null] [] h Q := by
  refine r_goto (tgt := 34) dJ47_addAll_62 rfl ?_
  exact H
abbrev w_J47_addAll_k27_34 (g : PG) (d : Nat) (l0 : Nat) (l2 : Int32) (l3 : Nat) (h : PH) (Q : Out → PH → Prop) : Prop := hkd h l3 = 14 ∧ C g d m_J18_hasNext [.ref l3] h (oI (fun v3 h2 => ((v3 = 0) → narrow .boolean (.int l2) = .int l2 ∧ Q (.inl (some (.int l2))) h2) ∧ ((¬ v3 = 0) → C g d m_J18_next [.ref l3] h2 (oR (fun v7 h6 => hkd h6 l0 = 27 ∧ C g d m_J48_add [.ref l0, .ref v7] h6 (oI (fun v11 h10 => ((v11 = 0) → w_J47_addAll_k27_62 g d l0 l2 l3 h10 Q) ∧ ((¬ v11 = 0) → w_J47_addAll_k27_62 g d l0 (1 : Int32) l3 h10 Q)) (fun r hx => Q (.inr r) hx))) (fun r hx => Q (.inr r) hx)))) (fun r hx => Q (.inr r) hx))
theorem v_J47_addAll_k27_34 {g : PG} {d : Nat} {l0 : Nat} {l2 : Int32} {l3 : Nat} {h : PH} {Q : Out → PH → Prop} (H : w_J47_addAll_k27_34 g d l0 l2 l3 h Q) : R g d m_J47_addAll 34 [.ref l0, .null, .int l2, .ref l3, .null] [] h Q := by
  refine r_aload_n dJ47_addAll_34 rfl rfl ?_
  obtain ⟨k1, H⟩ := H
  refine r_invF (y := m_J18_hasNext) (Cn := "java/util/ArrayList$Itr") (x := ⟨"java/util/Iterator", "hasNext", "()Z"⟩) dJ47_addAll_35 rfl (lw_F q2875 q925 q927 q130 q929) fw_t2 (n := 0) (by decide +kernel) (Nat.le_of_ble_eq_true rfl) (args := []) rfl rfl (Nat.le_of_ble_eq_true rfl) k1 (by decide) rfl (C.monoE H (fun o h2 _ x4 K => cont_I K (fun v3 H => ?_) (fun r HX => XR_nc rfl HX)))
  refine r_if_eq (tgt := 65) dJ47_addAll_40 rfl (fun b5 => ?_) (fun b5 => ?_)
  · replace H := H.1 b5
    refine r_iload_n dJ47_addAll_65 rfl rfl ?_
    exact r_zret dJ47_addAll_66 rfl H.1 H.2
  · replace H := H.2 b5
    refine r_aload_n dJ47_addAll_43 rfl rfl ?_
    refine r_invF (y := m_J18_next) (Cn := "java/util/ArrayList$Itr") (x := ⟨"java/util/Iterator", "next", "()Ljava/lang/Object;"⟩) dJ47_addAll_44 rfl (lw_F q2877 q1167 q1169 q130 q1171) fw_t7 (n := 0) (by decide +kernel) (Nat.le_of_ble_eq_true rfl) (args := []) rfl rfl (Nat.le_of_ble_eq_true rfl) (x4.kd k1 (by decide)) (by decide) rfl (C.monoE H (fun o h6 _ x8 K => cont_R K (fun v7 H => ?_) (fun r HX => XR_nc rfl HX)))
    refine r_astore dJ47_addAll_49 (Nat.le_of_ble_eq_true rfl) rfl (slS (slS (slS (slS sl0)))) ?_
    refine r_aload_n dJ47_addAll_51 rfl rfl ?_
    refine r_aload dJ47_addAll_52 rfl ?_
    obtain ⟨k9, H⟩ := H
    refine r_invU (y := m_J48_add) (owner := "java/util/AbstractQueue") (Cn := "java/util/PriorityQueue") (x := ⟨"java/util/AbstractQueue", "add", "(Ljava/lang/Object;)Z"⟩) dJ47_addAll_54 (n := 1) ⟨rfl, by decide +kernel, by decide, by decide, Or.inl ⟨lw_U q2878 q2880 q2881 q2795 q167 q2797, Or.inr q2882⟩⟩ (Nat.le_of_ble_eq_true rfl) (args := [_]) rfl rfl (Nat.le_of_ble_eq_true rfl) k9 (by decide) rfl (C.monoE H (fun o h10 _ x12 K => cont_I K (fun v11 H => ?_) (fun r HX => XR_nc rfl HX)))
    refine r_if_eq (tgt := 62) dJ47_addAll_57 rfl (fun b13 => ?_) (fun b13 => ?_)
    · replace H := H.1 b13
      exact R.forget (v_J47_addAll_k27_62 H) ⟨Or.inl rfl, ⟨Or.inl rfl, ⟨Or.inl rfl, ⟨Or.inl rfl, ⟨Or.inr rfl, trivial⟩⟩⟩⟩⟩
    · replace H := H.2 b13
      refine r_iconst dJ47_addAll_60 rfl ?_
      refine r_istore_n dJ47_addAll_61 rfl (Nat.le_of_ble_eq_true rfl) rfl (slS (slS sl0)) ?_
      exact R.forget (v_J47_addAll_k27_62 H) ⟨Or.inl rfl, ⟨Or.inl rfl, ⟨Or.inl rfl, ⟨Or.inl rfl, ⟨Or.inr rfl, trivial⟩⟩⟩⟩⟩
abbrev w_J47_addAll_k27_0 (g : PG) (d : Nat) (l0 : Nat) (l1 : Nat) (h : PH) (Q : Out → PH → Prop) : Prop := ((¬ l1 = 0) → ((¬ l1 = l0) → hkd h l1 = 13 ∧ C g d m_J2_iterator [.ref l1] h (oR (fun v5 h4 => R g d m_J47_addAll 34 [.ref l0, .null, .int 0, .ref v5, .null] [] h4 Q) (fun r hx => Q (.inr r) hx))) ∧ ((l1 = l0) → 5 ≤ d ∧ Q (.inr (hnx h)) (hnew 31 0 7 h))) ∧ ((l1 = 0) → False)
theorem v_J47_addAll_k27_0 {g : PG} {d : Nat} {l0 : Nat} {l1 : Nat} {h : PH} {Q : Out → PH → Prop} (H : w_J47_addAll_k27_0 g d l0 l1 h Q) : R g d m_J47_addAll 0 [.ref l0, .ref l1, .null, .null, .null] [] h Q := by
  refine r_aload_n dJ47_addAll_0 rfl rfl ?_
  refine r_ifnonnull (tgt := 12) dJ47_addAll_1 rfl (fun b1 => ?_) (fun b1 => ?_)
  · replace H := H.1 b1
    refine r_aload_n dJ47_addAll_12 rfl rfl ?_
    refine r_aload_n dJ47_addAll_13 rfl rfl ?_
    refine r_acmp_ne (tgt := 25) dJ47_addAll_14 rfl (fun b2 => ?_) (fun b2 => ?_)
    · replace H := H.1 b2
      refine r_iconst dJ47_addAll_25 rfl ?_
      refine r_istore_n dJ47_addAll_26 rfl (Nat.le_of_ble_eq_true rfl) rfl (slS (slS sl0)) ?_
      refine r_aload_n dJ47_addAll_27 rfl rfl ?_
      obtain ⟨k3, H⟩ := H
      refine r_invF (y := m_J2_iterator) (Cn := "java/util/ArrayList") (x := ⟨"java/util/Collection", "iterator", "()Ljava/util/Iterator;"⟩) dJ47_addAll_28 rfl (lw_F q2873 q1802 q1552 q111 q1554) fw_t18 (n := 0) (by decide +kernel) (Nat.le_of_ble_eq_true rfl) (args := []) rfl rfl (Nat.le_of_ble_eq_true rfl) k3 (by decide) rfl (C.monoE H (fun o h4 _ x6 K => cont_R K (fun v5 H => ?_) (fun r HX => XR_nc rfl HX)))
      refine r_astore_n dJ47_addAll_33 rfl (Nat.le_of_ble_eq_true rfl) rfl (slS (slS (slS sl0))) ?_
      exact R.forget H ⟨Or.inl rfl, ⟨Or.inr rfl, ⟨Or.inl rfl, ⟨Or.inl rfl, ⟨Or.inl rfl, trivial⟩⟩⟩⟩⟩
    · replace H := H.2 b2
      exact r_throw0 (kE := 31) (names := ["java/lang/RuntimeException", "java/lang/Exception"]) (by decide) dJ47_addAll_17 dJ47_addAll_20 dJ47_addAll_21 dJ47_addAll_24 (by decide +kernel) (by decide +kernel) tw_J47_33_35 rfl H.1 (Nat.le_of_ble_eq_true rfl) H.2
  · replace H := H.2 b1
    exact H.elim
theorem c_J47_addAll_k27_0 {g : PG} {d : Nat} {l0 : Nat} {l1 : Nat} {h : PH} {Q : Out → PH → Prop} (H : w_J47_addAll_k27_0 g d l0 l1 h Q) : C g (d + 1) m_J47_addAll [.ref l0, .ref l1] h Q := C_of_R rfl rfl (Nat.le_of_ble_eq_true rfl) rfl (v_J47_addAll_k27_0 H)
abbrev w_J48_toArray_0 (g : PG) (d : Nat) (l0 : Nat) (h : PH) (Q : Out → PH → Prop) : Prop := hkd h l0 = 27 ∧ C g d m_J23_copyOf_2 [.ref (hG h 560 l0), .int (hF h 48 l0)] h (oR (fun v3 h2 => Q (.inl (some (.ref v3))) h2) (fun r hx => Q (.inr r) hx))
theorem v_J48_toArray_0 {g : PG} {d : Nat} {l0 : Nat} {h : PH} {Q : Out → PH → Prop} (H : w_J48_toArray_0 g d l0 h Q) : R g d m_J48_toArray 0 [.ref l0] [] h Q := by
  refine r_aload_n dJ48_toArray_0 rfl rfl ?_
  obtain ⟨k1, H⟩ := H
  refine r_getG fr_J48_17_27 (by decide) dJ48_toArray_1 k1 (by decide) ?_
  refine r_aload_n dJ48_toArray_4 rfl rfl ?_
  refine r_getF fr_J48_58_27 (by decide) dJ48_toArray_5 k1 (by decide) ?_
  refine r_invS (y := m_J23_copyOf_2) dJ48_toArray_8 rfl (lw_S q1993 q1976 q135 q1977) py_J23_copyOf_2 (Nat.le_of_ble_eq_true rfl) (args := [_, _]) rfl rfl (Nat.le_of_ble_eq_true rfl) (C.monoE H (fun o h2 _ x4 K => cont_R K (fun v3 H => ?_) (fun r HX => XR_nc rfl HX)))
  exact r_aret dJ48_toArray_11 rfl H
theorem c_J48_toArray_0 {g : PG} {d : Nat} {l0 : Nat} {h : PH} {Q : Out → PH → Prop} (H : w_J48_toArray_0 g d l0 h Q) : C g (d + 1) m_J48_toArray [.ref l0] h Q := C_of_R rfl rfl (Nat.le_of_ble_eq_true rfl) rfl (v_J48_toArray_0 H)
abbrev w_J48_size_0 (g : PG) (d : Nat) (l0 : Nat) (h : PH) (Q : Out → PH → Prop) : Prop := hkd h l0 = 27 ∧ Q (.inl (some (.int (hF h 48 l0)))) h
theorem v_J48_size_0 {g : PG} {d : Nat} {l0 : Nat} {h : PH} {Q : Out → PH → Prop} (H : w_J48_size_0 g d l0 h Q) : R g d m_J48_size 0 [.ref l0] [] h Q := by
  refine r_aload_n dJ48_size_0 rfl rfl ?_
  obtain ⟨k1, H⟩ := H
  refine r_getF fr_J48_58_27 (by decide) dJ48_size_1 k1 (by decide) ?_
  exact r_iret dJ48_size_4 rfl H
theorem c_J48_size_0 {g : PG} {d : Nat} {l0 : Nat} {h : PH} {Q : Out → PH → Prop} (H : w_J48_size_0 g d l0 h Q) : C g (d + 1) m_J48_size [.ref l0] h Q := C_of_R rfl rfl (Nat.le_of_ble_eq_true rfl) rfl (v_J48_size_0 H)
abbrev w_J48_init_0 (g : PG) (d : Nat) (l0 : Nat) (l1 : Nat) (h : PH) (Q : Out → PH → Prop) : Prop := 0 < l0 ∧ C g d m_J48_init_2 [.ref l0, .int 11, .ref l1] h (oV (fun h2 => Q (.inl none) h2) (fun r hx => Q (.inr r) hx))
theorem v_J48_init_0 {g : PG} {d : Nat} {l0 : Nat} {l1 : Nat} {h : PH} {Q : Out → PH → Prop} (H : w_J48_init_0 g d l0 l1 h Q) : R g d m_J48_init 0 [.ref l0, .ref l1] [] h Q := by
  refine r_aload_n dJ48_init_0 rfl rfl ?_
  refine r_bipush dJ48_init_1 rfl ?_
  refine r_aload_n dJ48_init_3 rfl rfl ?_
  obtain ⟨k1, H⟩ := H
  refine r_invI (y := m_J48_init_2) dJ48_init_4 rfl rfl q2770 q167 q2768 q2769 rfl py_J48_init_2 (Nat.le_of_ble_eq_true rfl) (args := [_, _]) rfl rfl (Nat.le_of_ble_eq_true rfl) k1 (C.monoE H (fun o h2 _ x4 K => cont_V K (fun H => ?_) (fun r HX => XR_nc rfl HX)))
  exact r_vret dJ48_init_7 rfl H
theorem c_J48_init_0 {g : PG} {d : Nat} {l0 : Nat} {l1 : Nat} {h : PH} {Q : Out → PH → Prop} (H : w_J48_init_0 g d l0 l1 h Q) : C g (d + 1) m_J48_init [.ref l0, .ref l1] h Q := C_of_R rfl rfl (Nat.le_of_ble_eq_true rfl) rfl (v_J48_init_0 H)
abbrev w_J48_init_2_0 (g : PG) (d : Nat) (l0 : Nat) (l1 : Int32) (l2 : Nat) (h : PH) (Q : Out → PH → Prop) : Prop := 0 < l0 ∧ C g d m_J47_init [.ref l0] h (oV (fun h2 => (((1 : Int32) ≤ l1) → ¬ l1 < 0 ∧ l1.toNatClampNeg ≤ 67108864 ∧ ∀ h8, h8 = hnew 600 l1.toNatClampNeg (l1.toNatClampNeg + 1) h2 → hkd h8 l0 = 27 ∧ ∀ h10, h10 = setG 560 l0 (hnx h2) h8 → ∀ h11, h11 = setG 561 l0 l2 h10 → Q (.inl none) h11) ∧ ((¬ (1 : Int32) ≤ l1) → 5 ≤ d ∧ Q (.inr (hnx h2)) (hnew 31 0 7 h2))) (fun r hx => Q (.inr r) hx))
theorem v_J48_init_2_0 {g : PG} {d : Nat} {l0 : Nat} {l1 : Int32} {l2 : Nat} {h : PH} {Q : Out → PH → Prop} (H : w_J48_init_2_0 g d l0 l1 l2 h Q) : R g d m_J48_init_2 0 [.ref l0, .int l1, .ref l2] [] h Q := by
  refine r_aload_n dJ48_init_2_0 rfl rfl ?_
  obtain ⟨k1, H⟩ := H
  refine r_invI (y := m_J47_init) dJ48_init_2_1 rfl rfl q2773 q166 q2771 q2772 rfl py_J47_init (Nat.le_of_ble_eq_true rfl) (args := []) rfl rfl (Nat.le_of_ble_eq_true rfl) k1 (C.monoE H (fun o h2 _ x4 K => cont_V K (fun H => ?_) (fun r HX => XR_nc rfl HX)))
  refine r_iload_n dJ48_init_2_4 rfl rfl ?_
  refine r_iconst dJ48_init_2_5 rfl ?_
  refine r_icmp_ge (tgt := 17) dJ48_init_2_6 rfl (fun b5 => ?_) (fun b5 => ?_)
  · replace H := H.1 b5
    refine r_aload_n dJ48_init_2_17 rfl rfl ?_
    refine r_iload_n dJ48_init_2_18 rfl rfl ?_
    obtain ⟨k6, H⟩ := H
    obtain ⟨k7, H⟩ := H
    replace H := H _ rfl
    refine r_anew (m := 6) (kk := 600) dJ48_init_2_19 rfl (by decide) (by decide) q2777 q353 k6 rfl (newB4 k7) ?_
    obtain ⟨k9, H⟩ := H
    replace H := H _ rfl
    refine r_putG fw_J48_17_27_i (by decide) dJ48_init_2_22 k9 (by decide) rfl ?_
    refine r_aload_n dJ48_init_2_25 rfl rfl ?_
    refine r_aload_n dJ48_init_2_26 rfl rfl ?_
    replace H := H _ rfl
    refine r_putG fw_J48_21_27_i (by decide) dJ48_init_2_27 k9 (by decide) rfl ?_
    exact r_vret dJ48_init_2_30 rfl H
  · replace H := H.2 b5
    exact r_throw0 (kE := 31) (names := ["java/lang/RuntimeException", "java/lang/Exception"]) (by decide) dJ48_init_2_9 dJ48_init_2_12 dJ48_init_2_13 dJ48_init_2_16 (by decide +kernel) (by decide +kernel) tw_J48_12_14 rfl H.1 (Nat.le_of_ble_eq_true rfl) H.2
theorem c_J48_init_2_0 {g : PG} {d : Nat} {l0 : Nat} {l1 : Int32} {l2 : Nat} {h : PH} {Q : Out → PH → Prop} (H : w_J48_init_2_0 g d l0 l1 l2 h Q) : C g (d + 1) m_J48_init_2 [.ref l0, .int l1, .ref l2] h Q := C_of_R rfl rfl (Nat.le_of_ble_eq_true rfl) rfl (v_J48_init_2_0 H)
abbrev w_J48_add_0 (g : PG) (d : Nat) (l0 : Nat) (l1 : Nat) (h : PH) (Q : Out → PH → Prop) : Prop := hkd h l0 = 27 ∧ C g d m_J48_offer [.ref l0, .ref l1] h (oI (fun v3 h2 => narrow .boolean (.int v3) = .int v3 ∧ Q (.inl (some (.int v3))) h2) (fun r hx => Q (.inr r) hx))
theorem v_J48_add_0 {g : PG} {d : Nat} {l0 : Nat} {l1 : Nat} {h : PH} {Q : Out → PH → Prop} (H : w_J48_add_0 g d l0 l1 h Q) : R g d m_J48_add 0 [.ref l0, .ref l1] [] h Q := by
  refine r_aload_n dJ48_add_0 rfl rfl ?_
  refine r_aload_n dJ48_add_1 rfl rfl ?_
  obtain ⟨k1, H⟩ := H
  refine r_invV (y := m_J48_offer) dJ48_add_2 rfl (lw_V q2798 q2799 q2800 q167 q2801) py_J48_offer (Nat.le_of_ble_eq_true rfl) (args := [_]) rfl rfl (Nat.le_of_ble_eq_true rfl) k1 (by decide) rfl (C.monoE H (fun o h2 _ x4 K => cont_I K (fun v3 H => ?_) (fun r HX => XR_nc rfl HX)))
  exact r_zret dJ48_add_5 rfl H.1 H.2
theorem c_J48_add_0 {g : PG} {d : Nat} {l0 : Nat} {l1 : Nat} {h : PH} {Q : Out → PH → Prop} (H : w_J48_add_0 g d l0 l1 h Q) : C g (d + 1) m_J48_add [.ref l0, .ref l1] h Q := C_of_R rfl rfl (Nat.le_of_ble_eq_true rfl) rfl (v_J48_add_0 H)
abbrev w_J48_offer_43 (g : PG) (d : Nat) (l0 : Nat) (l1 : Nat) (l2 : Int32) (h : PH) (Q : Out → PH → Prop) : Prop := hkd h l0 = 27 ∧ C g d m_J48_siftUp [.ref l0, .int l2, .ref l1] h (oV (fun h2 => ∀ h5, h5 = setF 48 l0 (l2 + (1 : Int32)) h2 → Q (.inl (some (.int 1))) h5) (fun r hx => Q (.inr r) hx))
theorem v_J48_offer_43 {g : PG} {d : Nat} {l0 : Nat} {l1 : Nat} {l2 : Int32} {h : PH} {Q : Out → PH → Prop} (H : w_J48_offer_43 g d l0 l1 l2 h Q) : R g d m_J48_offer 43 [.ref l0, .ref l1, .int l2] [] h Q := by
  refine r_aload_n dJ48_offer_43 rfl rfl ?_
  refine r_iload_n dJ48_offer_44 rfl rfl ?_
  refine r_aload_n dJ48_offer_45 rfl rfl ?_
  obtain ⟨k1, H⟩ := H
  refine r_invV (y := m_J48_siftUp) dJ48_offer_46 rfl (lw_V q2807 q2809 qp49 q167 q2810) py_J48_siftUp (Nat.le_of_ble_eq_true rfl) (args := [_, _]) rfl rfl (Nat.le_of_ble_eq_true rfl) k1 (by decide) rfl (C.monoE H (fun o h2 _ x4 K => cont_V K (fun H => ?_) (fun r HX => XR_nc rfl HX)))
  refine r_aload_n dJ48_offer_49 rfl rfl ?_
  refine r_iload_n dJ48_offer_50 rfl rfl ?_
  refine r_iconst dJ48_offer_51 rfl ?_
  refine r_iadd dJ48_offer_52 ?_
  replace H := H _ rfl
  refine r_putF fw_J48_58_27 (by decide) dJ48_offer_53 (x4.kd k1 (by decide)) (by decide) rfl rfl ?_
  refine r_iconst dJ48_offer_56 rfl ?_
  exact r_zret dJ48_offer_57 rfl rfl H
abbrev w_J48_offer_0 (g : PG) (d : Nat) (l0 : Nat) (l1 : Nat) (h : PH) (Q : Out → PH → Prop) : Prop := ((¬ l1 = 0) → hkd h l0 = 27 ∧ ∀ h3, h3 = setF 49 l0 ((hF h 49 l0) + (1 : Int32)) h → hkd h3 (hG h3 560 l0) / 100 = 6 ∧ (((hF h3 48 l0) < (nI (hln h3 (hG h3 560 l0)))) → w_J48_offer_43 g d l0 l1 (hF h3 48 l0) h3 Q) ∧ ((¬ (hF h3 48 l0) < (nI (hln h3 (hG h3 560 l0)))) → C g d m_J48_grow [.ref l0, .int ((hF h3 48 l0) + (1 : Int32))] h3 (oV (fun h6 => w_J48_offer_43 g d l0 l1 (hF h3 48 l0) h6 Q) (fun r hx => Q (.inr r) hx)))) ∧ ((l1 = 0) → False)
theorem v_J48_offer_0 {g : PG} {d : Nat} {l0 : Nat} {l1 : Nat} {h : PH} {Q : Out → PH → Prop} (H : w_J48_offer_0 g d l0 l1 h Q) : R g d m_J48_offer 0 [.ref l0, .ref l1, .null] [] h Q := by
  refine r_aload_n dJ48_offer_0 rfl rfl ?_
  refine r_ifnonnull (tgt := 12) dJ48_offer_1 rfl (fun b1 => ?_) (fun b1 => ?_)
  · replace H := H.1 b1
    refine r_aload_n dJ48_offer_12 rfl rfl ?_
    refine r_dup dJ48_offer_13 rfl ?_
    obtain ⟨k2, H⟩ := H
    refine r_getF fr_J48_93_27 (by decide) dJ48_offer_14 k2 (by decide) ?_
    refine r_iconst dJ48_offer_17 rfl ?_
    refine r_iadd dJ48_offer_18 ?_
    replace H := H _ rfl
    refine r_putF fw_J48_93_27 (by decide) dJ48_offer_19 k2 (by decide) rfl rfl ?_
    refine r_aload_n dJ48_offer_22 rfl rfl ?_
    refine r_getF fr_J48_58_27 (by decide) dJ48_offer_23 k2 (by decide) ?_
    refine r_istore_n dJ48_offer_26 rfl (Nat.le_of_ble_eq_true rfl) rfl (slS (slS sl0)) ?_
    refine r_iload_n dJ48_offer_27 rfl rfl ?_
    refine r_aload_n dJ48_offer_28 rfl rfl ?_
    refine r_getG fr_J48_17_27 (by decide) dJ48_offer_29 k2 (by decide) ?_
    obtain ⟨k4, H⟩ := H
    refine r_alen (m := 6) dJ48_offer_32 (by decide) k4 ?_
    refine r_icmp_lt (tgt := 43) dJ48_offer_33 rfl (fun b5 => ?_) (fun b5 => ?_)
    · replace H := H.1 b5
      exact v_J48_offer_43 H
    · replace H := H.2 b5
      refine r_aload_n dJ48_offer_36 rfl rfl ?_
      refine r_iload_n dJ48_offer_37 rfl rfl ?_
      refine r_iconst dJ48_offer_38 rfl ?_
      refine r_iadd dJ48_offer_39 ?_
      refine r_invV (y := m_J48_grow) dJ48_offer_40 rfl (lw_V q2802 q2804 qp48 q167 q2805) py_J48_grow (Nat.le_of_ble_eq_true rfl) (args := [_]) rfl rfl (Nat.le_of_ble_eq_true rfl) k2 (by decide) rfl (C.monoE H (fun o h6 _ x8 K => cont_V K (fun H => ?_) (fun r HX => XR_nc rfl HX)))
      exact v_J48_offer_43 H
  · replace H := H.2 b1
    exact H.elim
theorem c_J48_offer_0 {g : PG} {d : Nat} {l0 : Nat} {l1 : Nat} {h : PH} {Q : Out → PH → Prop} (H : w_J48_offer_0 g d l0 l1 h Q) : C g (d + 1) m_J48_offer [.ref l0, .ref l1] h Q := C_of_R rfl rfl (Nat.le_of_ble_eq_true rfl) rfl (v_J48_offer_0 H)
abbrev w_J48_grow_25 (g : PG) (d : Nat) (l0 : Nat) (s0 : Int32) (s1 : Int32) (s2 : Int32) (h : PH) (Q : Out → PH → Prop) : Prop := C g d m_J21_newLength [.int s0, .int s1, .int s2] h (oI (fun v2 h1 => hkd h1 l0 = 27 ∧ C g d m_J23_copyOf_2 [.ref (hG h1 560 l0), .int v2] h1 (oR (fun v6 h5 => ∀ h8, h8 = setG 560 l0 v6 h5 → Q (.inl none) h8) (fun r hx => Q (.inr r) hx))) (fun r hx => Q (.inr r) hx))
theorem v_J48_grow_25 {g : PG} {d : Nat} {l0 : Nat} {s0 : Int32} {s1 : Int32} {s2 : Int32} {h : PH} {Q : Out → PH → Prop} (H : w_J48_grow_25 g d l0 s0 s1 s2 h Q) : R g d m_J48_grow 25 [.ref l0, .null, .null, .null] [.int s2, .int s1, .int s0] h Q := by
  refine r_invS (y := m_J21_newLength) dJ48_grow_25 rfl (lw_S q2806 q464 q133 q465) py_J21_newLength (Nat.le_of_ble_eq_true rfl) (args := [_, _, _]) rfl rfl (Nat.le_of_ble_eq_true rfl) (C.monoE H (fun o h1 _ x3 K => cont_I K (fun v2 H => ?_) (fun r HX => XR_nc rfl HX)))
  refine r_istore_n dJ48_grow_28 rfl (Nat.le_of_ble_eq_true rfl) rfl (slS (slS (slS sl0))) ?_
  refine r_aload_n dJ48_grow_29 rfl rfl ?_
  refine r_aload_n dJ48_grow_30 rfl rfl ?_
  obtain ⟨k4, H⟩ := H
  refine r_getG fr_J48_17_27 (by decide) dJ48_grow_31 k4 (by decide) ?_
  refine r_iload_n dJ48_grow_34 rfl rfl ?_
  refine r_invS (y := m_J23_copyOf_2) dJ48_grow_35 rfl (lw_S q1993 q1976 q135 q1977) py_J23_copyOf_2 (Nat.le_of_ble_eq_true rfl) (args := [_, _]) rfl rfl (Nat.le_of_ble_eq_true rfl) (C.monoE H (fun o h5 _ x7 K => cont_R K (fun v6 H => ?_) (fun r HX => XR_nc rfl HX)))
  replace H := H _ rfl
  refine r_putG fw_J48_17_27 (by decide) dJ48_grow_38 (x7.kd k4 (by decide)) (by decide) rfl ?_
  exact r_vret dJ48_grow_41 rfl H
abbrev w_J48_grow_0 (g : PG) (d : Nat) (l0 : Nat) (l1 : Int32) (h : PH) (Q : Out → PH → Prop) : Prop := hkd h l0 = 27 ∧ hkd h (hG h 560 l0) / 100 = 6 ∧ (((64 : Int32) ≤ (nI (hln h (hG h 560 l0)))) → w_J48_grow_25 g d l0 (nI (hln h (hG h 560 l0))) (l1 - (nI (hln h (hG h 560 l0)))) ((nI (hln h (hG h 560 l0))) >>> ((1 : Int32) &&& 31)) h Q) ∧ ((¬ (64 : Int32) ≤ (nI (hln h (hG h 560 l0)))) → w_J48_grow_25 g d l0 (nI (hln h (hG h 560 l0))) (l1 - (nI (hln h (hG h 560 l0)))) ((nI (hln h (hG h 560 l0))) + (2 : Int32)) h Q)
theorem v_J48_grow_0 {g : PG} {d : Nat} {l0 : Nat} {l1 : Int32} {h : PH} {Q : Out → PH → Prop} (H : w_J48_grow_0 g d l0 l1 h Q) : R g d m_J48_grow 0 [.ref l0, .int l1, .null, .null] [] h Q := by
  refine r_aload_n dJ48_grow_0 rfl rfl ?_
  obtain ⟨k1, H⟩ := H
  refine r_getG fr_J48_17_27 (by decide) dJ48_grow_1 k1 (by decide) ?_
  obtain ⟨k2, H⟩ := H
  refine r_alen (m := 6) dJ48_grow_4 (by decide) k2 ?_
  refine r_istore_n dJ48_grow_5 rfl (Nat.le_of_ble_eq_true rfl) rfl (slS (slS sl0)) ?_
  refine r_iload_n dJ48_grow_6 rfl rfl ?_
  refine r_iload_n dJ48_grow_7 rfl rfl ?_
  refine r_iload_n dJ48_grow_8 rfl rfl ?_
  refine r_isub dJ48_grow_9 ?_
  refine r_iload_n dJ48_grow_10 rfl rfl ?_
  refine r_bipush dJ48_grow_11 rfl ?_
  refine r_icmp_ge (tgt := 22) dJ48_grow_13 rfl (fun b3 => ?_) (fun b3 => ?_)
  · replace H := H.1 b3
    refine r_iload_n dJ48_grow_22 rfl rfl ?_
    refine r_iconst dJ48_grow_23 rfl ?_
    refine r_ishr dJ48_grow_24 ?_
    exact R.forget (v_J48_grow_25 H) ⟨Or.inl rfl, ⟨Or.inr rfl, ⟨Or.inr rfl, ⟨Or.inl rfl, trivial⟩⟩⟩⟩
  · replace H := H.2 b3
    refine r_iload_n dJ48_grow_16 rfl rfl ?_
    refine r_iconst dJ48_grow_17 rfl ?_
    refine r_iadd dJ48_grow_18 ?_
    refine r_goto (tgt := 25) dJ48_grow_19 rfl ?_
    exact R.forget (v_J48_grow_25 H) ⟨Or.inl rfl, ⟨Or.inr rfl, ⟨Or.inr rfl, ⟨Or.inl rfl, trivial⟩⟩⟩⟩
theorem c_J48_grow_0 {g : PG} {d : Nat} {l0 : Nat} {l1 : Int32} {h : PH} {Q : Out → PH → Prop} (H : w_J48_grow_0 g d l0 l1 h Q) : C g (d + 1) m_J48_grow [.ref l0, .int l1] h Q := C_of_R rfl rfl (Nat.le_of_ble_eq_true rfl) rfl (v_J48_grow_0 H)
abbrev w_J48_siftUp_0 (g : PG) (d : Nat) (l0 : Nat) (l1 : Int32) (l2 : Nat) (h : PH) (Q : Out → PH → Prop) : Prop := hkd h l0 = 27 ∧ (((hG h 561 l0) = 0) → C g d m_J48_siftUpComparable [.int l1, .ref l2, .ref (hG h 560 l0)] h (oV (fun h3 => Q (.inl none) h3) (fun r hx => Q (.inr r) hx))) ∧ ((¬ (hG h 561 l0) = 0) → C g d m_J48_siftUpUsingComparator [.int l1, .ref l2, .ref (hG h 560 l0), .ref (hG h 561 l0)] h (oV (fun h6 => Q (.inl none) h6) (fun r hx => Q (.inr r) hx)))
theorem v_J48_siftUp_0 {g : PG} {d : Nat} {l0 : Nat} {l1 : Int32} {l2 : Nat} {h : PH} {Q : Out → PH → Prop} (H : w_J48_siftUp_0 g d l0 l1 l2 h Q) : R g d m_J48_siftUp 0 [.ref l0, .int l1, .ref l2] [] h Q := by
  refine r_aload_n dJ48_siftUp_0 rfl rfl ?_
  obtain ⟨k1, H⟩ := H
  refine r_getG fr_J48_21_27 (by decide) dJ48_siftUp_1 k1 (by decide) ?_
  refine r_ifnull (tgt := 23) dJ48_siftUp_4 rfl (fun b2 => ?_) (fun b2 => ?_)
  · replace H := H.1 b2
    refine r_iload_n dJ48_siftUp_23 rfl rfl ?_
    refine r_aload_n dJ48_siftUp_24 rfl rfl ?_
    refine r_aload_n dJ48_siftUp_25 rfl rfl ?_
    refine r_getG fr_J48_17_27 (by decide) dJ48_siftUp_26 k1 (by decide) ?_
    refine r_invS (y := m_J48_siftUpComparable) dJ48_siftUp_29 rfl (lw_S q2816 q2817 q167 q2818) py_J48_siftUpComparable (Nat.le_of_ble_eq_true rfl) (args := [_, _, _]) rfl rfl (Nat.le_of_ble_eq_true rfl) (C.monoE H (fun o h3 _ x5 K => cont_V K (fun H => ?_) (fun r HX => XR_nc rfl HX)))
    exact r_vret dJ48_siftUp_32 rfl H
  · replace H := H.2 b2
    refine r_iload_n dJ48_siftUp_7 rfl rfl ?_
    refine r_aload_n dJ48_siftUp_8 rfl rfl ?_
    refine r_aload_n dJ48_siftUp_9 rfl rfl ?_
    refine r_getG fr_J48_17_27 (by decide) dJ48_siftUp_10 k1 (by decide) ?_
    refine r_aload_n dJ48_siftUp_13 rfl rfl ?_
    refine r_getG fr_J48_21_27 (by decide) dJ48_siftUp_14 k1 (by decide) ?_
    refine r_invS (y := m_J48_siftUpUsingComparator) dJ48_siftUp_17 rfl (lw_S q2811 q2812 q167 q2813) py_J48_siftUpUsingComparator (Nat.le_of_ble_eq_true rfl) (args := [_, _, _, _]) rfl rfl (Nat.le_of_ble_eq_true rfl) (C.monoE H (fun o h6 _ x8 K => cont_V K (fun H => ?_) (fun r HX => XR_nc rfl HX)))
    refine r_goto (tgt := 32) dJ48_siftUp_20 rfl ?_
    exact r_vret dJ48_siftUp_32 rfl H
theorem c_J48_siftUp_0 {g : PG} {d : Nat} {l0 : Nat} {l1 : Int32} {l2 : Nat} {h : PH} {Q : Out → PH → Prop} (H : w_J48_siftUp_0 g d l0 l1 l2 h Q) : C g (d + 1) m_J48_siftUp [.ref l0, .int l1, .ref l2] h Q := C_of_R rfl rfl (Nat.le_of_ble_eq_true rfl) rfl (v_J48_siftUp_0 H)
abbrev w_J48_siftUpUsingComparator_c10_0 (g : PG) (d : Nat) (l0 : Int32) (l1 : Nat) (l2 : Nat) (l3 : Nat) (h : PH) (Q : Out → PH → Prop) : Prop := ((l0 ≤ 0) → hkd h l2 / 100 = 6 ∧ hkd h l2 % 100 < 50 ∧ vp_in l0 (hln h l2) ∧ okA h l1 "java/lang/Object" ∧ ∀ h6, h6 = setB l2 l0.toNatClampNeg l1 h → Q (.inl none) h6) ∧ ((¬ l0 ≤ 0) → hkd h l2 / 100 = 6 ∧ vp_in (iushr9 (l0 - (1 : Int32)) (1 : Int32)) (hln h l2) ∧ hkd h l3 = 10 ∧ C g d m_X9_compare [.ref l3, .ref l1, .ref (hB h l2 (iushr9 (l0 - (1 : Int32)) (1 : Int32)).toNatClampNeg)] h (oI (fun v11 h10 => ((v11 < 0) → hkd h10 l2 / 100 = 6 ∧ hkd h10 l2 % 100 < 50 ∧ vp_in l0 (hln h10 l2) ∧ okA h10 (hB h l2 (iushr9 (l0 - (1 : Int32)) (1 : Int32)).toNatClampNeg) "java/lang/Object" ∧ ∀ h18, h18 = setB l2 l0.toNatClampNeg (hB h l2 (iushr9 (l0 - (1 : Int32)) (1 : Int32)).toNatClampNeg) h10 → R g d m_J48_siftUpUsingComparator 0 [.int (iushr9 (l0 - (1 : Int32)) (1 : Int32)), .ref l1, .ref l2, .ref l3, .null, .null] [] h18 Q) ∧ ((¬ v11 < 0) → hkd h10 l2 / 100 = 6 ∧ hkd h10 l2 % 100 < 50 ∧ vp_in l0 (hln h10 l2) ∧ okA h10 l1 "java/lang/Object" ∧ ∀ h23, h23 = setB l2 l0.toNatClampNeg l1 h10 → Q (.inl none) h23)) (fun r hx => Q (.inr r) hx)))
theorem v_J48_siftUpUsingComparator_c10_0 {g : PG} {d : Nat} {l0 : Int32} {l1 : Nat} {l2 : Nat} {l3 : Nat} {h : PH} {Q : Out → PH → Prop} (H : w_J48_siftUpUsingComparator_c10_0 g d l0 l1 l2 l3 h Q) : R g d m_J48_siftUpUsingComparator 0 [.int l0, .ref l1, .ref l2, .ref l3, .null, .null] [] h Q := by
  refine r_iload_n dJ48_siftUpUsingComparator_0 rfl rfl ?_
  refine r_if_le (tgt := 43) dJ48_siftUpUsingComparator_1 rfl (fun b1 => ?_) (fun b1 => ?_)
  · replace H := H.1 b1
    refine r_aload_n dJ48_siftUpUsingComparator_43 rfl rfl ?_
    refine r_iload_n dJ48_siftUpUsingComparator_44 rfl rfl ?_
    refine r_aload_n dJ48_siftUpUsingComparator_45 rfl rfl ?_
    obtain ⟨k2, H⟩ := H
    obtain ⟨k3, H⟩ := H
    obtain ⟨k4, H⟩ := H
    obtain ⟨k5, H⟩ := H
    replace H := H _ rfl
    refine r_aastO dJ48_siftUpUsingComparator_46 (m := 6) (by decide) rfl k2 k3 k4 k5 ?_
    exact r_vret dJ48_siftUpUsingComparator_47 rfl H
  · replace H := H.2 b1
    refine r_iload_n dJ48_siftUpUsingComparator_4 rfl rfl ?_
    refine r_iconst dJ48_siftUpUsingComparator_5 rfl ?_
    refine r_isub dJ48_siftUpUsingComparator_6 ?_
    refine r_iconst dJ48_siftUpUsingComparator_7 rfl ?_
    refine r_iushr dJ48_siftUpUsingComparator_8 rfl ?_
    refine r_istore dJ48_siftUpUsingComparator_9 (Nat.le_of_ble_eq_true rfl) rfl (slS (slS (slS (slS sl0)))) ?_
    refine r_aload_n dJ48_siftUpUsingComparator_11 rfl rfl ?_
    refine r_iload dJ48_siftUpUsingComparator_12 rfl ?_
    obtain ⟨k7, H⟩ := H
    obtain ⟨k8, H⟩ := H
    refine r_aald dJ48_siftUpUsingComparator_14 (m := 6) (by decide) k7 k8 ?_
    refine r_astore dJ48_siftUpUsingComparator_15 (Nat.le_of_ble_eq_true rfl) rfl (slS (slS (slS (slS (slS sl0))))) ?_
    refine r_aload_n dJ48_siftUpUsingComparator_17 rfl rfl ?_
    refine r_aload_n dJ48_siftUpUsingComparator_18 rfl rfl ?_
    refine r_aload dJ48_siftUpUsingComparator_19 rfl ?_
    obtain ⟨k9, H⟩ := H
    refine r_invF (y := m_X9_compare) (Cn := "SnowRelay$1") (x := ⟨"java/util/Comparator", "compare", "(Ljava/lang/Object;Ljava/lang/Object;)I"⟩) dJ48_siftUpUsingComparator_21 rfl (lw_F q2815 q1291 q1293 q168 q1295) fw_t12 (n := 2) (by decide +kernel) (Nat.le_of_ble_eq_true rfl) (args := [_, _]) rfl rfl (Nat.le_of_ble_eq_true rfl) k9 (by decide) rfl (C.monoE H (fun o h10 _ x12 K => cont_I K (fun v11 H => ?_) (fun r HX => XR_nc rfl HX)))
    refine r_if_lt (tgt := 32) dJ48_siftUpUsingComparator_26 rfl (fun b13 => ?_) (fun b13 => ?_)
    · replace H := H.1 b13
      refine r_aload_n dJ48_siftUpUsingComparator_32 rfl rfl ?_
      refine r_iload_n dJ48_siftUpUsingComparator_33 rfl rfl ?_
      refine r_aload dJ48_siftUpUsingComparator_34 rfl ?_
      obtain ⟨k14, H⟩ := H
      obtain ⟨k15, H⟩ := H
      obtain ⟨k16, H⟩ := H
      obtain ⟨k17, H⟩ := H
      replace H := H _ rfl
      refine r_aastO dJ48_siftUpUsingComparator_36 (m := 6) (by decide) rfl k14 k15 k16 k17 ?_
      refine r_iload dJ48_siftUpUsingComparator_37 rfl ?_
      refine r_istore_n dJ48_siftUpUsingComparator_39 rfl (Nat.le_of_ble_eq_true rfl) rfl sl0 ?_
      refine r_goto (tgt := 0) dJ48_siftUpUsingComparator_40 rfl ?_
      exact R.forget H ⟨Or.inl rfl, ⟨Or.inl rfl, ⟨Or.inl rfl, ⟨Or.inl rfl, ⟨Or.inr rfl, ⟨Or.inr rfl, trivial⟩⟩⟩⟩⟩⟩
    · replace H := H.2 b13
      refine r_goto (tgt := 43) dJ48_siftUpUsingComparator_29 rfl ?_
      refine r_aload_n dJ48_siftUpUsingComparator_43 rfl rfl ?_
      refine r_iload_n dJ48_siftUpUsingComparator_44 rfl rfl ?_
      refine r_aload_n dJ48_siftUpUsingComparator_45 rfl rfl ?_
      obtain ⟨k19, H⟩ := H
      obtain ⟨k20, H⟩ := H
      obtain ⟨k21, H⟩ := H
      obtain ⟨k22, H⟩ := H
      replace H := H _ rfl
      refine r_aastO dJ48_siftUpUsingComparator_46 (m := 6) (by decide) rfl k19 k20 k21 k22 ?_
      exact r_vret dJ48_siftUpUsingComparator_47 rfl H
theorem c_J48_siftUpUsingComparator_c10_0 {g : PG} {d : Nat} {l0 : Int32} {l1 : Nat} {l2 : Nat} {l3 : Nat} {h : PH} {Q : Out → PH → Prop} (H : w_J48_siftUpUsingComparator_c10_0 g d l0 l1 l2 l3 h Q) : C g (d + 1) m_J48_siftUpUsingComparator [.int l0, .ref l1, .ref l2, .ref l3] h Q := C_of_R rfl rfl (Nat.le_of_ble_eq_true rfl) rfl (v_J48_siftUpUsingComparator_c10_0 H)
abbrev w_J48_siftUpUsingComparator_c11_0 (g : PG) (d : Nat) (l0 : Int32) (l1 : Nat) (l2 : Nat) (l3 : Nat) (h : PH) (Q : Out → PH → Prop) : Prop := ((l0 ≤ 0) → hkd h l2 / 100 = 6 ∧ hkd h l2 % 100 < 50 ∧ vp_in l0 (hln h l2) ∧ okA h l1 "java/lang/Object" ∧ ∀ h6, h6 = setB l2 l0.toNatClampNeg l1 h → Q (.inl none) h6) ∧ ((¬ l0 ≤ 0) → hkd h l2 / 100 = 6 ∧ vp_in (iushr9 (l0 - (1 : Int32)) (1 : Int32)) (hln h l2) ∧ hkd h l3 = 11 ∧ C g d m_X10_compare [.ref l3, .ref l1, .ref (hB h l2 (iushr9 (l0 - (1 : Int32)) (1 : Int32)).toNatClampNeg)] h (oI (fun v11 h10 => ((v11 < 0) → hkd h10 l2 / 100 = 6 ∧ hkd h10 l2 % 100 < 50 ∧ vp_in l0 (hln h10 l2) ∧ okA h10 (hB h l2 (iushr9 (l0 - (1 : Int32)) (1 : Int32)).toNatClampNeg) "java/lang/Object" ∧ ∀ h18, h18 = setB l2 l0.toNatClampNeg (hB h l2 (iushr9 (l0 - (1 : Int32)) (1 : Int32)).toNatClampNeg) h10 → R g d m_J48_siftUpUsingComparator 0 [.int (iushr9 (l0 - (1 : Int32)) (1 : Int32)), .ref l1, .ref l2, .ref l3, .null, .null] [] h18 Q) ∧ ((¬ v11 < 0) → hkd h10 l2 / 100 = 6 ∧ hkd h10 l2 % 100 < 50 ∧ vp_in l0 (hln h10 l2) ∧ okA h10 l1 "java/lang/Object" ∧ ∀ h23, h23 = setB l2 l0.toNatClampNeg l1 h10 → Q (.inl none) h23)) (fun r hx => Q (.inr r) hx)))
theorem v_J48_siftUpUsingComparator_c11_0 {g : PG} {d : Nat} {l0 : Int32} {l1 : Nat} {l2 : Nat} {l3 : Nat} {h : PH} {Q : Out → PH → Prop} (H : w_J48_siftUpUsingComparator_c11_0 g d l0 l1 l2 l3 h Q) : R g d m_J48_siftUpUsingComparator 0 [.int l0, .ref l1, .ref l2, .ref l3, .null, .null] [] h Q := by
  refine r_iload_n dJ48_siftUpUsingComparator_0 rfl rfl ?_
  refine r_if_le (tgt := 43) dJ48_siftUpUsingComparator_1 rfl (fun b1 => ?_) (fun b1 => ?_)
  · replace H := H.1 b1
    refine r_aload_n dJ48_siftUpUsingComparator_43 rfl rfl ?_
    refine r_iload_n dJ48_siftUpUsingComparator_44 rfl rfl ?_
    refine r_aload_n dJ48_siftUpUsingComparator_45 rfl rfl ?_
    obtain ⟨k2, H⟩ := H
    obtain ⟨k3, H⟩ := H
    obtain ⟨k4, H⟩ := H
    obtain ⟨k5, H⟩ := H
    replace H := H _ rfl
    refine r_aastO dJ48_siftUpUsingComparator_46 (m := 6) (by decide) rfl k2 k3 k4 k5 ?_
    exact r_vret dJ48_siftUpUsingComparator_47 rfl H
  · replace H := H.2 b1
    refine r_iload_n dJ48_siftUpUsingComparator_4 rfl rfl ?_
    refine r_iconst dJ48_siftUpUsingComparator_5 rfl ?_
    refine r_isub dJ48_siftUpUsingComparator_6 ?_
    refine r_iconst dJ48_siftUpUsingComparator_7 rfl ?_
    refine r_iushr dJ48_siftUpUsingComparator_8 rfl ?_
    refine r_istore dJ48_siftUpUsingComparator_9 (Nat.le_of_ble_eq_true rfl) rfl (slS (slS (slS (slS sl0)))) ?_
    refine r_aload_n dJ48_siftUpUsingComparator_11 rfl rfl ?_
    refine r_iload dJ48_siftUpUsingComparator_12 rfl ?_
    obtain ⟨k7, H⟩ := H
    obtain ⟨k8, H⟩ := H
    refine r_aald dJ48_siftUpUsingComparator_14 (m := 6) (by decide) k7 k8 ?_
    refine r_astore dJ48_siftUpUsingComparator_15 (Nat.le_of_ble_eq_true rfl) rfl (slS (slS (slS (slS (slS sl0))))) ?_
    refine r_aload_n dJ48_siftUpUsingComparator_17 rfl rfl ?_
    refine r_aload_n dJ48_siftUpUsingComparator_18 rfl rfl ?_
    refine r_aload dJ48_siftUpUsingComparator_19 rfl ?_
    obtain ⟨k9, H⟩ := H
    refine r_invF (y := m_X10_compare) (Cn := "SnowRelay$ByMass") (x := ⟨"java/util/Comparator", "compare", "(Ljava/lang/Object;Ljava/lang/Object;)I"⟩) dJ48_siftUpUsingComparator_21 rfl (lw_F q2815 q1324 q1326 q170 q1328) fw_t13 (n := 2) (by decide +kernel) (Nat.le_of_ble_eq_true rfl) (args := [_, _]) rfl rfl (Nat.le_of_ble_eq_true rfl) k9 (by decide) rfl (C.monoE H (fun o h10 _ x12 K => cont_I K (fun v11 H => ?_) (fun r HX => XR_nc rfl HX)))
    refine r_if_lt (tgt := 32) dJ48_siftUpUsingComparator_26 rfl (fun b13 => ?_) (fun b13 => ?_)
    · replace H := H.1 b13
      refine r_aload_n dJ48_siftUpUsingComparator_32 rfl rfl ?_
      refine r_iload_n dJ48_siftUpUsingComparator_33 rfl rfl ?_
      refine r_aload dJ48_siftUpUsingComparator_34 rfl ?_
      obtain ⟨k14, H⟩ := H
      obtain ⟨k15, H⟩ := H
      obtain ⟨k16, H⟩ := H
      obtain ⟨k17, H⟩ := H
      replace H := H _ rfl
      refine r_aastO dJ48_siftUpUsingComparator_36 (m := 6) (by decide) rfl k14 k15 k16 k17 ?_
      refine r_iload dJ48_siftUpUsingComparator_37 rfl ?_
      refine r_istore_n dJ48_siftUpUsingComparator_39 rfl (Nat.le_of_ble_eq_true rfl) rfl sl0 ?_
      refine r_goto (tgt := 0) dJ48_siftUpUsingComparator_40 rfl ?_
      exact R.forget H ⟨Or.inl rfl, ⟨Or.inl rfl, ⟨Or.inl rfl, ⟨Or.inl rfl, ⟨Or.inr rfl, ⟨Or.inr rfl, trivial⟩⟩⟩⟩⟩⟩
    · replace H := H.2 b13
      refine r_goto (tgt := 43) dJ48_siftUpUsingComparator_29 rfl ?_
      refine r_aload_n dJ48_siftUpUsingComparator_43 rfl rfl ?_
      refine r_iload_n dJ48_siftUpUsingComparator_44 rfl rfl ?_
      refine r_aload_n dJ48_siftUpUsingComparator_45 rfl rfl ?_
      obtain ⟨k19, H⟩ := H
      obtain ⟨k20, H⟩ := H
      obtain ⟨k21, H⟩ := H
      obtain ⟨k22, H⟩ := H
      replace H := H _ rfl
      refine r_aastO dJ48_siftUpUsingComparator_46 (m := 6) (by decide) rfl k19 k20 k21 k22 ?_
      exact r_vret dJ48_siftUpUsingComparator_47 rfl H
theorem c_J48_siftUpUsingComparator_c11_0 {g : PG} {d : Nat} {l0 : Int32} {l1 : Nat} {l2 : Nat} {l3 : Nat} {h : PH} {Q : Out → PH → Prop} (H : w_J48_siftUpUsingComparator_c11_0 g d l0 l1 l2 l3 h Q) : C g (d + 1) m_J48_siftUpUsingComparator [.int l0, .ref l1, .ref l2, .ref l3] h Q := C_of_R rfl rfl (Nat.le_of_ble_eq_true rfl) rfl (v_J48_siftUpUsingComparator_c11_0 H)
abbrev w_J48_siftUpComparable_5 (g : PG) (d : Nat) (l0 : Int32) (l2 : Nat) (l3 : Nat) (h : PH) (Q : Out → PH → Prop) : Prop := ((l0 ≤ 0) → hkd h l2 / 100 = 6 ∧ hkd h l2 % 100 < 50 ∧ vp_in l0 (hln h l2) ∧ okA h l3 "java/lang/Object" ∧ ∀ h6, h6 = setB l2 l0.toNatClampNeg l3 h → Q (.inl none) h6) ∧ ((¬ l0 ≤ 0) → hkd h l2 / 100 = 6 ∧ vp_in (iushr9 (l0 - (1 : Int32)) (1 : Int32)) (hln h l2) ∧ ko h l3 30 ∧ C g d m_J26_compareTo [.ref l3, .ref (hB h l2 (iushr9 (l0 - (1 : Int32)) (1 : Int32)).toNatClampNeg)] h (oI (fun v12 h11 => ((v12 < 0) → hkd h11 l2 / 100 = 6 ∧ hkd h11 l2 % 100 < 50 ∧ vp_in l0 (hln h11 l2) ∧ okA h11 (hB h l2 (iushr9 (l0 - (1 : Int32)) (1 : Int32)).toNatClampNeg) "java/lang/Object" ∧ ∀ h19, h19 = setB l2 l0.toNatClampNeg (hB h l2 (iushr9 (l0 - (1 : Int32)) (1 : Int32)).toNatClampNeg) h11 → R g d m_J48_siftUpComparable 5 [.int (iushr9 (l0 - (1 : Int32)) (1 : Int32)), .null, .ref l2, .ref l3, .null, .null] [] h19 Q) ∧ ((¬ v12 < 0) → hkd h11 l2 / 100 = 6 ∧ hkd h11 l2 % 100 < 50 ∧ vp_in l0 (hln h11 l2) ∧ okA h11 l3 "java/lang/Object" ∧ ∀ h24, h24 = setB l2 l0.toNatClampNeg l3 h11 → Q (.inl none) h24)) (fun r hx => Q (.inr r) hx)))
theorem v_J48_siftUpComparable_5 {g : PG} {d : Nat} {l0 : Int32} {l2 : Nat} {l3 : Nat} {h : PH} {Q : Out → PH → Prop} (H : w_J48_siftUpComparable_5 g d l0 l2 l3 h Q) : R g d m_J48_siftUpComparable 5 [.int l0, .null, .ref l2, .ref l3, .null, .null] [] h Q := by
  refine r_iload_n dJ48_siftUpComparable_5 rfl rfl ?_
  refine r_if_le (tgt := 47) dJ48_siftUpComparable_6 rfl (fun b1 => ?_) (fun b1 => ?_)
  · replace H := H.1 b1
    refine r_aload_n dJ48_siftUpComparable_47 rfl rfl ?_
    refine r_iload_n dJ48_siftUpComparable_48 rfl rfl ?_
    refine r_aload_n dJ48_siftUpComparable_49 rfl rfl ?_
    obtain ⟨k2, H⟩ := H
    obtain ⟨k3, H⟩ := H
    obtain ⟨k4, H⟩ := H
    obtain ⟨k5, H⟩ := H
    replace H := H _ rfl
    refine r_aastO dJ48_siftUpComparable_50 (m := 6) (by decide) rfl k2 k3 k4 k5 ?_
    exact r_vret dJ48_siftUpComparable_51 rfl H
  · replace H := H.2 b1
    refine r_iload_n dJ48_siftUpComparable_9 rfl rfl ?_
    refine r_iconst dJ48_siftUpComparable_10 rfl ?_
    refine r_isub dJ48_siftUpComparable_11 ?_
    refine r_iconst dJ48_siftUpComparable_12 rfl ?_
    refine r_iushr dJ48_siftUpComparable_13 rfl ?_
    refine r_istore dJ48_siftUpComparable_14 (Nat.le_of_ble_eq_true rfl) rfl (slS (slS (slS (slS sl0)))) ?_
    refine r_aload_n dJ48_siftUpComparable_16 rfl rfl ?_
    refine r_iload dJ48_siftUpComparable_17 rfl ?_
    obtain ⟨k7, H⟩ := H
    obtain ⟨k8, H⟩ := H
    refine r_aald dJ48_siftUpComparable_19 (m := 6) (by decide) k7 k8 ?_
    refine r_astore dJ48_siftUpComparable_20 (Nat.le_of_ble_eq_true rfl) rfl (slS (slS (slS (slS (slS sl0))))) ?_
    refine r_aload_n dJ48_siftUpComparable_22 rfl rfl ?_
    refine r_aload dJ48_siftUpComparable_23 rfl ?_
    obtain ⟨k9, H⟩ := H
    obtain ⟨_, k10, k10a, k10b⟩ := ko_use (by decide) k9
    refine r_invF (y := m_J26_compareTo) (Cn := "java/lang/Integer") (x := ⟨"java/lang/Comparable", "compareTo", "(Ljava/lang/Object;)I"⟩) dJ48_siftUpComparable_25 rfl (lw_F q2821 q1344 q1346 q139 q1348) fw_t14 (n := 1) (by decide +kernel) (Nat.le_of_ble_eq_true rfl) (args := [_]) rfl rfl (Nat.le_of_ble_eq_true rfl) k10 k10a (k10b.trans rfl) (C.monoE H (fun o h11 _ x13 K => cont_I K (fun v12 H => ?_) (fun r HX => XR_nc rfl HX)))
    refine r_if_lt (tgt := 36) dJ48_siftUpComparable_30 rfl (fun b14 => ?_) (fun b14 => ?_)
    · replace H := H.1 b14
      refine r_aload_n dJ48_siftUpComparable_36 rfl rfl ?_
      refine r_iload_n dJ48_siftUpComparable_37 rfl rfl ?_
      refine r_aload dJ48_siftUpComparable_38 rfl ?_
      obtain ⟨k15, H⟩ := H
      obtain ⟨k16, H⟩ := H
      obtain ⟨k17, H⟩ := H
      obtain ⟨k18, H⟩ := H
      replace H := H _ rfl
      refine r_aastO dJ48_siftUpComparable_40 (m := 6) (by decide) rfl k15 k16 k17 k18 ?_
      refine r_iload dJ48_siftUpComparable_41 rfl ?_
      refine r_istore_n dJ48_siftUpComparable_43 rfl (Nat.le_of_ble_eq_true rfl) rfl sl0 ?_
      refine r_goto (tgt := 5) dJ48_siftUpComparable_44 rfl ?_
      exact R.forget H ⟨Or.inl rfl, ⟨Or.inl rfl, ⟨Or.inl rfl, ⟨Or.inl rfl, ⟨Or.inr rfl, ⟨Or.inr rfl, trivial⟩⟩⟩⟩⟩⟩
    · replace H := H.2 b14
      refine r_goto (tgt := 47) dJ48_siftUpComparable_33 rfl ?_
      refine r_aload_n dJ48_siftUpComparable_47 rfl rfl ?_
      refine r_iload_n dJ48_siftUpComparable_48 rfl rfl ?_
      refine r_aload_n dJ48_siftUpComparable_49 rfl rfl ?_
      obtain ⟨k20, H⟩ := H
      obtain ⟨k21, H⟩ := H
      obtain ⟨k22, H⟩ := H
      obtain ⟨k23, H⟩ := H
      replace H := H _ rfl
      refine r_aastO dJ48_siftUpComparable_50 (m := 6) (by decide) rfl k20 k21 k22 k23 ?_
      exact r_vret dJ48_siftUpComparable_51 rfl H
abbrev w_J48_siftUpComparable_0 (g : PG) (d : Nat) (l0 : Int32) (l1 : Nat) (l2 : Nat) (h : PH) (Q : Out → PH → Prop) : Prop := (l1 = 0 ∨ ko h l1 30) ∧ R g d m_J48_siftUpComparable 5 [.int l0, .null, .ref l2, .ref l1, .null, .null] [] h Q
theorem v_J48_siftUpComparable_0 {g : PG} {d : Nat} {l0 : Int32} {l1 : Nat} {l2 : Nat} {h : PH} {Q : Out → PH → Prop} (H : w_J48_siftUpComparable_0 g d l0 l1 l2 h Q) : R g d m_J48_siftUpComparable 0 [.int l0, .ref l1, .ref l2, .null, .null, .null] [] h Q := by
  refine r_aload_n dJ48_siftUpComparable_0 rfl rfl ?_
  obtain ⟨k1, H⟩ := H
  refine r_castOc (kv := 30) dJ48_siftUpComparable_1 q2819 (by decide) (Or.inl q1343) k1 ?_
  refine r_astore_n dJ48_siftUpComparable_4 rfl (Nat.le_of_ble_eq_true rfl) rfl (slS (slS (slS sl0))) ?_
  exact R.forget H ⟨Or.inl rfl, ⟨Or.inr rfl, ⟨Or.inl rfl, ⟨Or.inl rfl, ⟨Or.inl rfl, ⟨Or.inl rfl, trivial⟩⟩⟩⟩⟩⟩
theorem c_J48_siftUpComparable_0 {g : PG} {d : Nat} {l0 : Int32} {l1 : Nat} {l2 : Nat} {h : PH} {Q : Out → PH → Prop} (H : w_J48_siftUpComparable_0 g d l0 l1 l2 h Q) : C g (d + 1) m_J48_siftUpComparable [.int l0, .ref l1, .ref l2] h Q := C_of_R rfl rfl (Nat.le_of_ble_eq_true rfl) rfl (v_J48_siftUpComparable_0 H)
abbrev w_J48_peek_0 (g : PG) (d : Nat) (l0 : Nat) (h : PH) (Q : Out → PH → Prop) : Prop := hkd h l0 = 27 ∧ hkd h (hG h 560 l0) / 100 = 6 ∧ vp_in (0 : Int32) (hln h (hG h 560 l0)) ∧ Q (.inl (some (.ref (hB h (hG h 560 l0) (0 : Int32).toNatClampNeg)))) h
theorem v_J48_peek_0 {g : PG} {d : Nat} {l0 : Nat} {h : PH} {Q : Out → PH → Prop} (H : w_J48_peek_0 g d l0 h Q) : R g d m_J48_peek 0 [.ref l0] [] h Q := by
  refine r_aload_n dJ48_peek_0 rfl rfl ?_
  obtain ⟨k1, H⟩ := H
  refine r_getG fr_J48_17_27 (by decide) dJ48_peek_1 k1 (by decide) ?_
  refine r_iconst dJ48_peek_4 rfl ?_
  obtain ⟨k2, H⟩ := H
  obtain ⟨k3, H⟩ := H
  refine r_aald dJ48_peek_5 (m := 6) (by decide) k2 k3 ?_
  exact r_aret dJ48_peek_6 rfl H
theorem c_J48_peek_0 {g : PG} {d : Nat} {l0 : Nat} {h : PH} {Q : Out → PH → Prop} (H : w_J48_peek_0 g d l0 h Q) : C g (d + 1) m_J48_peek [.ref l0] h Q := C_of_R rfl rfl (Nat.le_of_ble_eq_true rfl) rfl (v_J48_peek_0 H)
abbrev w_J48_poll_0 (g : PG) (d : Nat) (l0 : Nat) (h : PH) (Q : Out → PH → Prop) : Prop := hkd h l0 = 27 ∧ hkd h (hG h 560 l0) / 100 = 6 ∧ vp_in (0 : Int32) (hln h (hG h 560 l0)) ∧ (((hB h (hG h 560 l0) (0 : Int32).toNatClampNeg) = 0) → Q (.inl (some (.ref (hB h (hG h 560 l0) (0 : Int32).toNatClampNeg)))) h) ∧ ((¬ (hB h (hG h 560 l0) (0 : Int32).toNatClampNeg) = 0) → ∀ h5, h5 = setF 49 l0 ((hF h 49 l0) + (1 : Int32)) h → ∀ h6, h6 = setF 48 l0 ((hF h5 48 l0) - (1 : Int32)) h5 → hkd h6 (hG h 560 l0) / 100 = 6 ∧ vp_in ((hF h5 48 l0) - (1 : Int32)) (hln h6 (hG h 560 l0)) ∧ hkd h6 (hG h 560 l0) % 100 < 50 ∧ ∀ h13, h13 = setB (hG h 560 l0) ((hF h5 48 l0) - (1 : Int32)).toNatClampNeg (0 : Nat) h6 → ((((hF h5 48 l0) - (1 : Int32)) ≤ 0) → Q (.inl (some (.ref (hB h (hG h 560 l0) (0 : Int32).toNatClampNeg)))) h13) ∧ ((¬ ((hF h5 48 l0) - (1 : Int32)) ≤ 0) → ((¬ (hG h13 561 l0) = 0) → C g d m_J48_siftDownUsingComparator [.int 0, .ref (hB h6 (hG h 560 l0) ((hF h5 48 l0) - (1 : Int32)).toNatClampNeg), .ref (hG h 560 l0), .int ((hF h5 48 l0) - (1 : Int32)), .ref (hG h13 561 l0)] h13 (oV (fun h16 => Q (.inl (some (.ref (hB h (hG h 560 l0) (0 : Int32).toNatClampNeg)))) h16) (fun r hx => Q (.inr r) hx))) ∧ (((hG h13 561 l0) = 0) → C g d m_J48_siftDownComparable [.int 0, .ref (hB h6 (hG h 560 l0) ((hF h5 48 l0) - (1 : Int32)).toNatClampNeg), .ref (hG h 560 l0), .int ((hF h5 48 l0) - (1 : Int32))] h13 (oV (fun h19 => Q (.inl (some (.ref (hB h (hG h 560 l0) (0 : Int32).toNatClampNeg)))) h19) (fun r hx => Q (.inr r) hx)))))
theorem v_J48_poll_0 {g : PG} {d : Nat} {l0 : Nat} {h : PH} {Q : Out → PH → Prop} (H : w_J48_poll_0 g d l0 h Q) : R g d m_J48_poll 0 [.ref l0, .null, .null, .null, .null, .null] [] h Q := by
  refine r_aload_n dJ48_poll_0 rfl rfl ?_
  obtain ⟨k1, H⟩ := H
  refine r_getG fr_J48_17_27 (by decide) dJ48_poll_1 k1 (by decide) ?_
  refine r_dup dJ48_poll_4 rfl ?_
  refine r_astore_n dJ48_poll_5 rfl (Nat.le_of_ble_eq_true rfl) rfl (slS sl0) ?_
  refine r_iconst dJ48_poll_6 rfl ?_
  obtain ⟨k2, H⟩ := H
  obtain ⟨k3, H⟩ := H
  refine r_aald dJ48_poll_7 (m := 6) (by decide) k2 k3 ?_
  refine r_dup dJ48_poll_8 rfl ?_
  refine r_astore_n dJ48_poll_9 rfl (Nat.le_of_ble_eq_true rfl) rfl (slS (slS sl0)) ?_
  refine r_ifnull (tgt := 79) dJ48_poll_10 rfl (fun b4 => ?_) (fun b4 => ?_)
  · replace H := H.1 b4
    refine r_aload_n dJ48_poll_79 rfl rfl ?_
    exact r_aret dJ48_poll_80 rfl H
  · replace H := H.2 b4
    refine r_aload_n dJ48_poll_13 rfl rfl ?_
    refine r_dup dJ48_poll_14 rfl ?_
    refine r_getF fr_J48_93_27 (by decide) dJ48_poll_15 k1 (by decide) ?_
    refine r_iconst dJ48_poll_18 rfl ?_
    refine r_iadd dJ48_poll_19 ?_
    replace H := H _ rfl
    refine r_putF fw_J48_93_27 (by decide) dJ48_poll_20 k1 (by decide) rfl rfl ?_
    refine r_aload_n dJ48_poll_23 rfl rfl ?_
    refine r_aload_n dJ48_poll_24 rfl rfl ?_
    refine r_dup dJ48_poll_25 rfl ?_
    refine r_getF fr_J48_58_27 (by decide) dJ48_poll_26 k1 (by decide) ?_
    refine r_iconst dJ48_poll_29 rfl ?_
    refine r_isub dJ48_poll_30 ?_
    refine r_dup_x1 dJ48_poll_31 rfl rfl ?_
    replace H := H _ rfl
    refine r_putF fw_J48_58_27 (by decide) dJ48_poll_32 k1 (by decide) rfl rfl ?_
    refine r_dup dJ48_poll_35 rfl ?_
    refine r_istore_n dJ48_poll_36 rfl (Nat.le_of_ble_eq_true rfl) rfl (slS (slS (slS sl0))) ?_
    obtain ⟨k7, H⟩ := H
    obtain ⟨k8, H⟩ := H
    refine r_aald dJ48_poll_37 (m := 6) (by decide) k7 k8 ?_
    refine r_astore dJ48_poll_38 (Nat.le_of_ble_eq_true rfl) rfl (slS (slS (slS (slS sl0)))) ?_
    refine r_aload_n dJ48_poll_40 rfl rfl ?_
    refine r_iload_n dJ48_poll_41 rfl rfl ?_
    refine r_null dJ48_poll_42 ?_
    obtain ⟨k10, H⟩ := H
    replace H := H _ rfl
    refine r_aastN dJ48_poll_43 (m := 6) (by decide) k7 k10 k8 ?_
    refine r_iload_n dJ48_poll_44 rfl rfl ?_
    refine r_if_le (tgt := 79) dJ48_poll_45 rfl (fun b14 => ?_) (fun b14 => ?_)
    · replace H := H.1 b14
      refine r_aload_n dJ48_poll_79 rfl rfl ?_
      exact r_aret dJ48_poll_80 rfl H
    · replace H := H.2 b14
      refine r_aload_n dJ48_poll_48 rfl rfl ?_
      refine r_getG fr_J48_21_27 (by decide) dJ48_poll_49 k1 (by decide) ?_
      refine r_dup dJ48_poll_52 rfl ?_
      refine r_astore dJ48_poll_53 (Nat.le_of_ble_eq_true rfl) rfl (slS (slS (slS (slS (slS sl0))))) ?_
      refine r_ifnonnull (tgt := 69) dJ48_poll_55 rfl (fun b15 => ?_) (fun b15 => ?_)
      · replace H := H.1 b15
        refine r_iconst dJ48_poll_69 rfl ?_
        refine r_aload dJ48_poll_70 rfl ?_
        refine r_aload_n dJ48_poll_72 rfl rfl ?_
        refine r_iload_n dJ48_poll_73 rfl rfl ?_
        refine r_aload dJ48_poll_74 rfl ?_
        refine r_invS (y := m_J48_siftDownUsingComparator) dJ48_poll_76 rfl (lw_S q2890 q2891 q167 q2892) py_J48_siftDownUsingComparator (Nat.le_of_ble_eq_true rfl) (args := [_, _, _, _, _]) rfl rfl (Nat.le_of_ble_eq_true rfl) (C.monoE H (fun o h16 _ x18 K => cont_V K (fun H => ?_) (fun r HX => XR_nc rfl HX)))
        refine r_aload_n dJ48_poll_79 rfl rfl ?_
        exact r_aret dJ48_poll_80 rfl H
      · replace H := H.2 b15
        refine r_iconst dJ48_poll_58 rfl ?_
        refine r_aload dJ48_poll_59 rfl ?_
        refine r_aload_n dJ48_poll_61 rfl rfl ?_
        refine r_iload_n dJ48_poll_62 rfl rfl ?_
        refine r_invS (y := m_J48_siftDownComparable) dJ48_poll_63 rfl (lw_S q2887 q2888 q167 q2889) py_J48_siftDownComparable (Nat.le_of_ble_eq_true rfl) (args := [_, _, _, _]) rfl rfl (Nat.le_of_ble_eq_true rfl) (C.monoE H (fun o h19 _ x21 K => cont_V K (fun H => ?_) (fun r HX => XR_nc rfl HX)))
        refine r_goto (tgt := 79) dJ48_poll_66 rfl ?_
        refine r_aload_n dJ48_poll_79 rfl rfl ?_
        exact r_aret dJ48_poll_80 rfl H
theorem c_J48_poll_0 {g : PG} {d : Nat} {l0 : Nat} {h : PH} {Q : Out → PH → Prop} (H : w_J48_poll_0 g d l0 h Q) : C g (d + 1) m_J48_poll [.ref l0] h Q := C_of_R rfl rfl (Nat.le_of_ble_eq_true rfl) rfl (v_J48_poll_0 H)
abbrev w_J48_siftDownComparable_68 (g : PG) (d : Nat) (l0 : Int32) (l2 : Nat) (l3 : Int32) (l4 : Nat) (l5 : Int32) (l6 : Int32) (l7 : Nat) (h : PH) (Q : Out → PH → Prop) : Prop := ko h l4 30 ∧ C g d m_J26_compareTo [.ref l4, .ref l7] h (oI (fun v4 h3 => ((0 < v4) → hkd h3 l2 / 100 = 6 ∧ hkd h3 l2 % 100 < 50 ∧ vp_in l0 (hln h3 l2) ∧ okA h3 l7 "java/lang/Object" ∧ ∀ h11, h11 = setB l2 l0.toNatClampNeg l7 h3 → R g d m_J48_siftDownComparable 11 [.int l6, .null, .ref l2, .int l3, .ref l4, .int l5, .null, .null, .null] [] h11 Q) ∧ ((¬ 0 < v4) → hkd h3 l2 / 100 = 6 ∧ hkd h3 l2 % 100 < 50 ∧ vp_in l0 (hln h3 l2) ∧ okA h3 l4 "java/lang/Object" ∧ ∀ h16, h16 = setB l2 l0.toNatClampNeg l4 h3 → Q (.inl none) h16)) (fun r hx => Q (.inr r) hx))
theorem v_J48_siftDownComparable_68 {g : PG} {d : Nat} {l0 : Int32} {l2 : Nat} {l3 : Int32} {l4 : Nat} {l5 : Int32} {l6 : Int32} {l7 : Nat} {h : PH} {Q : Out → PH → Prop} (H : w_J48_siftDownComparable_68 g d l0 l2 l3 l4 l5 l6 l7 h Q) : R g d m_J48_siftDownComparable 68 [.int l0, .null, .ref l2, .int l3, .ref l4, .int l5, .int l6, .ref l7, .null] [] h Q := by
  refine r_aload dJ48_siftDownComparable_68 rfl ?_
  refine r_aload dJ48_siftDownComparable_70 rfl ?_
  obtain ⟨k1, H⟩ := H
  obtain ⟨_, k2, k2a, k2b⟩ := ko_use (by decide) k1
  refine r_invF (y := m_J26_compareTo) (Cn := "java/lang/Integer") (x := ⟨"java/lang/Comparable", "compareTo", "(Ljava/lang/Object;)I"⟩) dJ48_siftDownComparable_72 rfl (lw_F q2821 q1344 q1346 q139 q1348) fw_t14 (n := 1) (by decide +kernel) (Nat.le_of_ble_eq_true rfl) (args := [_]) rfl rfl (Nat.le_of_ble_eq_true rfl) k2 k2a (k2b.trans rfl) (C.monoE H (fun o h3 _ x5 K => cont_I K (fun v4 H => ?_) (fun r HX => XR_nc rfl HX)))
  refine r_if_gt (tgt := 83) dJ48_siftDownComparable_77 rfl (fun b6 => ?_) (fun b6 => ?_)
  · replace H := H.1 b6
    refine r_aload_n dJ48_siftDownComparable_83 rfl rfl ?_
    refine r_iload_n dJ48_siftDownComparable_84 rfl rfl ?_
    refine r_aload dJ48_siftDownComparable_85 rfl ?_
    obtain ⟨k7, H⟩ := H
    obtain ⟨k8, H⟩ := H
    obtain ⟨k9, H⟩ := H
    obtain ⟨k10, H⟩ := H
    replace H := H _ rfl
    refine r_aastO dJ48_siftDownComparable_87 (m := 6) (by decide) rfl k7 k8 k9 k10 ?_
    refine r_iload dJ48_siftDownComparable_88 rfl ?_
    refine r_istore_n dJ48_siftDownComparable_90 rfl (Nat.le_of_ble_eq_true rfl) rfl sl0 ?_
    refine r_goto (tgt := 11) dJ48_siftDownComparable_91 rfl ?_
    exact R.forget H ⟨Or.inl rfl, ⟨Or.inl rfl, ⟨Or.inl rfl, ⟨Or.inl rfl, ⟨Or.inl rfl, ⟨Or.inl rfl, ⟨Or.inr rfl, ⟨Or.inr rfl, ⟨Or.inl rfl, trivial⟩⟩⟩⟩⟩⟩⟩⟩⟩
  · replace H := H.2 b6
    refine r_goto (tgt := 94) dJ48_siftDownComparable_80 rfl ?_
    refine r_aload_n dJ48_siftDownComparable_94 rfl rfl ?_
    refine r_iload_n dJ48_siftDownComparable_95 rfl rfl ?_
    refine r_aload dJ48_siftDownComparable_96 rfl ?_
    obtain ⟨k12, H⟩ := H
    obtain ⟨k13, H⟩ := H
    obtain ⟨k14, H⟩ := H
    obtain ⟨k15, H⟩ := H
    replace H := H _ rfl
    refine r_aastO dJ48_siftDownComparable_98 (m := 6) (by decide) rfl k12 k13 k14 k15 ?_
    exact r_vret dJ48_siftDownComparable_99 rfl H
abbrev w_J48_siftDownComparable_11 (g : PG) (d : Nat) (l0 : Int32) (l2 : Nat) (l3 : Int32) (l4 : Nat) (l5 : Int32) (h : PH) (Q : Out → PH → Prop) : Prop := ((l5 ≤ l0) → hkd h l2 / 100 = 6 ∧ hkd h l2 % 100 < 50 ∧ vp_in l0 (hln h l2) ∧ okA h l4 "java/lang/Object" ∧ ∀ h6, h6 = setB l2 l0.toNatClampNeg l4 h → Q (.inl none) h6) ∧ ((¬ l5 ≤ l0) → hkd h l2 / 100 = 6 ∧ vp_in ((l0 <<< ((1 : Int32) &&& 31)) + (1 : Int32)) (hln h l2) ∧ ((l3 ≤ (((l0 <<< ((1 : Int32) &&& 31)) + (1 : Int32)) + (1 : Int32))) → w_J48_siftDownComparable_68 g d l0 l2 l3 l4 l5 ((l0 <<< ((1 : Int32) &&& 31)) + (1 : Int32)) (hB h l2 ((l0 <<< ((1 : Int32) &&& 31)) + (1 : Int32)).toNatClampNeg) h Q) ∧ ((¬ l3 ≤ (((l0 <<< ((1 : Int32) &&& 31)) + (1 : Int32)) + (1 : Int32))) → ((hB h l2 ((l0 <<< ((1 : Int32) &&& 31)) + (1 : Int32)).toNatClampNeg) = 0 ∨ ko h (hB h l2 ((l0 <<< ((1 : Int32) &&& 31)) + (1 : Int32)).toNatClampNeg) 30) ∧ vp_in (((l0 <<< ((1 : Int32) &&& 31)) + (1 : Int32)) + (1 : Int32)) (hln h l2) ∧ ko h (hB h l2 ((l0 <<< ((1 : Int32) &&& 31)) + (1 : Int32)).toNatClampNeg) 30 ∧ C g d m_J26_compareTo [.ref (hB h l2 ((l0 <<< ((1 : Int32) &&& 31)) + (1 : Int32)).toNatClampNeg), .ref (hB h l2 (((l0 <<< ((1 : Int32) &&& 31)) + (1 : Int32)) + (1 : Int32)).toNatClampNeg)] h (oI (fun v16 h15 => ((v16 ≤ 0) → w_J48_siftDownComparable_68 g d l0 l2 l3 l4 l5 ((l0 <<< ((1 : Int32) &&& 31)) + (1 : Int32)) (hB h l2 ((l0 <<< ((1 : Int32) &&& 31)) + (1 : Int32)).toNatClampNeg) h15 Q) ∧ ((¬ v16 ≤ 0) → hkd h15 l2 / 100 = 6 ∧ vp_in (((l0 <<< ((1 : Int32) &&& 31)) + (1 : Int32)) + (1 : Int32)) (hln h15 l2) ∧ w_J48_siftDownComparable_68 g d l0 l2 l3 l4 l5 (((l0 <<< ((1 : Int32) &&& 31)) + (1 : Int32)) + (1 : Int32)) (hB h15 l2 (((l0 <<< ((1 : Int32) &&& 31)) + (1 : Int32)) + (1 : Int32)).toNatClampNeg) h15 Q)) (fun r hx => Q (.inr r) hx))))
theorem v_J48_siftDownComparable_11 {g : PG} {d : Nat} {l0 : Int32} {l2 : Nat} {l3 : Int32} {l4 : Nat} {l5 : Int32} {h : PH} {Q : Out → PH → Prop} (H : w_J48_siftDownComparable_11 g d l0 l2 l3 l4 l5 h Q) : R g d m_J48_siftDownComparable 11 [.int l0, .null, .ref l2, .int l3, .ref l4, .int l5, .null, .null, .null] [] h Q := by
  refine r_iload_n dJ48_siftDownComparable_11 rfl rfl ?_
  refine r_iload dJ48_siftDownComparable_12 rfl ?_
  refine r_icmp_ge (tgt := 94) dJ48_siftDownComparable_14 rfl (fun b1 => ?_) (fun b1 => ?_)
  · replace H := H.1 b1
    refine r_aload_n dJ48_siftDownComparable_94 rfl rfl ?_
    refine r_iload_n dJ48_siftDownComparable_95 rfl rfl ?_
    refine r_aload dJ48_siftDownComparable_96 rfl ?_
    obtain ⟨k2, H⟩ := H
    obtain ⟨k3, H⟩ := H
    obtain ⟨k4, H⟩ := H
    obtain ⟨k5, H⟩ := H
    replace H := H _ rfl
    refine r_aastO dJ48_siftDownComparable_98 (m := 6) (by decide) rfl k2 k3 k4 k5 ?_
    exact r_vret dJ48_siftDownComparable_99 rfl H
  · replace H := H.2 b1
    refine r_iload_n dJ48_siftDownComparable_17 rfl rfl ?_
    refine r_iconst dJ48_siftDownComparable_18 rfl ?_
    refine r_ishl dJ48_siftDownComparable_19 ?_
    refine r_iconst dJ48_siftDownComparable_20 rfl ?_
    refine r_iadd dJ48_siftDownComparable_21 ?_
    refine r_istore dJ48_siftDownComparable_22 (Nat.le_of_ble_eq_true rfl) rfl (slS (slS (slS (slS (slS (slS sl0)))))) ?_
    refine r_aload_n dJ48_siftDownComparable_24 rfl rfl ?_
    refine r_iload dJ48_siftDownComparable_25 rfl ?_
    obtain ⟨k7, H⟩ := H
    obtain ⟨k8, H⟩ := H
    refine r_aald dJ48_siftDownComparable_27 (m := 6) (by decide) k7 k8 ?_
    refine r_astore dJ48_siftDownComparable_28 (Nat.le_of_ble_eq_true rfl) rfl (slS (slS (slS (slS (slS (slS (slS sl0))))))) ?_
    refine r_iload dJ48_siftDownComparable_30 rfl ?_
    refine r_iconst dJ48_siftDownComparable_32 rfl ?_
    refine r_iadd dJ48_siftDownComparable_33 ?_
    refine r_istore dJ48_siftDownComparable_34 (Nat.le_of_ble_eq_true rfl) rfl (slS (slS (slS (slS (slS (slS (slS (slS sl0)))))))) ?_
    refine r_iload dJ48_siftDownComparable_36 rfl ?_
    refine r_iload_n dJ48_siftDownComparable_38 rfl rfl ?_
    refine r_icmp_ge (tgt := 68) dJ48_siftDownComparable_39 rfl (fun b9 => ?_) (fun b9 => ?_)
    · replace H := H.1 b9
      exact R.forget (v_J48_siftDownComparable_68 H) ⟨Or.inl rfl, ⟨Or.inl rfl, ⟨Or.inl rfl, ⟨Or.inl rfl, ⟨Or.inl rfl, ⟨Or.inl rfl, ⟨Or.inl rfl, ⟨Or.inl rfl, ⟨Or.inr rfl, trivial⟩⟩⟩⟩⟩⟩⟩⟩⟩
    · replace H := H.2 b9
      refine r_aload dJ48_siftDownComparable_42 rfl ?_
      obtain ⟨k10, H⟩ := H
      refine r_castOc (kv := 30) dJ48_siftDownComparable_44 q2819 (by decide) (Or.inl q1343) k10 ?_
      refine r_aload_n dJ48_siftDownComparable_47 rfl rfl ?_
      refine r_iload dJ48_siftDownComparable_48 rfl ?_
      obtain ⟨k12, H⟩ := H
      refine r_aald dJ48_siftDownComparable_50 (m := 6) (by decide) k7 k12 ?_
      obtain ⟨k13, H⟩ := H
      obtain ⟨_, k14, k14a, k14b⟩ := ko_use (by decide) k13
      refine r_invF (y := m_J26_compareTo) (Cn := "java/lang/Integer") (x := ⟨"java/lang/Comparable", "compareTo", "(Ljava/lang/Object;)I"⟩) dJ48_siftDownComparable_51 rfl (lw_F q2821 q1344 q1346 q139 q1348) fw_t14 (n := 1) (by decide +kernel) (Nat.le_of_ble_eq_true rfl) (args := [_]) rfl rfl (Nat.le_of_ble_eq_true rfl) k14 k14a (k14b.trans rfl) (C.monoE H (fun o h15 _ x17 K => cont_I K (fun v16 H => ?_) (fun r HX => XR_nc rfl HX)))
      refine r_if_le (tgt := 68) dJ48_siftDownComparable_56 rfl (fun b18 => ?_) (fun b18 => ?_)
      · replace H := H.1 b18
        exact R.forget (v_J48_siftDownComparable_68 H) ⟨Or.inl rfl, ⟨Or.inl rfl, ⟨Or.inl rfl, ⟨Or.inl rfl, ⟨Or.inl rfl, ⟨Or.inl rfl, ⟨Or.inl rfl, ⟨Or.inl rfl, ⟨Or.inr rfl, trivial⟩⟩⟩⟩⟩⟩⟩⟩⟩
      · replace H := H.2 b18
        refine r_aload_n dJ48_siftDownComparable_59 rfl rfl ?_
        refine r_iload dJ48_siftDownComparable_60 rfl ?_
        refine r_dup dJ48_siftDownComparable_62 rfl ?_
        refine r_istore dJ48_siftDownComparable_63 (Nat.le_of_ble_eq_true rfl) rfl (slS (slS (slS (slS (slS (slS sl0)))))) ?_
        obtain ⟨k19, H⟩ := H
        obtain ⟨k20, H⟩ := H
        refine r_aald dJ48_siftDownComparable_65 (m := 6) (by decide) k19 k20 ?_
        refine r_astore dJ48_siftDownComparable_66 (Nat.le_of_ble_eq_true rfl) rfl (slS (slS (slS (slS (slS (slS (slS sl0))))))) ?_
        exact R.forget (v_J48_siftDownComparable_68 H) ⟨Or.inl rfl, ⟨Or.inl rfl, ⟨Or.inl rfl, ⟨Or.inl rfl, ⟨Or.inl rfl, ⟨Or.inl rfl, ⟨Or.inl rfl, ⟨Or.inl rfl, ⟨Or.inr rfl, trivial⟩⟩⟩⟩⟩⟩⟩⟩⟩
abbrev w_J48_siftDownComparable_0 (g : PG) (d : Nat) (l0 : Int32) (l1 : Nat) (l2 : Nat) (l3 : Int32) (h : PH) (Q : Out → PH → Prop) : Prop := (l1 = 0 ∨ ko h l1 30) ∧ R g d m_J48_siftDownComparable 11 [.int l0, .null, .ref l2, .int l3, .ref l1, .int (iushr9 l3 (1 : Int32)), .null, .null, .null] [] h Q
theorem v_J48_siftDownComparable_0 {g : PG} {d : Nat} {l0 : Int32} {l1 : Nat} {l2 : Nat} {l3 : Int32} {h : PH} {Q : Out → PH → Prop} (H : w_J48_siftDownComparable_0 g d l0 l1 l2 l3 h Q) : R g d m_J48_siftDownComparable 0 [.int l0, .ref l1, .ref l2, .int l3, .null, .null, .null, .null, .null] [] h Q := by
  refine r_aload_n dJ48_siftDownComparable_0 rfl rfl ?_
  obtain ⟨k1, H⟩ := H
  refine r_castOc (kv := 30) dJ48_siftDownComparable_1 q2819 (by decide) (Or.inl q1343) k1 ?_
  refine r_astore dJ48_siftDownComparable_4 (Nat.le_of_ble_eq_true rfl) rfl (slS (slS (slS (slS sl0)))) ?_
  refine r_iload_n dJ48_siftDownComparable_6 rfl rfl ?_
  refine r_iconst dJ48_siftDownComparable_7 rfl ?_
  refine r_iushr dJ48_siftDownComparable_8 rfl ?_
  refine r_istore dJ48_siftDownComparable_9 (Nat.le_of_ble_eq_true rfl) rfl (slS (slS (slS (slS (slS sl0))))) ?_
  exact R.forget H ⟨Or.inl rfl, ⟨Or.inr rfl, ⟨Or.inl rfl, ⟨Or.inl rfl, ⟨Or.inl rfl, ⟨Or.inl rfl, ⟨Or.inl rfl, ⟨Or.inl rfl, ⟨Or.inl rfl, trivial⟩⟩⟩⟩⟩⟩⟩⟩⟩
theorem c_J48_siftDownComparable_0 {g : PG} {d : Nat} {l0 : Int32} {l1 : Nat} {l2 : Nat} {l3 : Int32} {h : PH} {Q : Out → PH → Prop} (H : w_J48_siftDownComparable_0 g d l0 l1 l2 l3 h Q) : C g (d + 1) m_J48_siftDownComparable [.int l0, .ref l1, .ref l2, .int l3] h Q := C_of_R rfl rfl (Nat.le_of_ble_eq_true rfl) rfl (v_J48_siftDownComparable_0 H)
abbrev w_J48_siftDownUsingComparator_c10_61 (g : PG) (d : Nat) (l0 : Int32) (l1 : Nat) (l2 : Nat) (l3 : Int32) (l4 : Nat) (l5 : Int32) (l6 : Int32) (l7 : Nat) (h : PH) (Q : Out → PH → Prop) : Prop := hkd h l4 = 10 ∧ C g d m_X9_compare [.ref l4, .ref l1, .ref l7] h (oI (fun v3 h2 => ((0 < v3) → hkd h2 l2 / 100 = 6 ∧ hkd h2 l2 % 100 < 50 ∧ vp_in l0 (hln h2 l2) ∧ okA h2 l7 "java/lang/Object" ∧ ∀ h10, h10 = setB l2 l0.toNatClampNeg l7 h2 → R g d m_J48_siftDownUsingComparator 5 [.int l6, .ref l1, .ref l2, .int l3, .ref l4, .int l5, .null, .null, .null] [] h10 Q) ∧ ((¬ 0 < v3) → hkd h2 l2 / 100 = 6 ∧ hkd h2 l2 % 100 < 50 ∧ vp_in l0 (hln h2 l2) ∧ okA h2 l1 "java/lang/Object" ∧ ∀ h15, h15 = setB l2 l0.toNatClampNeg l1 h2 → Q (.inl none) h15)) (fun r hx => Q (.inr r) hx))
theorem v_J48_siftDownUsingComparator_c10_61 {g : PG} {d : Nat} {l0 : Int32} {l1 : Nat} {l2 : Nat} {l3 : Int32} {l4 : Nat} {l5 : Int32} {l6 : Int32} {l7 : Nat} {h : PH} {Q : Out → PH → Prop} (H : w_J48_siftDownUsingComparator_c10_61 g d l0 l1 l2 l3 l4 l5 l6 l7 h Q) : R g d m_J48_siftDownUsingComparator 61 [.int l0, .ref l1, .ref l2, .int l3, .ref l4, .int l5, .int l6, .ref l7, .null] [] h Q := by
  refine r_aload dJ48_siftDownUsingComparator_61 rfl ?_
  refine r_aload_n dJ48_siftDownUsingComparator_63 rfl rfl ?_
  refine r_aload dJ48_siftDownUsingComparator_64 rfl ?_
  obtain ⟨k1, H⟩ := H
  refine r_invF (y := m_X9_compare) (Cn := "SnowRelay$1") (x := ⟨"java/util/Comparator", "compare", "(Ljava/lang/Object;Ljava/lang/Object;)I"⟩) dJ48_siftDownUsingComparator_66 rfl (lw_F q2815 q1291 q1293 q168 q1295) fw_t12 (n := 2) (by decide +kernel) (Nat.le_of_ble_eq_true rfl) (args := [_, _]) rfl rfl (Nat.le_of_ble_eq_true rfl) k1 (by decide) rfl (C.monoE H (fun o h2 _ x4 K => cont_I K (fun v3 H => ?_) (fun r HX => XR_nc rfl HX)))
  refine r_if_gt (tgt := 77) dJ48_siftDownUsingComparator_71 rfl (fun b5 => ?_) (fun b5 => ?_)
  · replace H := H.1 b5
    refine r_aload_n dJ48_siftDownUsingComparator_77 rfl rfl ?_
    refine r_iload_n dJ48_siftDownUsingComparator_78 rfl rfl ?_
    refine r_aload dJ48_siftDownUsingComparator_79 rfl ?_
    obtain ⟨k6, H⟩ := H
    obtain ⟨k7, H⟩ := H
    obtain ⟨k8, H⟩ := H
    obtain ⟨k9, H⟩ := H
    replace H := H _ rfl
    refine r_aastO dJ48_siftDownUsingComparator_81 (m := 6) (by decide) rfl k6 k7 k8 k9 ?_
    refine r_iload dJ48_siftDownUsingComparator_82 rfl ?_
    refine r_istore_n dJ48_siftDownUsingComparator_84 rfl (Nat.le_of_ble_eq_true rfl) rfl sl0 ?_
    refine r_goto (tgt := 5) dJ48_siftDownUsingComparator_85 rfl ?_
    exact R.forget H ⟨Or.inl rfl, ⟨Or.inl rfl, ⟨Or.inl rfl, ⟨Or.inl rfl, ⟨Or.inl rfl, ⟨Or.inl rfl, ⟨Or.inr rfl, ⟨Or.inr rfl, ⟨Or.inl rfl, trivial⟩⟩⟩⟩⟩⟩⟩⟩⟩
  · replace H := H.2 b5
    refine r_goto (tgt := 88) dJ48_siftDownUsingComparator_74 rfl ?_
    refine r_aload_n dJ48_siftDownUsingComparator_88 rfl rfl ?_
    refine r_iload_n dJ48_siftDownUsingComparator_89 rfl rfl ?_
    refine r_aload_n dJ48_siftDownUsingComparator_90 rfl rfl ?_
    obtain ⟨k11, H⟩ := H
    obtain ⟨k12, H⟩ := H
    obtain ⟨k13, H⟩ := H
    obtain ⟨k14, H⟩ := H
    replace H := H _ rfl
    refine r_aastO dJ48_siftDownUsingComparator_91 (m := 6) (by decide) rfl k11 k12 k13 k14 ?_
    exact r_vret dJ48_siftDownUsingComparator_92 rfl H
abbrev w_J48_siftDownUsingComparator_c10_5 (g : PG) (d : Nat) (l0 : Int32) (l1 : Nat) (l2 : Nat) (l3 : Int32) (l4 : Nat) (l5 : Int32) (h : PH) (Q : Out → PH → Prop) : Prop := ((l5 ≤ l0) → hkd h l2 / 100 = 6 ∧ hkd h l2 % 100 < 50 ∧ vp_in l0 (hln h l2) ∧ okA h l1 "java/lang/Object" ∧ ∀ h6, h6 = setB l2 l0.toNatClampNeg l1 h → Q (.inl none) h6) ∧ ((¬ l5 ≤ l0) → hkd h l2 / 100 = 6 ∧ vp_in ((l0 <<< ((1 : Int32) &&& 31)) + (1 : Int32)) (hln h l2) ∧ ((l3 ≤ (((l0 <<< ((1 : Int32) &&& 31)) + (1 : Int32)) + (1 : Int32))) → w_J48_siftDownUsingComparator_c10_61 g d l0 l1 l2 l3 l4 l5 ((l0 <<< ((1 : Int32) &&& 31)) + (1 : Int32)) (hB h l2 ((l0 <<< ((1 : Int32) &&& 31)) + (1 : Int32)).toNatClampNeg) h Q) ∧ ((¬ l3 ≤ (((l0 <<< ((1 : Int32) &&& 31)) + (1 : Int32)) + (1 : Int32))) → vp_in (((l0 <<< ((1 : Int32) &&& 31)) + (1 : Int32)) + (1 : Int32)) (hln h l2) ∧ hkd h l4 = 10 ∧ C g d m_X9_compare [.ref l4, .ref (hB h l2 ((l0 <<< ((1 : Int32) &&& 31)) + (1 : Int32)).toNatClampNeg), .ref (hB h l2 (((l0 <<< ((1 : Int32) &&& 31)) + (1 : Int32)) + (1 : Int32)).toNatClampNeg)] h (oI (fun v14 h13 => ((v14 ≤ 0) → w_J48_siftDownUsingComparator_c10_61 g d l0 l1 l2 l3 l4 l5 ((l0 <<< ((1 : Int32) &&& 31)) + (1 : Int32)) (hB h l2 ((l0 <<< ((1 : Int32) &&& 31)) + (1 : Int32)).toNatClampNeg) h13 Q) ∧ ((¬ v14 ≤ 0) → hkd h13 l2 / 100 = 6 ∧ vp_in (((l0 <<< ((1 : Int32) &&& 31)) + (1 : Int32)) + (1 : Int32)) (hln h13 l2) ∧ w_J48_siftDownUsingComparator_c10_61 g d l0 l1 l2 l3 l4 l5 (((l0 <<< ((1 : Int32) &&& 31)) + (1 : Int32)) + (1 : Int32)) (hB h13 l2 (((l0 <<< ((1 : Int32) &&& 31)) + (1 : Int32)) + (1 : Int32)).toNatClampNeg) h13 Q)) (fun r hx => Q (.inr r) hx))))
theorem v_J48_siftDownUsingComparator_c10_5 {g : PG} {d : Nat} {l0 : Int32} {l1 : Nat} {l2 : Nat} {l3 : Int32} {l4 : Nat} {l5 : Int32} {h : PH} {Q : Out → PH → Prop} (H : w_J48_siftDownUsingComparator_c10_5 g d l0 l1 l2 l3 l4 l5 h Q) : R g d m_J48_siftDownUsingComparator 5 [.int l0, .ref l1, .ref l2, .int l3, .ref l4, .int l5, .null, .null, .null] [] h Q := by
  refine r_iload_n dJ48_siftDownUsingComparator_5 rfl rfl ?_
  refine r_iload dJ48_siftDownUsingComparator_6 rfl ?_
  refine r_icmp_ge (tgt := 88) dJ48_siftDownUsingComparator_8 rfl (fun b1 => ?_) (fun b1 => ?_)
  · replace H := H.1 b1
    refine r_aload_n dJ48_siftDownUsingComparator_88 rfl rfl ?_
    refine r_iload_n dJ48_siftDownUsingComparator_89 rfl rfl ?_
    refine r_aload_n dJ48_siftDownUsingComparator_90 rfl rfl ?_
    obtain ⟨k2, H⟩ := H
    obtain ⟨k3, H⟩ := H
    obtain ⟨k4, H⟩ := H
    obtain ⟨k5, H⟩ := H
    replace H := H _ rfl
    refine r_aastO dJ48_siftDownUsingComparator_91 (m := 6) (by decide) rfl k2 k3 k4 k5 ?_
    exact r_vret dJ48_siftDownUsingComparator_92 rfl H
  · replace H := H.2 b1
    refine r_iload_n dJ48_siftDownUsingComparator_11 rfl rfl ?_
    refine r_iconst dJ48_siftDownUsingComparator_12 rfl ?_
    refine r_ishl dJ48_siftDownUsingComparator_13 ?_
    refine r_iconst dJ48_siftDownUsingComparator_14 rfl ?_
    refine r_iadd dJ48_siftDownUsingComparator_15 ?_
    refine r_istore dJ48_siftDownUsingComparator_16 (Nat.le_of_ble_eq_true rfl) rfl (slS (slS (slS (slS (slS (slS sl0)))))) ?_
    refine r_aload_n dJ48_siftDownUsingComparator_18 rfl rfl ?_
    refine r_iload dJ48_siftDownUsingComparator_19 rfl ?_
    obtain ⟨k7, H⟩ := H
    obtain ⟨k8, H⟩ := H
    refine r_aald dJ48_siftDownUsingComparator_21 (m := 6) (by decide) k7 k8 ?_
    refine r_astore dJ48_siftDownUsingComparator_22 (Nat.le_of_ble_eq_true rfl) rfl (slS (slS (slS (slS (slS (slS (slS sl0))))))) ?_
    refine r_iload dJ48_siftDownUsingComparator_24 rfl ?_
    refine r_iconst dJ48_siftDownUsingComparator_26 rfl ?_
    refine r_iadd dJ48_siftDownUsingComparator_27 ?_
    refine r_istore dJ48_siftDownUsingComparator_28 (Nat.le_of_ble_eq_true rfl) rfl (slS (slS (slS (slS (slS (slS (slS (slS sl0)))))))) ?_
    refine r_iload dJ48_siftDownUsingComparator_30 rfl ?_
    refine r_iload_n dJ48_siftDownUsingComparator_32 rfl rfl ?_
    refine r_icmp_ge (tgt := 61) dJ48_siftDownUsingComparator_33 rfl (fun b9 => ?_) (fun b9 => ?_)
    · replace H := H.1 b9
      exact R.forget (v_J48_siftDownUsingComparator_c10_61 H) ⟨Or.inl rfl, ⟨Or.inl rfl, ⟨Or.inl rfl, ⟨Or.inl rfl, ⟨Or.inl rfl, ⟨Or.inl rfl, ⟨Or.inl rfl, ⟨Or.inl rfl, ⟨Or.inr rfl, trivial⟩⟩⟩⟩⟩⟩⟩⟩⟩
    · replace H := H.2 b9
      refine r_aload dJ48_siftDownUsingComparator_36 rfl ?_
      refine r_aload dJ48_siftDownUsingComparator_38 rfl ?_
      refine r_aload_n dJ48_siftDownUsingComparator_40 rfl rfl ?_
      refine r_iload dJ48_siftDownUsingComparator_41 rfl ?_
      obtain ⟨k11, H⟩ := H
      refine r_aald dJ48_siftDownUsingComparator_43 (m := 6) (by decide) k7 k11 ?_
      obtain ⟨k12, H⟩ := H
      refine r_invF (y := m_X9_compare) (Cn := "SnowRelay$1") (x := ⟨"java/util/Comparator", "compare", "(Ljava/lang/Object;Ljava/lang/Object;)I"⟩) dJ48_siftDownUsingComparator_44 rfl (lw_F q2815 q1291 q1293 q168 q1295) fw_t12 (n := 2) (by decide +kernel) (Nat.le_of_ble_eq_true rfl) (args := [_, _]) rfl rfl (Nat.le_of_ble_eq_true rfl) k12 (by decide) rfl (C.monoE H (fun o h13 _ x15 K => cont_I K (fun v14 H => ?_) (fun r HX => XR_nc rfl HX)))
      refine r_if_le (tgt := 61) dJ48_siftDownUsingComparator_49 rfl (fun b16 => ?_) (fun b16 => ?_)
      · replace H := H.1 b16
        exact R.forget (v_J48_siftDownUsingComparator_c10_61 H) ⟨Or.inl rfl, ⟨Or.inl rfl, ⟨Or.inl rfl, ⟨Or.inl rfl, ⟨Or.inl rfl, ⟨Or.inl rfl, ⟨Or.inl rfl, ⟨Or.inl rfl, ⟨Or.inr rfl, trivial⟩⟩⟩⟩⟩⟩⟩⟩⟩
      · replace H := H.2 b16
        refine r_aload_n dJ48_siftDownUsingComparator_52 rfl rfl ?_
        refine r_iload dJ48_siftDownUsingComparator_53 rfl ?_
        refine r_dup dJ48_siftDownUsingComparator_55 rfl ?_
        refine r_istore dJ48_siftDownUsingComparator_56 (Nat.le_of_ble_eq_true rfl) rfl (slS (slS (slS (slS (slS (slS sl0)))))) ?_
        obtain ⟨k17, H⟩ := H
        obtain ⟨k18, H⟩ := H
        refine r_aald dJ48_siftDownUsingComparator_58 (m := 6) (by decide) k17 k18 ?_
        refine r_astore dJ48_siftDownUsingComparator_59 (Nat.le_of_ble_eq_true rfl) rfl (slS (slS (slS (slS (slS (slS (slS sl0))))))) ?_
        exact R.forget (v_J48_siftDownUsingComparator_c10_61 H) ⟨Or.inl rfl, ⟨Or.inl rfl, ⟨Or.inl rfl, ⟨Or.inl rfl, ⟨Or.inl rfl, ⟨Or.inl rfl, ⟨Or.inl rfl, ⟨Or.inl rfl, ⟨Or.inr rfl, trivial⟩⟩⟩⟩⟩⟩⟩⟩⟩
abbrev w_J48_siftDownUsingComparator_c10_0 (g : PG) (d : Nat) (l0 : Int32) (l1 : Nat) (l2 : Nat) (l3 : Int32) (l4 : Nat) (h : PH) (Q : Out → PH → Prop) : Prop := R g d m_J48_siftDownUsingComparator 5 [.int l0, .ref l1, .ref l2, .int l3, .ref l4, .int (iushr9 l3 (1 : Int32)), .null, .null, .null] [] h Q
theorem v_J48_siftDownUsingComparator_c10_0 {g : PG} {d : Nat} {l0 : Int32} {l1 : Nat} {l2 : Nat} {l3 : Int32} {l4 : Nat} {h : PH} {Q : Out → PH → Prop} (H : w_J48_siftDownUsingComparator_c10_0 g d l0 l1 l2 l3 l4 h Q) : R g d m_J48_siftDownUsingComparator 0 [.int l0, .ref l1, .ref l2, .int l3, .ref l4, .null, .null, .null, .null] [] h Q := by
  refine r_iload_n dJ48_siftDownUsingComparator_0 rfl rfl ?_
  refine r_iconst dJ48_siftDownUsingComparator_1 rfl ?_
  refine r_iushr dJ48_siftDownUsingComparator_2 rfl ?_
  refine r_istore dJ48_siftDownUsingComparator_3 (Nat.le_of_ble_eq_true rfl) rfl (slS (slS (slS (slS (slS sl0))))) ?_
  exact H
theorem c_J48_siftDownUsingComparator_c10_0 {g : PG} {d : Nat} {l0 : Int32} {l1 : Nat} {l2 : Nat} {l3 : Int32} {l4 : Nat} {h : PH} {Q : Out → PH → Prop} (H : w_J48_siftDownUsingComparator_c10_0 g d l0 l1 l2 l3 l4 h Q) : C g (d + 1) m_J48_siftDownUsingComparator [.int l0, .ref l1, .ref l2, .int l3, .ref l4] h Q := C_of_R rfl rfl (Nat.le_of_ble_eq_true rfl) rfl (v_J48_siftDownUsingComparator_c10_0 H)
abbrev w_J48_siftDownUsingComparator_c11_61 (g : PG) (d : Nat) (l0 : Int32) (l1 : Nat) (l2 : Nat) (l3 : Int32) (l4 : Nat) (l5 : Int32) (l6 : Int32) (l7 : Nat) (h : PH) (Q : Out → PH → Prop) : Prop := hkd h l4 = 11 ∧ C g d m_X10_compare [.ref l4, .ref l1, .ref l7] h (oI (fun v3 h2 => ((0 < v3) → hkd h2 l2 / 100 = 6 ∧ hkd h2 l2 % 100 < 50 ∧ vp_in l0 (hln h2 l2) ∧ okA h2 l7 "java/lang/Object" ∧ ∀ h10, h10 = setB l2 l0.toNatClampNeg l7 h2 → R g d m_J48_siftDownUsingComparator 5 [.int l6, .ref l1, .ref l2, .int l3, .ref l4, .int l5, .null, .null, .null] [] h10 Q) ∧ ((¬ 0 < v3) → hkd h2 l2 / 100 = 6 ∧ hkd h2 l2 % 100 < 50 ∧ vp_in l0 (hln h2 l2) ∧ okA h2 l1 "java/lang/Object" ∧ ∀ h15, h15 = setB l2 l0.toNatClampNeg l1 h2 → Q (.inl none) h15)) (fun r hx => Q (.inr r) hx))
theorem v_J48_siftDownUsingComparator_c11_61 {g : PG} {d : Nat} {l0 : Int32} {l1 : Nat} {l2 : Nat} {l3 : Int32} {l4 : Nat} {l5 : Int32} {l6 : Int32} {l7 : Nat} {h : PH} {Q : Out → PH → Prop} (H : w_J48_siftDownUsingComparator_c11_61 g d l0 l1 l2 l3 l4 l5 l6 l7 h Q) : R g d m_J48_siftDownUsingComparator 61 [.int l0, .ref l1, .ref l2, .int l3, .ref l4, .int l5, .int l6, .ref l7, .null] [] h Q := by
  refine r_aload dJ48_siftDownUsingComparator_61 rfl ?_
  refine r_aload_n dJ48_siftDownUsingComparator_63 rfl rfl ?_
  refine r_aload dJ48_siftDownUsingComparator_64 rfl ?_
  obtain ⟨k1, H⟩ := H
  refine r_invF (y := m_X10_compare) (Cn := "SnowRelay$ByMass") (x := ⟨"java/util/Comparator", "compare", "(Ljava/lang/Object;Ljava/lang/Object;)I"⟩) dJ48_siftDownUsingComparator_66 rfl (lw_F q2815 q1324 q1326 q170 q1328) fw_t13 (n := 2) (by decide +kernel) (Nat.le_of_ble_eq_true rfl) (args := [_, _]) rfl rfl (Nat.le_of_ble_eq_true rfl) k1 (by decide) rfl (C.monoE H (fun o h2 _ x4 K => cont_I K (fun v3 H => ?_) (fun r HX => XR_nc rfl HX)))
  refine r_if_gt (tgt := 77) dJ48_siftDownUsingComparator_71 rfl (fun b5 => ?_) (fun b5 => ?_)
  · replace H := H.1 b5
    refine r_aload_n dJ48_siftDownUsingComparator_77 rfl rfl ?_
    refine r_iload_n dJ48_siftDownUsingComparator_78 rfl rfl ?_
    refine r_aload dJ48_siftDownUsingComparator_79 rfl ?_
    obtain ⟨k6, H⟩ := H
    obtain ⟨k7, H⟩ := H
    obtain ⟨k8, H⟩ := H
    obtain ⟨k9, H⟩ := H
    replace H := H _ rfl
    refine r_aastO dJ48_siftDownUsingComparator_81 (m := 6) (by decide) rfl k6 k7 k8 k9 ?_
    refine r_iload dJ48_siftDownUsingComparator_82 rfl ?_
    refine r_istore_n dJ48_siftDownUsingComparator_84 rfl (Nat.le_of_ble_eq_true rfl) rfl sl0 ?_
    refine r_goto (tgt := 5) dJ48_siftDownUsingComparator_85 rfl ?_
    exact R.forget H ⟨Or.inl rfl, ⟨Or.inl rfl, ⟨Or.inl rfl, ⟨Or.inl rfl, ⟨Or.inl rfl, ⟨Or.inl rfl, ⟨Or.inr rfl, ⟨Or.inr rfl, ⟨Or.inl rfl, trivial⟩⟩⟩⟩⟩⟩⟩⟩⟩
  · replace H := H.2 b5
    refine r_goto (tgt := 88) dJ48_siftDownUsingComparator_74 rfl ?_
    refine r_aload_n dJ48_siftDownUsingComparator_88 rfl rfl ?_
    refine r_iload_n dJ48_siftDownUsingComparator_89 rfl rfl ?_
    refine r_aload_n dJ48_siftDownUsingComparator_90 rfl rfl ?_
    obtain ⟨k11, H⟩ := H
    obtain ⟨k12, H⟩ := H
    obtain ⟨k13, H⟩ := H
    obtain ⟨k14, H⟩ := H
    replace H := H _ rfl
    refine r_aastO dJ48_siftDownUsingComparator_91 (m := 6) (by decide) rfl k11 k12 k13 k14 ?_
    exact r_vret dJ48_siftDownUsingComparator_92 rfl H
abbrev w_J48_siftDownUsingComparator_c11_5 (g : PG) (d : Nat) (l0 : Int32) (l1 : Nat) (l2 : Nat) (l3 : Int32) (l4 : Nat) (l5 : Int32) (h : PH) (Q : Out → PH → Prop) : Prop := ((l5 ≤ l0) → hkd h l2 / 100 = 6 ∧ hkd h l2 % 100 < 50 ∧ vp_in l0 (hln h l2) ∧ okA h l1 "java/lang/Object" ∧ ∀ h6, h6 = setB l2 l0.toNatClampNeg l1 h → Q (.inl none) h6) ∧ ((¬ l5 ≤ l0) → hkd h l2 / 100 = 6 ∧ vp_in ((l0 <<< ((1 : Int32) &&& 31)) + (1 : Int32)) (hln h l2) ∧ ((l3 ≤ (((l0 <<< ((1 : Int32) &&& 31)) + (1 : Int32)) + (1 : Int32))) → w_J48_siftDownUsingComparator_c11_61 g d l0 l1 l2 l3 l4 l5 ((l0 <<< ((1 : Int32) &&& 31)) + (1 : Int32)) (hB h l2 ((l0 <<< ((1 : Int32) &&& 31)) + (1 : Int32)).toNatClampNeg) h Q) ∧ ((¬ l3 ≤ (((l0 <<< ((1 : Int32) &&& 31)) + (1 : Int32)) + (1 : Int32))) → vp_in (((l0 <<< ((1 : Int32) &&& 31)) + (1 : Int32)) + (1 : Int32)) (hln h l2) ∧ hkd h l4 = 11 ∧ C g d m_X10_compare [.ref l4, .ref (hB h l2 ((l0 <<< ((1 : Int32) &&& 31)) + (1 : Int32)).toNatClampNeg), .ref (hB h l2 (((l0 <<< ((1 : Int32) &&& 31)) + (1 : Int32)) + (1 : Int32)).toNatClampNeg)] h (oI (fun v14 h13 => ((v14 ≤ 0) → w_J48_siftDownUsingComparator_c11_61 g d l0 l1 l2 l3 l4 l5 ((l0 <<< ((1 : Int32) &&& 31)) + (1 : Int32)) (hB h l2 ((l0 <<< ((1 : Int32) &&& 31)) + (1 : Int32)).toNatClampNeg) h13 Q) ∧ ((¬ v14 ≤ 0) → hkd h13 l2 / 100 = 6 ∧ vp_in (((l0 <<< ((1 : Int32) &&& 31)) + (1 : Int32)) + (1 : Int32)) (hln h13 l2) ∧ w_J48_siftDownUsingComparator_c11_61 g d l0 l1 l2 l3 l4 l5 (((l0 <<< ((1 : Int32) &&& 31)) + (1 : Int32)) + (1 : Int32)) (hB h13 l2 (((l0 <<< ((1 : Int32) &&& 31)) + (1 : Int32)) + (1 : Int32)).toNatClampNeg) h13 Q)) (fun r hx => Q (.inr r) hx))))
theorem v_J48_siftDownUsingComparator_c11_5 {g : PG} {d : Nat} {l0 : Int32} {l1 : Nat} {l2 : Nat} {l3 : Int32} {l4 : Nat} {l5 : Int32} {h : PH} {Q : Out → PH → Prop} (H : w_J48_siftDownUsingComparator_c11_5 g d l0 l1 l2 l3 l4 l5 h Q) : R g d m_J48_siftDownUsingComparator 5 [.int l0, .ref l1, .ref l2, .int l3, .ref l4, .int l5, .null, .null, .null] [] h Q := by
  refine r_iload_n dJ48_siftDownUsingComparator_5 rfl rfl ?_
  refine r_iload dJ48_siftDownUsingComparator_6 rfl ?_
  refine r_icmp_ge (tgt := 88) dJ48_siftDownUsingComparator_8 rfl (fun b1 => ?_) (fun b1 => ?_)
  · replace H := H.1 b1
    refine r_aload_n dJ48_siftDownUsingComparator_88 rfl rfl ?_
    refine r_iload_n dJ48_siftDownUsingComparator_89 rfl rfl ?_
    refine r_aload_n dJ48_siftDownUsingComparator_90 rfl rfl ?_
    obtain ⟨k2, H⟩ := H
    obtain ⟨k3, H⟩ := H
    obtain ⟨k4, H⟩ := H
    obtain ⟨k5, H⟩ := H
    replace H := H _ rfl
    refine r_aastO dJ48_siftDownUsingComparator_91 (m := 6) (by decide) rfl k2 k3 k4 k5 ?_
    exact r_vret dJ48_siftDownUsingComparator_92 rfl H
  · replace H := H.2 b1
    refine r_iload_n dJ48_siftDownUsingComparator_11 rfl rfl ?_
    refine r_iconst dJ48_siftDownUsingComparator_12 rfl ?_
    refine r_ishl dJ48_siftDownUsingComparator_13 ?_
    refine r_iconst dJ48_siftDownUsingComparator_14 rfl ?_
    refine r_iadd dJ48_siftDownUsingComparator_15 ?_
    refine r_istore dJ48_siftDownUsingComparator_16 (Nat.le_of_ble_eq_true rfl) rfl (slS (slS (slS (slS (slS (slS sl0)))))) ?_
    refine r_aload_n dJ48_siftDownUsingComparator_18 rfl rfl ?_
    refine r_iload dJ48_siftDownUsingComparator_19 rfl ?_
    obtain ⟨k7, H⟩ := H
    obtain ⟨k8, H⟩ := H
    refine r_aald dJ48_siftDownUsingComparator_21 (m := 6) (by decide) k7 k8 ?_
    refine r_astore dJ48_siftDownUsingComparator_22 (Nat.le_of_ble_eq_true rfl) rfl (slS (slS (slS (slS (slS (slS (slS sl0))))))) ?_
    refine r_iload dJ48_siftDownUsingComparator_24 rfl ?_
    refine r_iconst dJ48_siftDownUsingComparator_26 rfl ?_
    refine r_iadd dJ48_siftDownUsingComparator_27 ?_
    refine r_istore dJ48_siftDownUsingComparator_28 (Nat.le_of_ble_eq_true rfl) rfl (slS (slS (slS (slS (slS (slS (slS (slS sl0)))))))) ?_
    refine r_iload dJ48_siftDownUsingComparator_30 rfl ?_
    refine r_iload_n dJ48_siftDownUsingComparator_32 rfl rfl ?_
    refine r_icmp_ge (tgt := 61) dJ48_siftDownUsingComparator_33 rfl (fun b9 => ?_) (fun b9 => ?_)
    · replace H := H.1 b9
      exact R.forget (v_J48_siftDownUsingComparator_c11_61 H) ⟨Or.inl rfl, ⟨Or.inl rfl, ⟨Or.inl rfl, ⟨Or.inl rfl, ⟨Or.inl rfl, ⟨Or.inl rfl, ⟨Or.inl rfl, ⟨Or.inl rfl, ⟨Or.inr rfl, trivial⟩⟩⟩⟩⟩⟩⟩⟩⟩
    · replace H := H.2 b9
      refine r_aload dJ48_siftDownUsingComparator_36 rfl ?_
      refine r_aload dJ48_siftDownUsingComparator_38 rfl ?_
      refine r_aload_n dJ48_siftDownUsingComparator_40 rfl rfl ?_
      refine r_iload dJ48_siftDownUsingComparator_41 rfl ?_
      obtain ⟨k11, H⟩ := H
      refine r_aald dJ48_siftDownUsingComparator_43 (m := 6) (by decide) k7 k11 ?_
      obtain ⟨k12, H⟩ := H
      refine r_invF (y := m_X10_compare) (Cn := "SnowRelay$ByMass") (x := ⟨"java/util/Comparator", "compare", "(Ljava/lang/Object;Ljava/lang/Object;)I"⟩) dJ48_siftDownUsingComparator_44 rfl (lw_F q2815 q1324 q1326 q170 q1328) fw_t13 (n := 2) (by decide +kernel) (Nat.le_of_ble_eq_true rfl) (args := [_, _]) rfl rfl (Nat.le_of_ble_eq_true rfl) k12 (by decide) rfl (C.monoE H (fun o h13 _ x15 K => cont_I K (fun v14 H => ?_) (fun r HX => XR_nc rfl HX)))
      refine r_if_le (tgt := 61) dJ48_siftDownUsingComparator_49 rfl (fun b16 => ?_) (fun b16 => ?_)
      · replace H := H.1 b16
        exact R.forget (v_J48_siftDownUsingComparator_c11_61 H) ⟨Or.inl rfl, ⟨Or.inl rfl, ⟨Or.inl rfl, ⟨Or.inl rfl, ⟨Or.inl rfl, ⟨Or.inl rfl, ⟨Or.inl rfl, ⟨Or.inl rfl, ⟨Or.inr rfl, trivial⟩⟩⟩⟩⟩⟩⟩⟩⟩
      · replace H := H.2 b16
        refine r_aload_n dJ48_siftDownUsingComparator_52 rfl rfl ?_
        refine r_iload dJ48_siftDownUsingComparator_53 rfl ?_
        refine r_dup dJ48_siftDownUsingComparator_55 rfl ?_
        refine r_istore dJ48_siftDownUsingComparator_56 (Nat.le_of_ble_eq_true rfl) rfl (slS (slS (slS (slS (slS (slS sl0)))))) ?_
        obtain ⟨k17, H⟩ := H
        obtain ⟨k18, H⟩ := H
        refine r_aald dJ48_siftDownUsingComparator_58 (m := 6) (by decide) k17 k18 ?_
        refine r_astore dJ48_siftDownUsingComparator_59 (Nat.le_of_ble_eq_true rfl) rfl (slS (slS (slS (slS (slS (slS (slS sl0))))))) ?_
        exact R.forget (v_J48_siftDownUsingComparator_c11_61 H) ⟨Or.inl rfl, ⟨Or.inl rfl, ⟨Or.inl rfl, ⟨Or.inl rfl, ⟨Or.inl rfl, ⟨Or.inl rfl, ⟨Or.inl rfl, ⟨Or.inl rfl, ⟨Or.inr rfl, trivial⟩⟩⟩⟩⟩⟩⟩⟩⟩
abbrev w_J48_siftDownUsingComparator_c11_0 (g : PG) (d : Nat) (l0 : Int32) (l1 : Nat) (l2 : Nat) (l3 : Int32) (l4 : Nat) (h : PH) (Q : Out → PH → Prop) : Prop := R g d m_J48_siftDownUsingComparator 5 [.int l0, .ref l1, .ref l2, .int l3, .ref l4, .int (iushr9 l3 (1 : Int32)), .null, .null, .null] [] h Q
theorem v_J48_siftDownUsingComparator_c11_0 {g : PG} {d : Nat} {l0 : Int32} {l1 : Nat} {l2 : Nat} {l3 : Int32} {l4 : Nat} {h : PH} {Q : Out → PH → Prop} (H : w_J48_siftDownUsingComparator_c11_0 g d l0 l1 l2 l3 l4 h Q) : R g d m_J48_siftDownUsingComparator 0 [.int l0, .ref l1, .ref l2, .int l3, .ref l4, .null, .null, .null, .null] [] h Q := by
  refine r_iload_n dJ48_siftDownUsingComparator_0 rfl rfl ?_
  refine r_iconst dJ48_siftDownUsingComparator_1 rfl ?_
  refine r_iushr dJ48_siftDownUsingComparator_2 rfl ?_
  refine r_istore dJ48_siftDownUsingComparator_3 (Nat.le_of_ble_eq_true rfl) rfl (slS (slS (slS (slS (slS sl0))))) ?_
  exact H
theorem c_J48_siftDownUsingComparator_c11_0 {g : PG} {d : Nat} {l0 : Int32} {l1 : Nat} {l2 : Nat} {l3 : Int32} {l4 : Nat} {h : PH} {Q : Out → PH → Prop} (H : w_J48_siftDownUsingComparator_c11_0 g d l0 l1 l2 l3 l4 h Q) : C g (d + 1) m_J48_siftDownUsingComparator [.int l0, .ref l1, .ref l2, .int l3, .ref l4] h Q := C_of_R rfl rfl (Nat.le_of_ble_eq_true rfl) rfl (v_J48_siftDownUsingComparator_c11_0 H)
abbrev w_J49_init_0 (g : PG) (d : Nat) (l0 : Nat) (l1 : Nat) (h : PH) (Q : Out → PH → Prop) : Prop := hkd h l0 = 19 ∧ ∀ h2, h2 = setG 547 l0 l1 h → 0 < l0 ∧ C g d m_J0_init [.ref l0] h2 (oV (fun h4 => Q (.inl none) h4) (fun r hx => Q (.inr r) hx))
theorem v_J49_init_0 {g : PG} {d : Nat} {l0 : Nat} {l1 : Nat} {h : PH} {Q : Out → PH → Prop} (H : w_J49_init_0 g d l0 l1 h Q) : R g d m_J49_init 0 [.ref l0, .ref l1] [] h Q := by
  refine r_aload_n dJ49_init_0 rfl rfl ?_
  refine r_aload_n dJ49_init_1 rfl rfl ?_
  obtain ⟨k1, H⟩ := H
  replace H := H _ rfl
  refine r_putG fw_J49_1_19_i (by decide) dJ49_init_2 k1 (by decide) rfl ?_
  refine r_aload_n dJ49_init_5 rfl rfl ?_
  obtain ⟨k3, H⟩ := H
  refine r_invI (y := m_J0_init) dJ49_init_6 rfl rfl q202 q109 q1760 q201 rfl py_J0_init (Nat.le_of_ble_eq_true rfl) (args := []) rfl rfl (Nat.le_of_ble_eq_true rfl) k3 (C.monoE H (fun o h4 _ x6 K => cont_V K (fun H => ?_) (fun r HX => XR_nc rfl HX)))
  exact r_vret dJ49_init_9 rfl H
theorem c_J49_init_0 {g : PG} {d : Nat} {l0 : Nat} {l1 : Nat} {h : PH} {Q : Out → PH → Prop} (H : w_J49_init_0 g d l0 l1 h Q) : C g (d + 1) m_J49_init [.ref l0, .ref l1] h Q := C_of_R rfl rfl (Nat.le_of_ble_eq_true rfl) rfl (v_J49_init_0 H)
abbrev w_J49_iterator_0 (g : PG) (d : Nat) (l0 : Nat) (h : PH) (Q : Out → PH → Prop) : Prop := ∀ h1, h1 = hnew 22 0 5 h → hkd h1 l0 = 19 ∧ hkd h1 (hG h1 547 l0) = 15 ∧ C g d m_J4_getFirstEntry [.ref (hG h1 547 l0)] h1 (oR (fun v5 h4 => 0 < (hnx h) ∧ C g d m_J43_init [.ref (hnx h), .ref (hG h1 547 l0), .ref v5] h4 (oV (fun h8 => Q (.inl (some (.ref (hnx h)))) h8) (fun r hx => Q (.inr r) hx))) (fun r hx => Q (.inr r) hx))
theorem v_J49_iterator_0 {g : PG} {d : Nat} {l0 : Nat} {h : PH} {Q : Out → PH → Prop} (H : w_J49_iterator_0 g d l0 h Q) : R g d m_J49_iterator 0 [.ref l0] [] h Q := by
  replace H := H _ rfl
  refine r_new (ci := 22) dJ49_iterator_0 rfl (by decide) q1930 q1931 q159 ?_
  refine r_dup dJ49_iterator_3 rfl ?_
  refine r_aload_n dJ49_iterator_4 rfl rfl ?_
  obtain ⟨k2, H⟩ := H
  refine r_getG fr_J49_1_19 (by decide) dJ49_iterator_5 k2 (by decide) ?_
  refine r_aload_n dJ49_iterator_8 rfl rfl ?_
  refine r_getG fr_J49_1_19 (by decide) dJ49_iterator_9 k2 (by decide) ?_
  obtain ⟨k3, H⟩ := H
  refine r_invV (y := m_J4_getFirstEntry) dJ49_iterator_12 rfl (lw_V q1932 q849 q850 q113 q851) py_J4_getFirstEntry (Nat.le_of_ble_eq_true rfl) (args := []) rfl rfl (Nat.le_of_ble_eq_true rfl) k3 (by decide) rfl (C.monoE H (fun o h4 _ x6 K => cont_R K (fun v5 H => ?_) (fun r HX => XR_nc rfl HX)))
  obtain ⟨k7, H⟩ := H
  refine r_invI (y := m_J43_init) dJ49_iterator_15 rfl rfl q1935 q159 q1933 q1934 rfl py_J43_init (Nat.le_of_ble_eq_true rfl) (args := [_, _]) rfl rfl (Nat.le_of_ble_eq_true rfl) k7 (C.monoE H (fun o h8 _ x10 K => cont_V K (fun H => ?_) (fun r HX => XR_nc rfl HX)))
  exact r_aret dJ49_iterator_18 rfl H
theorem c_J49_iterator_0 {g : PG} {d : Nat} {l0 : Nat} {h : PH} {Q : Out → PH → Prop} (H : w_J49_iterator_0 g d l0 h Q) : C g (d + 1) m_J49_iterator [.ref l0] h Q := C_of_R rfl rfl (Nat.le_of_ble_eq_true rfl) rfl (v_J49_iterator_0 H)
abbrev w_J49_size_0 (g : PG) (d : Nat) (l0 : Nat) (h : PH) (Q : Out → PH → Prop) : Prop := hkd h l0 = 19 ∧ hkd h (hG h 547 l0) = 15 ∧ C g d m_J4_size [.ref (hG h 547 l0)] h (oI (fun v4 h3 => Q (.inl (some (.int v4))) h3) (fun r hx => Q (.inr r) hx))
theorem v_J49_size_0 {g : PG} {d : Nat} {l0 : Nat} {h : PH} {Q : Out → PH → Prop} (H : w_J49_size_0 g d l0 h Q) : R g d m_J49_size 0 [.ref l0] [] h Q := by
  refine r_aload_n dJ49_size_0 rfl rfl ?_
  obtain ⟨k1, H⟩ := H
  refine r_getG fr_J49_1_19 (by decide) dJ49_size_1 k1 (by decide) ?_
  obtain ⟨k2, H⟩ := H
  refine r_invV (y := m_J4_size) dJ49_size_4 rfl (lw_V q2019 q2005 q2006 q113 q2007) py_J4_size (Nat.le_of_ble_eq_true rfl) (args := []) rfl rfl (Nat.le_of_ble_eq_true rfl) k2 (by decide) rfl (C.monoE H (fun o h3 _ x5 K => cont_I K (fun v4 H => ?_) (fun r HX => XR_nc rfl HX)))
  exact r_iret dJ49_size_7 rfl H
theorem c_J49_size_0 {g : PG} {d : Nat} {l0 : Nat} {h : PH} {Q : Out → PH → Prop} (H : w_J49_size_0 g d l0 h Q) : C g (d + 1) m_J49_size [.ref l0] h Q := C_of_R rfl rfl (Nat.le_of_ble_eq_true rfl) rfl (v_J49_size_0 H)
abbrev w_J5_init_0 (g : PG) (d : Nat) (l0 : Nat) (h : PH) (Q : Out → PH → Prop) : Prop := 0 < l0 ∧ C g d m_J1_init [.ref l0] h (oV (fun h2 => Q (.inl none) h2) (fun r hx => Q (.inr r) hx))
theorem v_J5_init_0 {g : PG} {d : Nat} {l0 : Nat} {h : PH} {Q : Out → PH → Prop} (H : w_J5_init_0 g d l0 h Q) : R g d m_J5_init 0 [.ref l0] [] h Q := by
  refine r_aload_n dJ5_init_0 rfl rfl ?_
  obtain ⟨k1, H⟩ := H
  refine r_invI (y := m_J1_init) dJ5_init_1 rfl rfl q199 q110 q271 q198 rfl py_J1_init (Nat.le_of_ble_eq_true rfl) (args := []) rfl rfl (Nat.le_of_ble_eq_true rfl) k1 (C.monoE H (fun o h2 _ x4 K => cont_V K (fun H => ?_) (fun r HX => XR_nc rfl HX)))
  exact r_vret dJ5_init_4 rfl H
theorem c_J5_init_0 {g : PG} {d : Nat} {l0 : Nat} {h : PH} {Q : Out → PH → Prop} (H : w_J5_init_0 g d l0 h Q) : C g (d + 1) m_J5_init [.ref l0] h Q := C_of_R rfl rfl (Nat.le_of_ble_eq_true rfl) rfl (v_J5_init_0 H)
abbrev w_J5_iterator_k23_0 (g : PG) (d : Nat) (l0 : Nat) (h : PH) (Q : Out → PH → Prop) : Prop := hkd h l0 = 23 ∧ C g d m_J1_listIterator [.ref l0] h (oR (fun v3 h2 => Q (.inl (some (.ref v3))) h2) (fun r hx => Q (.inr r) hx))
theorem v_J5_iterator_k23_0 {g : PG} {d : Nat} {l0 : Nat} {h : PH} {Q : Out → PH → Prop} (H : w_J5_iterator_k23_0 g d l0 h Q) : R g d m_J5_iterator 0 [.ref l0] [] h Q := by
  refine r_aload_n dJ5_iterator_0 rfl rfl ?_
  obtain ⟨k1, H⟩ := H
  refine r_invU (y := m_J1_listIterator) (owner := "java/util/AbstractList") (Cn := "java/util/LinkedList") (x := ⟨"java/util/AbstractSequentialList", "listIterator", "()Ljava/util/ListIterator;"⟩) dJ5_iterator_1 (n := 0) ⟨rfl, by decide +kernel, by decide, by decide, Or.inl ⟨lw_U q1811 q1812 q1814 q1815 q110 q1816, Or.inl rfl⟩⟩ (Nat.le_of_ble_eq_true rfl) (args := []) rfl rfl (Nat.le_of_ble_eq_true rfl) k1 (by decide) rfl (C.monoE H (fun o h2 _ x4 K => cont_R K (fun v3 H => ?_) (fun r HX => XR_nc rfl HX)))
  exact r_aret dJ5_iterator_4 rfl H
theorem c_J5_iterator_k23_0 {g : PG} {d : Nat} {l0 : Nat} {h : PH} {Q : Out → PH → Prop} (H : w_J5_iterator_k23_0 g d l0 h Q) : C g (d + 1) m_J5_iterator [.ref l0] h Q := C_of_R rfl rfl (Nat.le_of_ble_eq_true rfl) rfl (v_J5_iterator_k23_0 H)
abbrev w_J6_init_0 (g : PG) (d : Nat) (l0 : Nat) (h : PH) (Q : Out → PH → Prop) : Prop := 0 < l0 ∧ C g d m_J5_init [.ref l0] h (oV (fun h2 => hkd h2 l0 = 23 ∧ ∀ h6, h6 = setF 43 l0 (0 : Int32) h2 → Q (.inl none) h6) (fun r hx => Q (.inr r) hx))
theorem v_J6_init_0 {g : PG} {d : Nat} {l0 : Nat} {h : PH} {Q : Out → PH → Prop} (H : w_J6_init_0 g d l0 h Q) : R g d m_J6_init 0 [.ref l0] [] h Q := by
  refine r_aload_n dJ6_init_0 rfl rfl ?_
  obtain ⟨k1, H⟩ := H
  refine r_invI (y := m_J5_init) dJ6_init_1 rfl rfl q270 q114 q268 q269 rfl py_J5_init (Nat.le_of_ble_eq_true rfl) (args := []) rfl rfl (Nat.le_of_ble_eq_true rfl) k1 (C.monoE H (fun o h2 _ x4 K => cont_V K (fun H => ?_) (fun r HX => XR_nc rfl HX)))
  refine r_aload_n dJ6_init_4 rfl rfl ?_
  refine r_iconst dJ6_init_5 rfl ?_
  obtain ⟨k5, H⟩ := H
  replace H := H _ rfl
  refine r_putF fw_J6_7_23_i (by decide) dJ6_init_6 k5 (by decide) rfl rfl ?_
  exact r_vret dJ6_init_9 rfl H
theorem c_J6_init_0 {g : PG} {d : Nat} {l0 : Nat} {h : PH} {Q : Out → PH → Prop} (H : w_J6_init_0 g d l0 h Q) : C g (d + 1) m_J6_init [.ref l0] h Q := C_of_R rfl rfl (Nat.le_of_ble_eq_true rfl) rfl (v_J6_init_0 H)
abbrev w_J6_size_0 (g : PG) (d : Nat) (l0 : Nat) (h : PH) (Q : Out → PH → Prop) : Prop := hkd h l0 = 23 ∧ Q (.inl (some (.int (hF h 43 l0)))) h
theorem v_J6_size_0 {g : PG} {d : Nat} {l0 : Nat} {h : PH} {Q : Out → PH → Prop} (H : w_J6_size_0 g d l0 h Q) : R g d m_J6_size 0 [.ref l0] [] h Q := by
  refine r_aload_n dJ6_size_0 rfl rfl ?_
  obtain ⟨k1, H⟩ := H
  refine r_getF fr_J6_7_23 (by decide) dJ6_size_1 k1 (by decide) ?_
  exact r_iret dJ6_size_4 rfl H
theorem c_J6_size_0 {g : PG} {d : Nat} {l0 : Nat} {h : PH} {Q : Out → PH → Prop} (H : w_J6_size_0 g d l0 h Q) : C g (d + 1) m_J6_size [.ref l0] h Q := C_of_R rfl rfl (Nat.le_of_ble_eq_true rfl) rfl (v_J6_size_0 H)
abbrev w_J6_get_0 (g : PG) (d : Nat) (l0 : Nat) (l1 : Int32) (h : PH) (Q : Out → PH → Prop) : Prop := hkd h l0 = 23 ∧ C g d m_J6_checkElementIndex [.ref l0, .int l1] h (oV (fun h2 => C g d m_J6_node [.ref l0, .int l1] h2 (oR (fun v6 h5 => hkd h5 v6 = 24 ∧ Q (.inl (some (.ref (hG h5 553 v6)))) h5) (fun r hx => Q (.inr r) hx))) (fun r hx => Q (.inr r) hx))
theorem v_J6_get_0 {g : PG} {d : Nat} {l0 : Nat} {l1 : Int32} {h : PH} {Q : Out → PH → Prop} (H : w_J6_get_0 g d l0 l1 h Q) : R g d m_J6_get 0 [.ref l0, .int l1] [] h Q := by
  refine r_aload_n dJ6_get_0 rfl rfl ?_
  refine r_iload_n dJ6_get_1 rfl rfl ?_
  obtain ⟨k1, H⟩ := H
  refine r_invV (y := m_J6_checkElementIndex) dJ6_get_2 rfl (lw_V q992 q994 qp2 q115 q995) py_J6_checkElementIndex (Nat.le_of_ble_eq_true rfl) (args := [_]) rfl rfl (Nat.le_of_ble_eq_true rfl) k1 (by decide) rfl (C.monoE H (fun o h2 _ x4 K => cont_V K (fun H => ?_) (fun r HX => XR_nc rfl HX)))
  refine r_aload_n dJ6_get_5 rfl rfl ?_
  refine r_iload_n dJ6_get_6 rfl rfl ?_
  refine r_invV (y := m_J6_node) dJ6_get_7 rfl (lw_V q1023 q1024 q1025 q115 q1026) py_J6_node (Nat.le_of_ble_eq_true rfl) (args := [_]) rfl rfl (Nat.le_of_ble_eq_true rfl) (x4.kd k1 (by decide)) (by decide) rfl (C.monoE H (fun o h5 _ x7 K => cont_R K (fun v6 H => ?_) (fun r HX => XR_nc rfl HX)))
  obtain ⟨k8, H⟩ := H
  refine r_getG fr_J6_39_24 (by decide) dJ6_get_10 k8 (by decide) ?_
  exact r_aret dJ6_get_13 rfl H
theorem c_J6_get_0 {g : PG} {d : Nat} {l0 : Nat} {l1 : Int32} {h : PH} {Q : Out → PH → Prop} (H : w_J6_get_0 g d l0 l1 h Q) : C g (d + 1) m_J6_get [.ref l0, .int l1] h Q := C_of_R rfl rfl (Nat.le_of_ble_eq_true rfl) rfl (v_J6_get_0 H)
abbrev w_J6_checkElementIndex_0 (g : PG) (d : Nat) (l0 : Nat) (l1 : Int32) (h : PH) (Q : Out → PH → Prop) : Prop := hkd h l0 = 23 ∧ C g d m_J6_isElementIndex [.ref l0, .int l1] h (oI (fun v3 h2 => ((¬ v3 = 0) → Q (.inl none) h2) ∧ ((v3 = 0) → False)) (fun r hx => Q (.inr r) hx))
theorem v_J6_checkElementIndex_0 {g : PG} {d : Nat} {l0 : Nat} {l1 : Int32} {h : PH} {Q : Out → PH → Prop} (H : w_J6_checkElementIndex_0 g d l0 l1 h Q) : R g d m_J6_checkElementIndex 0 [.ref l0, .int l1] [] h Q := by
  refine r_aload_n dJ6_checkElementIndex_0 rfl rfl ?_
  refine r_iload_n dJ6_checkElementIndex_1 rfl rfl ?_
  obtain ⟨k1, H⟩ := H
  refine r_invV (y := m_J6_isElementIndex) dJ6_checkElementIndex_2 rfl (lw_V q996 q998 qp3 q115 q999) py_J6_isElementIndex (Nat.le_of_ble_eq_true rfl) (args := [_]) rfl rfl (Nat.le_of_ble_eq_true rfl) k1 (by decide) rfl (C.monoE H (fun o h2 _ x4 K => cont_I K (fun v3 H => ?_) (fun r HX => XR_nc rfl HX)))
  refine r_if_ne (tgt := 21) dJ6_checkElementIndex_5 rfl (fun b5 => ?_) (fun b5 => ?_)
  · replace H := H.1 b5
    exact r_vret dJ6_checkElementIndex_21 rfl H
  · replace H := H.2 b5
    exact H.elim
theorem c_J6_checkElementIndex_0 {g : PG} {d : Nat} {l0 : Nat} {l1 : Int32} {h : PH} {Q : Out → PH → Prop} (H : w_J6_checkElementIndex_0 g d l0 l1 h Q) : C g (d + 1) m_J6_checkElementIndex [.ref l0, .int l1] h Q := C_of_R rfl rfl (Nat.le_of_ble_eq_true rfl) rfl (v_J6_checkElementIndex_0 H)
abbrev w_J6_isElementIndex_0 (g : PG) (d : Nat) (l0 : Nat) (l1 : Int32) (h : PH) (Q : Out → PH → Prop) : Prop := ((l1 < 0) → Q (.inl (some (.int 0))) h) ∧ ((¬ l1 < 0) → hkd h l0 = 23 ∧ (((hF h 43 l0) ≤ l1) → Q (.inl (some (.int 0))) h) ∧ ((¬ (hF h 43 l0) ≤ l1) → Q (.inl (some (.int 1))) h))
theorem v_J6_isElementIndex_0 {g : PG} {d : Nat} {l0 : Nat} {l1 : Int32} {h : PH} {Q : Out → PH → Prop} (H : w_J6_isElementIndex_0 g d l0 l1 h Q) : R g d m_J6_isElementIndex 0 [.ref l0, .int l1] [] h Q := by
  refine r_iload_n dJ6_isElementIndex_0 rfl rfl ?_
  refine r_if_lt (tgt := 16) dJ6_isElementIndex_1 rfl (fun b1 => ?_) (fun b1 => ?_)
  · replace H := H.1 b1
    refine r_iconst dJ6_isElementIndex_16 rfl ?_
    exact r_zret dJ6_isElementIndex_17 rfl rfl H
  · replace H := H.2 b1
    refine r_iload_n dJ6_isElementIndex_4 rfl rfl ?_
    refine r_aload_n dJ6_isElementIndex_5 rfl rfl ?_
    obtain ⟨k2, H⟩ := H
    refine r_getF fr_J6_7_23 (by decide) dJ6_isElementIndex_6 k2 (by decide) ?_
    refine r_icmp_ge (tgt := 16) dJ6_isElementIndex_9 rfl (fun b3 => ?_) (fun b3 => ?_)
    · replace H := H.1 b3
      refine r_iconst dJ6_isElementIndex_16 rfl ?_
      exact r_zret dJ6_isElementIndex_17 rfl rfl H
    · replace H := H.2 b3
      refine r_iconst dJ6_isElementIndex_12 rfl ?_
      refine r_goto (tgt := 17) dJ6_isElementIndex_13 rfl ?_
      exact r_zret dJ6_isElementIndex_17 rfl rfl H
theorem c_J6_isElementIndex_0 {g : PG} {d : Nat} {l0 : Nat} {l1 : Int32} {h : PH} {Q : Out → PH → Prop} (H : w_J6_isElementIndex_0 g d l0 l1 h Q) : C g (d + 1) m_J6_isElementIndex [.ref l0, .int l1] h Q := C_of_R rfl rfl (Nat.le_of_ble_eq_true rfl) rfl (v_J6_isElementIndex_0 H)
abbrev w_J6_node_47 (g : PG) (d : Nat) (l1 : Int32) (l2 : Nat) (l3 : Int32) (h : PH) (Q : Out → PH → Prop) : Prop := ((l3 ≤ l1) → Q (.inl (some (.ref l2))) h) ∧ ((¬ l3 ≤ l1) → hkd h l2 = 24 ∧ R g d m_J6_node 47 [.null, .int l1, .ref (hG h 555 l2), .int (l3 + (-1))] [] h Q)
theorem v_J6_node_47 {g : PG} {d : Nat} {l1 : Int32} {l2 : Nat} {l3 : Int32} {h : PH} {Q : Out → PH → Prop} (H : w_J6_node_47 g d l1 l2 l3 h Q) : R g d m_J6_node 47 [.null, .int l1, .ref l2, .int l3] [] h Q := by
  refine r_iload_n dJ6_node_47 rfl rfl ?_
  refine r_iload_n dJ6_node_48 rfl rfl ?_
  refine r_icmp_le (tgt := 63) dJ6_node_49 rfl (fun b1 => ?_) (fun b1 => ?_)
  · replace H := H.1 b1
    refine r_aload_n dJ6_node_63 rfl rfl ?_
    exact r_aret dJ6_node_64 rfl H
  · replace H := H.2 b1
    refine r_aload_n dJ6_node_52 rfl rfl ?_
    obtain ⟨k2, H⟩ := H
    refine r_getG fr_J6_30_24 (by decide) dJ6_node_53 k2 (by decide) ?_
    refine r_astore_n dJ6_node_56 rfl (Nat.le_of_ble_eq_true rfl) rfl (slS (slS sl0)) ?_
    refine r_iinc dJ6_node_57 rfl rfl (Nat.le_of_ble_eq_true rfl) rfl (slS (slS (slS sl0))) ?_
    refine r_goto (tgt := 47) dJ6_node_60 rfl ?_
    exact H
abbrev w_J6_node_17 (g : PG) (d : Nat) (l1 : Int32) (l2 : Nat) (l3 : Int32) (h : PH) (Q : Out → PH → Prop) : Prop := ((l1 ≤ l3) → Q (.inl (some (.ref l2))) h) ∧ ((¬ l1 ≤ l3) → hkd h l2 = 24 ∧ R g d m_J6_node 17 [.null, .int l1, .ref (hG h 554 l2), .int (l3 + 1)] [] h Q)
theorem v_J6_node_17 {g : PG} {d : Nat} {l1 : Int32} {l2 : Nat} {l3 : Int32} {h : PH} {Q : Out → PH → Prop} (H : w_J6_node_17 g d l1 l2 l3 h Q) : R g d m_J6_node 17 [.null, .int l1, .ref l2, .int l3] [] h Q := by
  refine r_iload_n dJ6_node_17 rfl rfl ?_
  refine r_iload_n dJ6_node_18 rfl rfl ?_
  refine r_icmp_ge (tgt := 33) dJ6_node_19 rfl (fun b1 => ?_) (fun b1 => ?_)
  · replace H := H.1 b1
    refine r_aload_n dJ6_node_33 rfl rfl ?_
    exact r_aret dJ6_node_34 rfl H
  · replace H := H.2 b1
    refine r_aload_n dJ6_node_22 rfl rfl ?_
    obtain ⟨k2, H⟩ := H
    refine r_getG fr_J6_36_24 (by decide) dJ6_node_23 k2 (by decide) ?_
    refine r_astore_n dJ6_node_26 rfl (Nat.le_of_ble_eq_true rfl) rfl (slS (slS sl0)) ?_
    refine r_iinc dJ6_node_27 rfl rfl (Nat.le_of_ble_eq_true rfl) rfl (slS (slS (slS sl0))) ?_
    refine r_goto (tgt := 17) dJ6_node_30 rfl ?_
    exact H
abbrev w_J6_node_0 (g : PG) (d : Nat) (l0 : Nat) (l1 : Int32) (h : PH) (Q : Out → PH → Prop) : Prop := hkd h l0 = 23 ∧ ((((hF h 43 l0) >>> ((1 : Int32) &&& 31)) ≤ l1) → R g d m_J6_node 47 [.null, .int l1, .ref (hG h 552 l0), .int ((hF h 43 l0) - (1 : Int32))] [] h Q) ∧ ((¬ ((hF h 43 l0) >>> ((1 : Int32) &&& 31)) ≤ l1) → R g d m_J6_node 17 [.null, .int l1, .ref (hG h 551 l0), .int 0] [] h Q)
theorem v_J6_node_0 {g : PG} {d : Nat} {l0 : Nat} {l1 : Int32} {h : PH} {Q : Out → PH → Prop} (H : w_J6_node_0 g d l0 l1 h Q) : R g d m_J6_node 0 [.ref l0, .int l1, .null, .null] [] h Q := by
  refine r_iload_n dJ6_node_0 rfl rfl ?_
  refine r_aload_n dJ6_node_1 rfl rfl ?_
  obtain ⟨k1, H⟩ := H
  refine r_getF fr_J6_7_23 (by decide) dJ6_node_2 k1 (by decide) ?_
  refine r_iconst dJ6_node_5 rfl ?_
  refine r_ishr dJ6_node_6 ?_
  refine r_icmp_ge (tgt := 35) dJ6_node_7 rfl (fun b2 => ?_) (fun b2 => ?_)
  · replace H := H.1 b2
    refine r_aload_n dJ6_node_35 rfl rfl ?_
    refine r_getG fr_J6_27_23 (by decide) dJ6_node_36 k1 (by decide) ?_
    refine r_astore_n dJ6_node_39 rfl (Nat.le_of_ble_eq_true rfl) rfl (slS (slS sl0)) ?_
    refine r_aload_n dJ6_node_40 rfl rfl ?_
    refine r_getF fr_J6_7_23 (by decide) dJ6_node_41 k1 (by decide) ?_
    refine r_iconst dJ6_node_44 rfl ?_
    refine r_isub dJ6_node_45 ?_
    refine r_istore_n dJ6_node_46 rfl (Nat.le_of_ble_eq_true rfl) rfl (slS (slS (slS sl0))) ?_
    exact R.forget H ⟨Or.inr rfl, ⟨Or.inl rfl, ⟨Or.inl rfl, ⟨Or.inl rfl, trivial⟩⟩⟩⟩
  · replace H := H.2 b2
    refine r_aload_n dJ6_node_10 rfl rfl ?_
    refine r_getG fr_J6_18_23 (by decide) dJ6_node_11 k1 (by decide) ?_
    refine r_astore_n dJ6_node_14 rfl (Nat.le_of_ble_eq_true rfl) rfl (slS (slS sl0)) ?_
    refine r_iconst dJ6_node_15 rfl ?_
    refine r_istore_n dJ6_node_16 rfl (Nat.le_of_ble_eq_true rfl) rfl (slS (slS (slS sl0))) ?_
    exact R.forget H ⟨Or.inr rfl, ⟨Or.inl rfl, ⟨Or.inl rfl, ⟨Or.inl rfl, trivial⟩⟩⟩⟩
theorem c_J6_node_0 {g : PG} {d : Nat} {l0 : Nat} {l1 : Int32} {h : PH} {Q : Out → PH → Prop} (H : w_J6_node_0 g d l0 l1 h Q) : C g (d + 1) m_J6_node [.ref l0, .int l1] h Q := C_of_R rfl rfl (Nat.le_of_ble_eq_true rfl) rfl (v_J6_node_0 H)
abbrev w_J6_addLast_0 (g : PG) (d : Nat) (l0 : Nat) (l1 : Nat) (h : PH) (Q : Out → PH → Prop) : Prop := hkd h l0 = 23 ∧ C g d m_J6_linkLast [.ref l0, .ref l1] h (oV (fun h2 => Q (.inl none) h2) (fun r hx => Q (.inr r) hx))
theorem v_J6_addLast_0 {g : PG} {d : Nat} {l0 : Nat} {l1 : Nat} {h : PH} {Q : Out → PH → Prop} (H : w_J6_addLast_0 g d l0 l1 h Q) : R g d m_J6_addLast 0 [.ref l0, .ref l1] [] h Q := by
  refine r_aload_n dJ6_addLast_0 rfl rfl ?_
  refine r_aload_n dJ6_addLast_1 rfl rfl ?_
  obtain ⟨k1, H⟩ := H
  refine r_invV (y := m_J6_linkLast) dJ6_addLast_2 rfl (lw_V q1648 q1649 q1650 q115 q1651) py_J6_linkLast (Nat.le_of_ble_eq_true rfl) (args := [_]) rfl rfl (Nat.le_of_ble_eq_true rfl) k1 (by decide) rfl (C.monoE H (fun o h2 _ x4 K => cont_V K (fun H => ?_) (fun r HX => XR_nc rfl HX)))
  exact r_vret dJ6_addLast_5 rfl H
theorem c_J6_addLast_0 {g : PG} {d : Nat} {l0 : Nat} {l1 : Nat} {h : PH} {Q : Out → PH → Prop} (H : w_J6_addLast_0 g d l0 l1 h Q) : C g (d + 1) m_J6_addLast [.ref l0, .ref l1] h Q := C_of_R rfl rfl (Nat.le_of_ble_eq_true rfl) rfl (v_J6_addLast_0 H)
abbrev w_J6_linkLast_38 (g : PG) (d : Nat) (l0 : Nat) (h : PH) (Q : Out → PH → Prop) : Prop := hkd h l0 = 23 ∧ ∀ h2, h2 = setF 43 l0 ((hF h 43 l0) + (1 : Int32)) h → ∀ h3, h3 = setF 34 l0 ((hF h2 34 l0) + (1 : Int32)) h2 → Q (.inl none) h3
theorem v_J6_linkLast_38 {g : PG} {d : Nat} {l0 : Nat} {h : PH} {Q : Out → PH → Prop} (H : w_J6_linkLast_38 g d l0 h Q) : R g d m_J6_linkLast 38 [.ref l0, .null, .null, .null] [] h Q := by
  refine r_aload_n dJ6_linkLast_38 rfl rfl ?_
  refine r_dup dJ6_linkLast_39 rfl ?_
  obtain ⟨k1, H⟩ := H
  refine r_getF fr_J6_7_23 (by decide) dJ6_linkLast_40 k1 (by decide) ?_
  refine r_iconst dJ6_linkLast_43 rfl ?_
  refine r_iadd dJ6_linkLast_44 ?_
  replace H := H _ rfl
  refine r_putF fw_J6_7_23 (by decide) dJ6_linkLast_45 k1 (by decide) rfl rfl ?_
  refine r_aload_n dJ6_linkLast_48 rfl rfl ?_
  refine r_dup dJ6_linkLast_49 rfl ?_
  refine r_getF fr_J6_33_23 (by decide) dJ6_linkLast_50 k1 (by decide) ?_
  refine r_iconst dJ6_linkLast_53 rfl ?_
  refine r_iadd dJ6_linkLast_54 ?_
  replace H := H _ rfl
  refine r_putF fw_J6_33_23 (by decide) dJ6_linkLast_55 k1 (by decide) rfl rfl ?_
  exact r_vret dJ6_linkLast_58 rfl H
abbrev w_J6_linkLast_0 (g : PG) (d : Nat) (l0 : Nat) (l1 : Nat) (h : PH) (Q : Out → PH → Prop) : Prop := hkd h l0 = 23 ∧ ∀ h2, h2 = hnew 24 0 4 h → 0 < (hnx h) ∧ C g d m_J44_init [.ref (hnx h), .ref (hG h 552 l0), .ref l1, .ref (0 : Nat)] h2 (oV (fun h4 => hkd h4 l0 = 23 ∧ ∀ h8, h8 = setG 552 l0 (hnx h) h4 → ((¬ (hG h 552 l0) = 0) → hkd h8 (hG h 552 l0) = 24 ∧ ∀ h11, h11 = setG 554 (hG h 552 l0) (hnx h) h8 → w_J6_linkLast_38 g d l0 h11 Q) ∧ (((hG h 552 l0) = 0) → ∀ h12, h12 = setG 551 l0 (hnx h) h8 → w_J6_linkLast_38 g d l0 h12 Q)) (fun r hx => Q (.inr r) hx))
theorem v_J6_linkLast_0 {g : PG} {d : Nat} {l0 : Nat} {l1 : Nat} {h : PH} {Q : Out → PH → Prop} (H : w_J6_linkLast_0 g d l0 l1 h Q) : R g d m_J6_linkLast 0 [.ref l0, .ref l1, .null, .null] [] h Q := by
  refine r_aload_n dJ6_linkLast_0 rfl rfl ?_
  obtain ⟨k1, H⟩ := H
  refine r_getG fr_J6_27_23 (by decide) dJ6_linkLast_1 k1 (by decide) ?_
  refine r_astore_n dJ6_linkLast_4 rfl (Nat.le_of_ble_eq_true rfl) rfl (slS (slS sl0)) ?_
  replace H := H _ rfl
  refine r_new (ci := 24) dJ6_linkLast_5 rfl (by decide) q1652 q1653 q160 ?_
  refine r_dup dJ6_linkLast_8 rfl ?_
  refine r_aload_n dJ6_linkLast_9 rfl rfl ?_
  refine r_aload_n dJ6_linkLast_10 rfl rfl ?_
  refine r_null dJ6_linkLast_11 ?_
  obtain ⟨k3, H⟩ := H
  refine r_invI (y := m_J44_init) dJ6_linkLast_12 rfl rfl q1656 q160 q1654 q1655 rfl py_J44_init (Nat.le_of_ble_eq_true rfl) (args := [_, _, _]) rfl rfl (Nat.le_of_ble_eq_true rfl) k3 (C.monoE H (fun o h4 _ x6 K => cont_V K (fun H => ?_) (fun r HX => XR_nc rfl HX)))
  refine r_astore_n dJ6_linkLast_15 rfl (Nat.le_of_ble_eq_true rfl) rfl (slS (slS (slS sl0))) ?_
  refine r_aload_n dJ6_linkLast_16 rfl rfl ?_
  refine r_aload_n dJ6_linkLast_17 rfl rfl ?_
  obtain ⟨k7, H⟩ := H
  replace H := H _ rfl
  refine r_putG fw_J6_27_23 (by decide) dJ6_linkLast_18 k7 (by decide) rfl ?_
  refine r_aload_n dJ6_linkLast_21 rfl rfl ?_
  refine r_ifnonnull (tgt := 33) dJ6_linkLast_22 rfl (fun b9 => ?_) (fun b9 => ?_)
  · replace H := H.1 b9
    refine r_aload_n dJ6_linkLast_33 rfl rfl ?_
    refine r_aload_n dJ6_linkLast_34 rfl rfl ?_
    obtain ⟨k10, H⟩ := H
    replace H := H _ rfl
    refine r_putG fw_J6_36_24 (by decide) dJ6_linkLast_35 k10 (by decide) rfl ?_
    exact R.forget (v_J6_linkLast_38 H) ⟨Or.inl rfl, ⟨Or.inr rfl, ⟨Or.inr rfl, ⟨Or.inr rfl, trivial⟩⟩⟩⟩
  · replace H := H.2 b9
    refine r_aload_n dJ6_linkLast_25 rfl rfl ?_
    refine r_aload_n dJ6_linkLast_26 rfl rfl ?_
    replace H := H _ rfl
    refine r_putG fw_J6_18_23 (by decide) dJ6_linkLast_27 k7 (by decide) rfl ?_
    refine r_goto (tgt := 38) dJ6_linkLast_30 rfl ?_
    exact R.forget (v_J6_linkLast_38 H) ⟨Or.inl rfl, ⟨Or.inr rfl, ⟨Or.inr rfl, ⟨Or.inr rfl, trivial⟩⟩⟩⟩
theorem c_J6_linkLast_0 {g : PG} {d : Nat} {l0 : Nat} {l1 : Nat} {h : PH} {Q : Out → PH → Prop} (H : w_J6_linkLast_0 g d l0 l1 h Q) : C g (d + 1) m_J6_linkLast [.ref l0, .ref l1] h Q := C_of_R rfl rfl (Nat.le_of_ble_eq_true rfl) rfl (v_J6_linkLast_0 H)
abbrev w_J6_listIterator_0 (g : PG) (d : Nat) (l0 : Nat) (l1 : Int32) (h : PH) (Q : Out → PH → Prop) : Prop := hkd h l0 = 23 ∧ C g d m_J6_checkPositionIndex [.ref l0, .int l1] h (oV (fun h2 => ∀ h5, h5 = hnew 25 0 6 h2 → 0 < (hnx h2) ∧ C g d m_J41_init [.ref (hnx h2), .ref l0, .int l1] h5 (oV (fun h7 => Q (.inl (some (.ref (hnx h2)))) h7) (fun r hx => Q (.inr r) hx))) (fun r hx => Q (.inr r) hx))
theorem v_J6_listIterator_0 {g : PG} {d : Nat} {l0 : Nat} {l1 : Int32} {h : PH} {Q : Out → PH → Prop} (H : w_J6_listIterator_0 g d l0 l1 h Q) : R g d m_J6_listIterator 0 [.ref l0, .int l1] [] h Q := by
  refine r_aload_n dJ6_listIterator_0 rfl rfl ?_
  refine r_iload_n dJ6_listIterator_1 rfl rfl ?_
  obtain ⟨k1, H⟩ := H
  refine r_invV (y := m_J6_checkPositionIndex) dJ6_listIterator_2 rfl (lw_V q1857 q1859 qp20 q115 q1860) py_J6_checkPositionIndex (Nat.le_of_ble_eq_true rfl) (args := [_]) rfl rfl (Nat.le_of_ble_eq_true rfl) k1 (by decide) rfl (C.monoE H (fun o h2 _ x4 K => cont_V K (fun H => ?_) (fun r HX => XR_nc rfl HX)))
  replace H := H _ rfl
  refine r_new (ci := 25) dJ6_listIterator_5 rfl (by decide) q1865 q1866 q157 ?_
  refine r_dup dJ6_listIterator_8 rfl ?_
  refine r_aload_n dJ6_listIterator_9 rfl rfl ?_
  refine r_iload_n dJ6_listIterator_10 rfl rfl ?_
  obtain ⟨k6, H⟩ := H
  refine r_invI (y := m_J41_init) dJ6_listIterator_11 rfl rfl q1869 q157 q1867 q1868 rfl py_J41_init (Nat.le_of_ble_eq_true rfl) (args := [_, _]) rfl rfl (Nat.le_of_ble_eq_true rfl) k6 (C.monoE H (fun o h7 _ x9 K => cont_V K (fun H => ?_) (fun r HX => XR_nc rfl HX)))
  exact r_aret dJ6_listIterator_14 rfl H
theorem c_J6_listIterator_0 {g : PG} {d : Nat} {l0 : Nat} {l1 : Int32} {h : PH} {Q : Out → PH → Prop} (H : w_J6_listIterator_0 g d l0 l1 h Q) : C g (d + 1) m_J6_listIterator [.ref l0, .int l1] h Q := C_of_R rfl rfl (Nat.le_of_ble_eq_true rfl) rfl (v_J6_listIterator_0 H)
abbrev w_J6_checkPositionIndex_0 (g : PG) (d : Nat) (l0 : Nat) (l1 : Int32) (h : PH) (Q : Out → PH → Prop) : Prop := hkd h l0 = 23 ∧ C g d m_J6_isPositionIndex [.ref l0, .int l1] h (oI (fun v3 h2 => ((¬ v3 = 0) → Q (.inl none) h2) ∧ ((v3 = 0) → False)) (fun r hx => Q (.inr r) hx))
theorem v_J6_checkPositionIndex_0 {g : PG} {d : Nat} {l0 : Nat} {l1 : Int32} {h : PH} {Q : Out → PH → Prop} (H : w_J6_checkPositionIndex_0 g d l0 l1 h Q) : R g d m_J6_checkPositionIndex 0 [.ref l0, .int l1] [] h Q := by
  refine r_aload_n dJ6_checkPositionIndex_0 rfl rfl ?_
  refine r_iload_n dJ6_checkPositionIndex_1 rfl rfl ?_
  obtain ⟨k1, H⟩ := H
  refine r_invV (y := m_J6_isPositionIndex) dJ6_checkPositionIndex_2 rfl (lw_V q1861 q1863 qp21 q115 q1864) py_J6_isPositionIndex (Nat.le_of_ble_eq_true rfl) (args := [_]) rfl rfl (Nat.le_of_ble_eq_true rfl) k1 (by decide) rfl (C.monoE H (fun o h2 _ x4 K => cont_I K (fun v3 H => ?_) (fun r HX => XR_nc rfl HX)))
  refine r_if_ne (tgt := 21) dJ6_checkPositionIndex_5 rfl (fun b5 => ?_) (fun b5 => ?_)
  · replace H := H.1 b5
    exact r_vret dJ6_checkPositionIndex_21 rfl H
  · replace H := H.2 b5
    exact H.elim
theorem c_J6_checkPositionIndex_0 {g : PG} {d : Nat} {l0 : Nat} {l1 : Int32} {h : PH} {Q : Out → PH → Prop} (H : w_J6_checkPositionIndex_0 g d l0 l1 h Q) : C g (d + 1) m_J6_checkPositionIndex [.ref l0, .int l1] h Q := C_of_R rfl rfl (Nat.le_of_ble_eq_true rfl) rfl (v_J6_checkPositionIndex_0 H)
abbrev w_J6_isPositionIndex_0 (g : PG) (d : Nat) (l0 : Nat) (l1 : Int32) (h : PH) (Q : Out → PH → Prop) : Prop := ((l1 < 0) → Q (.inl (some (.int 0))) h) ∧ ((¬ l1 < 0) → hkd h l0 = 23 ∧ (((hF h 43 l0) < l1) → Q (.inl (some (.int 0))) h) ∧ ((¬ (hF h 43 l0) < l1) → Q (.inl (some (.int 1))) h))
theorem v_J6_isPositionIndex_0 {g : PG} {d : Nat} {l0 : Nat} {l1 : Int32} {h : PH} {Q : Out → PH → Prop} (H : w_J6_isPositionIndex_0 g d l0 l1 h Q) : R g d m_J6_isPositionIndex 0 [.ref l0, .int l1] [] h Q := by
  refine r_iload_n dJ6_isPositionIndex_0 rfl rfl ?_
  refine r_if_lt (tgt := 16) dJ6_isPositionIndex_1 rfl (fun b1 => ?_) (fun b1 => ?_)
  · replace H := H.1 b1
    refine r_iconst dJ6_isPositionIndex_16 rfl ?_
    exact r_zret dJ6_isPositionIndex_17 rfl rfl H
  · replace H := H.2 b1
    refine r_iload_n dJ6_isPositionIndex_4 rfl rfl ?_
    refine r_aload_n dJ6_isPositionIndex_5 rfl rfl ?_
    obtain ⟨k2, H⟩ := H
    refine r_getF fr_J6_7_23 (by decide) dJ6_isPositionIndex_6 k2 (by decide) ?_
    refine r_icmp_gt (tgt := 16) dJ6_isPositionIndex_9 rfl (fun b3 => ?_) (fun b3 => ?_)
    · replace H := H.1 b3
      refine r_iconst dJ6_isPositionIndex_16 rfl ?_
      exact r_zret dJ6_isPositionIndex_17 rfl rfl H
    · replace H := H.2 b3
      refine r_iconst dJ6_isPositionIndex_12 rfl ?_
      refine r_goto (tgt := 17) dJ6_isPositionIndex_13 rfl ?_
      exact r_zret dJ6_isPositionIndex_17 rfl rfl H
theorem c_J6_isPositionIndex_0 {g : PG} {d : Nat} {l0 : Nat} {l1 : Int32} {h : PH} {Q : Out → PH → Prop} (H : w_J6_isPositionIndex_0 g d l0 l1 h Q) : C g (d + 1) m_J6_isPositionIndex [.ref l0, .int l1] h Q := C_of_R rfl rfl (Nat.le_of_ble_eq_true rfl) rfl (v_J6_isPositionIndex_0 H)
abbrev w_J6_addAll_0 (g : PG) (d : Nat) (l0 : Nat) (l1 : Nat) (h : PH) (Q : Out → PH → Prop) : Prop := hkd h l0 = 23 ∧ C g d m_J6_addAll_2 [.ref l0, .int (hF h 43 l0), .ref l1] h (oI (fun v3 h2 => narrow .boolean (.int v3) = .int v3 ∧ Q (.inl (some (.int v3))) h2) (fun r hx => Q (.inr r) hx))
theorem v_J6_addAll_0 {g : PG} {d : Nat} {l0 : Nat} {l1 : Nat} {h : PH} {Q : Out → PH → Prop} (H : w_J6_addAll_0 g d l0 l1 h Q) : R g d m_J6_addAll 0 [.ref l0, .ref l1] [] h Q := by
  refine r_aload_n dJ6_addAll_0 rfl rfl ?_
  refine r_aload_n dJ6_addAll_1 rfl rfl ?_
  obtain ⟨k1, H⟩ := H
  refine r_getF fr_J6_7_23 (by decide) dJ6_addAll_2 k1 (by decide) ?_
  refine r_aload_n dJ6_addAll_5 rfl rfl ?_
  refine r_invV (y := m_J6_addAll_2) dJ6_addAll_6 rfl (lw_V q1946 q1947 q1948 q115 q1949) py_J6_addAll_2 (Nat.le_of_ble_eq_true rfl) (args := [_, _]) rfl rfl (Nat.le_of_ble_eq_true rfl) k1 (by decide) rfl (C.monoE H (fun o h2 _ x4 K => cont_I K (fun v3 H => ?_) (fun r HX => XR_nc rfl HX)))
  exact r_zret dJ6_addAll_9 rfl H.1 H.2
theorem c_J6_addAll_0 {g : PG} {d : Nat} {l0 : Nat} {l1 : Nat} {h : PH} {Q : Out → PH → Prop} (H : w_J6_addAll_0 g d l0 l1 h Q) : C g (d + 1) m_J6_addAll [.ref l0, .ref l1] h Q := C_of_R rfl rfl (Nat.le_of_ble_eq_true rfl) rfl (v_J6_addAll_0 H)
abbrev w_J6_addAll_2_159 (g : PG) (d : Nat) (l0 : Nat) (l4 : Int32) (h : PH) (Q : Out → PH → Prop) : Prop := hkd h l0 = 23 ∧ ∀ h2, h2 = setF 43 l0 ((hF h 43 l0) + l4) h → ∀ h3, h3 = setF 34 l0 ((hF h2 34 l0) + (1 : Int32)) h2 → Q (.inl (some (.int 1))) h3
theorem v_J6_addAll_2_159 {g : PG} {d : Nat} {l0 : Nat} {l4 : Int32} {h : PH} {Q : Out → PH → Prop} (H : w_J6_addAll_2_159 g d l0 l4 h Q) : R g d m_J6_addAll_2 159 [.ref l0, .null, .null, .null, .int l4, .null, .null, .null, .null, .null, .null, .null, .null] [] h Q := by
  refine r_aload_n dJ6_addAll_2_159 rfl rfl ?_
  refine r_dup dJ6_addAll_2_160 rfl ?_
  obtain ⟨k1, H⟩ := H
  refine r_getF fr_J6_7_23 (by decide) dJ6_addAll_2_161 k1 (by decide) ?_
  refine r_iload dJ6_addAll_2_164 rfl ?_
  refine r_iadd dJ6_addAll_2_166 ?_
  replace H := H _ rfl
  refine r_putF fw_J6_7_23 (by decide) dJ6_addAll_2_167 k1 (by decide) rfl rfl ?_
  refine r_aload_n dJ6_addAll_2_170 rfl rfl ?_
  refine r_dup dJ6_addAll_2_171 rfl ?_
  refine r_getF fr_J6_33_23 (by decide) dJ6_addAll_2_172 k1 (by decide) ?_
  refine r_iconst dJ6_addAll_2_175 rfl ?_
  refine r_iadd dJ6_addAll_2_176 ?_
  replace H := H _ rfl
  refine r_putF fw_J6_33_23 (by decide) dJ6_addAll_2_177 k1 (by decide) rfl rfl ?_
  refine r_iconst dJ6_addAll_2_180 rfl ?_
  exact r_zret dJ6_addAll_2_181 rfl rfl H
abbrev w_J6_addAll_2_121 (g : PG) (d : Nat) (l0 : Nat) (l4 : Int32) (l6 : Nat) (l7 : Nat) (l8 : Int32) (l9 : Int32) (l12 : Nat) (h : PH) (Q : Out → PH → Prop) : Prop := R g d m_J6_addAll_2 68 [.ref l0, .null, .null, .null, .int l4, .ref l12, .ref l6, .ref l7, .int l8, .int (l9 + 1), .null, .null, .null] [] h Q
theorem v_J6_addAll_2_121 {g : PG} {d : Nat} {l0 : Nat} {l4 : Int32} {l6 : Nat} {l7 : Nat} {l8 : Int32} {l9 : Int32} {l12 : Nat} {h : PH} {Q : Out → PH → Prop} (H : w_J6_addAll_2_121 g d l0 l4 l6 l7 l8 l9 l12 h Q) : R g d m_J6_addAll_2 121 [.ref l0, .null, .null, .null, .int l4, .null, .ref l6, .ref l7, .int l8, .int l9, .null, .null, .ref l12] [] h Q := by
  refine r_aload dJ6_addAll_2_121 rfl ?_
  refine r_astore dJ6_addAll_2_123 (Nat.le_of_ble_eq_true rfl) rfl (slS (slS (slS (slS (slS sl0))))) ?_
  refine r_iinc dJ6_addAll_2_125 rfl rfl (Nat.le_of_ble_eq_true rfl) rfl (slS (slS (slS (slS (slS (slS (slS (slS (slS sl0))))))))) ?_
  refine r_goto (tgt := 68) dJ6_addAll_2_128 rfl ?_
  exact R.forget H ⟨Or.inl rfl, ⟨Or.inl rfl, ⟨Or.inl rfl, ⟨Or.inl rfl, ⟨Or.inl rfl, ⟨Or.inl rfl, ⟨Or.inl rfl, ⟨Or.inl rfl, ⟨Or.inl rfl, ⟨Or.inl rfl, ⟨Or.inl rfl, ⟨Or.inl rfl, ⟨Or.inr rfl, trivial⟩⟩⟩⟩⟩⟩⟩⟩⟩⟩⟩⟩⟩
abbrev w_J6_addAll_2_68 (g : PG) (d : Nat) (l0 : Nat) (l4 : Int32) (l5 : Nat) (l6 : Nat) (l7 : Nat) (l8 : Int32) (l9 : Int32) (h : PH) (Q : Out → PH → Prop) : Prop := ((l8 ≤ l9) → ((¬ l6 = 0) → hkd h l5 = 24 ∧ ∀ h4, h4 = setG 554 l5 l6 h → hkd h4 l6 = 24 ∧ ∀ h6, h6 = setG 555 l6 l5 h4 → w_J6_addAll_2_159 g d l0 l4 h6 Q) ∧ ((l6 = 0) → hkd h l0 = 23 ∧ ∀ h8, h8 = setG 552 l0 l5 h → w_J6_addAll_2_159 g d l0 l4 h8 Q)) ∧ ((¬ l8 ≤ l9) → hkd h l7 / 100 = 6 ∧ vp_in l9 (hln h l7) ∧ ∀ h11, h11 = hnew 24 0 4 h → 0 < (hnx h) ∧ C g d m_J44_init [.ref (hnx h), .ref l5, .ref (hB h l7 l9.toNatClampNeg), .ref (0 : Nat)] h11 (oV (fun h13 => ((¬ l5 = 0) → hkd h13 l5 = 24 ∧ ∀ h18, h18 = setG 554 l5 (hnx h) h13 → w_J6_addAll_2_121 g d l0 l4 l6 l7 l8 l9 (hnx h) h18 Q) ∧ ((l5 = 0) → hkd h13 l0 = 23 ∧ ∀ h20, h20 = setG 551 l0 (hnx h) h13 → w_J6_addAll_2_121 g d l0 l4 l6 l7 l8 l9 (hnx h) h20 Q)) (fun r hx => Q (.inr r) hx)))
theorem v_J6_addAll_2_68 {g : PG} {d : Nat} {l0 : Nat} {l4 : Int32} {l5 : Nat} {l6 : Nat} {l7 : Nat} {l8 : Int32} {l9 : Int32} {h : PH} {Q : Out → PH → Prop} (H : w_J6_addAll_2_68 g d l0 l4 l5 l6 l7 l8 l9 h Q) : R g d m_J6_addAll_2 68 [.ref l0, .null, .null, .null, .int l4, .ref l5, .ref l6, .ref l7, .int l8, .int l9, .null, .null, .null] [] h Q := by
  refine r_iload dJ6_addAll_2_68 rfl ?_
  refine r_iload dJ6_addAll_2_70 rfl ?_
  refine r_icmp_ge (tgt := 131) dJ6_addAll_2_72 rfl (fun b1 => ?_) (fun b1 => ?_)
  · replace H := H.1 b1
    refine r_aload dJ6_addAll_2_131 rfl ?_
    refine r_ifnonnull (tgt := 145) dJ6_addAll_2_133 rfl (fun b2 => ?_) (fun b2 => ?_)
    · replace H := H.1 b2
      refine r_aload dJ6_addAll_2_145 rfl ?_
      refine r_aload dJ6_addAll_2_147 rfl ?_
      obtain ⟨k3, H⟩ := H
      replace H := H _ rfl
      refine r_putG fw_J6_36_24 (by decide) dJ6_addAll_2_149 k3 (by decide) rfl ?_
      refine r_aload dJ6_addAll_2_152 rfl ?_
      refine r_aload dJ6_addAll_2_154 rfl ?_
      obtain ⟨k5, H⟩ := H
      replace H := H _ rfl
      refine r_putG fw_J6_30_24 (by decide) dJ6_addAll_2_156 k5 (by decide) rfl ?_
      exact R.forget (v_J6_addAll_2_159 H) ⟨Or.inl rfl, ⟨Or.inl rfl, ⟨Or.inl rfl, ⟨Or.inl rfl, ⟨Or.inl rfl, ⟨Or.inr rfl, ⟨Or.inr rfl, ⟨Or.inr rfl, ⟨Or.inr rfl, ⟨Or.inr rfl, ⟨Or.inl rfl, ⟨Or.inl rfl, ⟨Or.inl rfl, trivial⟩⟩⟩⟩⟩⟩⟩⟩⟩⟩⟩⟩⟩
    · replace H := H.2 b2
      refine r_aload_n dJ6_addAll_2_136 rfl rfl ?_
      refine r_aload dJ6_addAll_2_137 rfl ?_
      obtain ⟨k7, H⟩ := H
      replace H := H _ rfl
      refine r_putG fw_J6_27_23 (by decide) dJ6_addAll_2_139 k7 (by decide) rfl ?_
      refine r_goto (tgt := 159) dJ6_addAll_2_142 rfl ?_
      exact R.forget (v_J6_addAll_2_159 H) ⟨Or.inl rfl, ⟨Or.inl rfl, ⟨Or.inl rfl, ⟨Or.inl rfl, ⟨Or.inl rfl, ⟨Or.inr rfl, ⟨Or.inr rfl, ⟨Or.inr rfl, ⟨Or.inr rfl, ⟨Or.inr rfl, ⟨Or.inl rfl, ⟨Or.inl rfl, ⟨Or.inl rfl, trivial⟩⟩⟩⟩⟩⟩⟩⟩⟩⟩⟩⟩⟩
  · replace H := H.2 b1
    refine r_aload dJ6_addAll_2_75 rfl ?_
    refine r_iload dJ6_addAll_2_77 rfl ?_
    obtain ⟨k9, H⟩ := H
    obtain ⟨k10, H⟩ := H
    refine r_aald dJ6_addAll_2_79 (m := 6) (by decide) k9 k10 ?_
    refine r_astore dJ6_addAll_2_80 (Nat.le_of_ble_eq_true rfl) rfl (slS (slS (slS (slS (slS (slS (slS (slS (slS (slS sl0)))))))))) ?_
    refine r_aload dJ6_addAll_2_82 rfl ?_
    refine r_astore dJ6_addAll_2_84 (Nat.le_of_ble_eq_true rfl) rfl (slS (slS (slS (slS (slS (slS (slS (slS (slS (slS (slS sl0))))))))))) ?_
    replace H := H _ rfl
    refine r_new (ci := 24) dJ6_addAll_2_86 rfl (by decide) q1652 q1653 q160 ?_
    refine r_dup dJ6_addAll_2_89 rfl ?_
    refine r_aload dJ6_addAll_2_90 rfl ?_
    refine r_aload dJ6_addAll_2_92 rfl ?_
    refine r_null dJ6_addAll_2_94 ?_
    obtain ⟨k12, H⟩ := H
    refine r_invI (y := m_J44_init) dJ6_addAll_2_95 rfl rfl q1656 q160 q1654 q1655 rfl py_J44_init (Nat.le_of_ble_eq_true rfl) (args := [_, _, _]) rfl rfl (Nat.le_of_ble_eq_true rfl) k12 (C.monoE H (fun o h13 _ x15 K => cont_V K (fun H => ?_) (fun r HX => XR_nc rfl HX)))
    refine r_astore dJ6_addAll_2_98 (Nat.le_of_ble_eq_true rfl) rfl (slS (slS (slS (slS (slS (slS (slS (slS (slS (slS (slS (slS sl0)))))))))))) ?_
    refine r_aload dJ6_addAll_2_100 rfl ?_
    refine r_ifnonnull (tgt := 114) dJ6_addAll_2_102 rfl (fun b16 => ?_) (fun b16 => ?_)
    · replace H := H.1 b16
      refine r_aload dJ6_addAll_2_114 rfl ?_
      refine r_aload dJ6_addAll_2_116 rfl ?_
      obtain ⟨k17, H⟩ := H
      replace H := H _ rfl
      refine r_putG fw_J6_36_24 (by decide) dJ6_addAll_2_118 k17 (by decide) rfl ?_
      exact R.forget (v_J6_addAll_2_121 H) ⟨Or.inl rfl, ⟨Or.inl rfl, ⟨Or.inl rfl, ⟨Or.inl rfl, ⟨Or.inl rfl, ⟨Or.inr rfl, ⟨Or.inl rfl, ⟨Or.inl rfl, ⟨Or.inl rfl, ⟨Or.inl rfl, ⟨Or.inr rfl, ⟨Or.inr rfl, ⟨Or.inl rfl, trivial⟩⟩⟩⟩⟩⟩⟩⟩⟩⟩⟩⟩⟩
    · replace H := H.2 b16
      refine r_aload_n dJ6_addAll_2_105 rfl rfl ?_
      refine r_aload dJ6_addAll_2_106 rfl ?_
      obtain ⟨k19, H⟩ := H
      replace H := H _ rfl
      refine r_putG fw_J6_18_23 (by decide) dJ6_addAll_2_108 k19 (by decide) rfl ?_
      refine r_goto (tgt := 121) dJ6_addAll_2_111 rfl ?_
      exact R.forget (v_J6_addAll_2_121 H) ⟨Or.inl rfl, ⟨Or.inl rfl, ⟨Or.inl rfl, ⟨Or.inl rfl, ⟨Or.inl rfl, ⟨Or.inr rfl, ⟨Or.inl rfl, ⟨Or.inl rfl, ⟨Or.inl rfl, ⟨Or.inl rfl, ⟨Or.inr rfl, ⟨Or.inr rfl, ⟨Or.inl rfl, trivial⟩⟩⟩⟩⟩⟩⟩⟩⟩⟩⟩⟩⟩
abbrev w_J6_addAll_2_57 (g : PG) (d : Nat) (l0 : Nat) (l3 : Nat) (l4 : Int32) (l5 : Nat) (l6 : Nat) (h : PH) (Q : Out → PH → Prop) : Prop := hkd h l3 / 100 = 6 ∧ R g d m_J6_addAll_2 68 [.ref l0, .null, .null, .null, .int l4, .ref l5, .ref l6, .ref l3, .int (nI (hln h l3)), .int 0, .null, .null, .null] [] h Q
theorem v_J6_addAll_2_57 {g : PG} {d : Nat} {l0 : Nat} {l3 : Nat} {l4 : Int32} {l5 : Nat} {l6 : Nat} {h : PH} {Q : Out → PH → Prop} (H : w_J6_addAll_2_57 g d l0 l3 l4 l5 l6 h Q) : R g d m_J6_addAll_2 57 [.ref l0, .null, .null, .ref l3, .int l4, .ref l5, .ref l6, .null, .null, .null, .null, .null, .null] [] h Q := by
  refine r_aload_n dJ6_addAll_2_57 rfl rfl ?_
  refine r_astore dJ6_addAll_2_58 (Nat.le_of_ble_eq_true rfl) rfl (slS (slS (slS (slS (slS (slS (slS sl0))))))) ?_
  refine r_aload dJ6_addAll_2_60 rfl ?_
  obtain ⟨k1, H⟩ := H
  refine r_alen (m := 6) dJ6_addAll_2_62 (by decide) k1 ?_
  refine r_istore dJ6_addAll_2_63 (Nat.le_of_ble_eq_true rfl) rfl (slS (slS (slS (slS (slS (slS (slS (slS sl0)))))))) ?_
  refine r_iconst dJ6_addAll_2_65 rfl ?_
  refine r_istore dJ6_addAll_2_66 (Nat.le_of_ble_eq_true rfl) rfl (slS (slS (slS (slS (slS (slS (slS (slS (slS sl0))))))))) ?_
  exact R.forget H ⟨Or.inl rfl, ⟨Or.inl rfl, ⟨Or.inl rfl, ⟨Or.inr rfl, ⟨Or.inl rfl, ⟨Or.inl rfl, ⟨Or.inl rfl, ⟨Or.inl rfl, ⟨Or.inl rfl, ⟨Or.inl rfl, ⟨Or.inl rfl, ⟨Or.inl rfl, ⟨Or.inl rfl, trivial⟩⟩⟩⟩⟩⟩⟩⟩⟩⟩⟩⟩⟩
abbrev w_J6_addAll_2_0 (g : PG) (d : Nat) (l0 : Nat) (l1 : Int32) (l2 : Nat) (h : PH) (Q : Out → PH → Prop) : Prop := hkd h l0 = 23 ∧ C g d m_J6_checkPositionIndex [.ref l0, .int l1] h (oV (fun h2 => hkd h2 l2 = 23 ∧ C g d m_J6_toArray [.ref l2] h2 (oR (fun v7 h6 => hkd h6 v7 / 100 = 6 ∧ ((¬ (nI (hln h6 v7)) = 0) → ((¬ l1 = (hF h6 43 l0)) → C g d m_J6_node [.ref l0, .int l1] h6 (oR (fun v13 h12 => hkd h12 v13 = 24 ∧ w_J6_addAll_2_57 g d l0 v7 (nI (hln h6 v7)) (hG h12 555 v13) v13 h12 Q) (fun r hx => Q (.inr r) hx))) ∧ ((l1 = (hF h6 43 l0)) → w_J6_addAll_2_57 g d l0 v7 (nI (hln h6 v7)) (hG h6 552 l0) (0 : Nat) h6 Q)) ∧ (((nI (hln h6 v7)) = 0) → Q (.inl (some (.int 0))) h6)) (fun r hx => Q (.inr r) hx))) (fun r hx => Q (.inr r) hx))
theorem v_J6_addAll_2_0 {g : PG} {d : Nat} {l0 : Nat} {l1 : Int32} {l2 : Nat} {h : PH} {Q : Out → PH → Prop} (H : w_J6_addAll_2_0 g d l0 l1 l2 h Q) : R g d m_J6_addAll_2 0 [.ref l0, .int l1, .ref l2, .null, .null, .null, .null, .null, .null, .null, .null, .null, .null] [] h Q := by
  refine r_aload_n dJ6_addAll_2_0 rfl rfl ?_
  refine r_iload_n dJ6_addAll_2_1 rfl rfl ?_
  obtain ⟨k1, H⟩ := H
  refine r_invV (y := m_J6_checkPositionIndex) dJ6_addAll_2_2 rfl (lw_V q1857 q1859 qp20 q115 q1860) py_J6_checkPositionIndex (Nat.le_of_ble_eq_true rfl) (args := [_]) rfl rfl (Nat.le_of_ble_eq_true rfl) k1 (by decide) rfl (C.monoE H (fun o h2 _ x4 K => cont_V K (fun H => ?_) (fun r HX => XR_nc rfl HX)))
  refine r_aload_n dJ6_addAll_2_5 rfl rfl ?_
  obtain ⟨k5, H⟩ := H
  refine r_invF (y := m_J6_toArray) (Cn := "java/util/LinkedList") (x := ⟨"java/util/Collection", "toArray", "()[Ljava/lang/Object;"⟩) dJ6_addAll_2_6 rfl (lw_F q1951 q1982 q1984 q115 q1986) fw_t26 (n := 0) (by decide +kernel) (Nat.le_of_ble_eq_true rfl) (args := []) rfl rfl (Nat.le_of_ble_eq_true rfl) k5 (by decide) rfl (C.monoE H (fun o h6 _ x8 K => cont_R K (fun v7 H => ?_) (fun r HX => XR_nc rfl HX)))
  refine r_astore_n dJ6_addAll_2_11 rfl (Nat.le_of_ble_eq_true rfl) rfl (slS (slS (slS sl0))) ?_
  refine r_aload_n dJ6_addAll_2_12 rfl rfl ?_
  obtain ⟨k9, H⟩ := H
  refine r_alen (m := 6) dJ6_addAll_2_13 (by decide) k9 ?_
  refine r_istore dJ6_addAll_2_14 (Nat.le_of_ble_eq_true rfl) rfl (slS (slS (slS (slS sl0)))) ?_
  refine r_iload dJ6_addAll_2_16 rfl ?_
  refine r_if_ne (tgt := 23) dJ6_addAll_2_18 rfl (fun b10 => ?_) (fun b10 => ?_)
  · replace H := H.1 b10
    refine r_iload_n dJ6_addAll_2_23 rfl rfl ?_
    refine r_aload_n dJ6_addAll_2_24 rfl rfl ?_
    refine r_getF fr_J6_7_23 (by decide) dJ6_addAll_2_25 (x8.kd (x4.kd k1 (by decide)) (by decide)) (by decide) ?_
    refine r_icmp_ne (tgt := 43) dJ6_addAll_2_28 rfl (fun b11 => ?_) (fun b11 => ?_)
    · replace H := H.1 b11
      refine r_aload_n dJ6_addAll_2_43 rfl rfl ?_
      refine r_iload_n dJ6_addAll_2_44 rfl rfl ?_
      refine r_invV (y := m_J6_node) dJ6_addAll_2_45 rfl (lw_V q1023 q1024 q1025 q115 q1026) py_J6_node (Nat.le_of_ble_eq_true rfl) (args := [_]) rfl rfl (Nat.le_of_ble_eq_true rfl) (x8.kd (x4.kd k1 (by decide)) (by decide)) (by decide) rfl (C.monoE H (fun o h12 _ x14 K => cont_R K (fun v13 H => ?_) (fun r HX => XR_nc rfl HX)))
      refine r_astore dJ6_addAll_2_48 (Nat.le_of_ble_eq_true rfl) rfl (slS (slS (slS (slS (slS (slS sl0)))))) ?_
      refine r_aload dJ6_addAll_2_50 rfl ?_
      obtain ⟨k15, H⟩ := H
      refine r_getG fr_J6_30_24 (by decide) dJ6_addAll_2_52 k15 (by decide) ?_
      refine r_astore dJ6_addAll_2_55 (Nat.le_of_ble_eq_true rfl) rfl (slS (slS (slS (slS (slS sl0))))) ?_
      exact R.forget (v_J6_addAll_2_57 H) ⟨Or.inl rfl, ⟨Or.inr rfl, ⟨Or.inr rfl, ⟨Or.inl rfl, ⟨Or.inl rfl, ⟨Or.inl rfl, ⟨Or.inl rfl, ⟨Or.inl rfl, ⟨Or.inl rfl, ⟨Or.inl rfl, ⟨Or.inl rfl, ⟨Or.inl rfl, ⟨Or.inl rfl, trivial⟩⟩⟩⟩⟩⟩⟩⟩⟩⟩⟩⟩⟩
    · replace H := H.2 b11
      refine r_null dJ6_addAll_2_31 ?_
      refine r_astore dJ6_addAll_2_32 (Nat.le_of_ble_eq_true rfl) rfl (slS (slS (slS (slS (slS (slS sl0)))))) ?_
      refine r_aload_n dJ6_addAll_2_34 rfl rfl ?_
      refine r_getG fr_J6_27_23 (by decide) dJ6_addAll_2_35 (x8.kd (x4.kd k1 (by decide)) (by decide)) (by decide) ?_
      refine r_astore dJ6_addAll_2_38 (Nat.le_of_ble_eq_true rfl) rfl (slS (slS (slS (slS (slS sl0))))) ?_
      refine r_goto (tgt := 57) dJ6_addAll_2_40 rfl ?_
      exact R.forget (v_J6_addAll_2_57 H) ⟨Or.inl rfl, ⟨Or.inr rfl, ⟨Or.inr rfl, ⟨Or.inl rfl, ⟨Or.inl rfl, ⟨Or.inl rfl, ⟨Or.inl rfl, ⟨Or.inl rfl, ⟨Or.inl rfl, ⟨Or.inl rfl, ⟨Or.inl rfl, ⟨Or.inl rfl, ⟨Or.inl rfl, trivial⟩⟩⟩⟩⟩⟩⟩⟩⟩⟩⟩⟩⟩
  · replace H := H.2 b10
    refine r_iconst dJ6_addAll_2_21 rfl ?_
    exact r_zret dJ6_addAll_2_22 rfl rfl H
theorem c_J6_addAll_2_0 {g : PG} {d : Nat} {l0 : Nat} {l1 : Int32} {l2 : Nat} {h : PH} {Q : Out → PH → Prop} (H : w_J6_addAll_2_0 g d l0 l1 l2 h Q) : C g (d + 1) m_J6_addAll_2 [.ref l0, .int l1, .ref l2] h Q := C_of_R rfl rfl (Nat.le_of_ble_eq_true rfl) rfl (v_J6_addAll_2_0 H)
abbrev w_J6_toArray_15 (g : PG) (d : Nat) (l1 : Nat) (l2 : Int32) (l3 : Nat) (h : PH) (Q : Out → PH → Prop) : Prop := ((l3 = 0) → Q (.inl (some (.ref l1))) h) ∧ ((¬ l3 = 0) → hkd h l3 = 24 ∧ hkd h l1 / 100 = 6 ∧ hkd h l1 % 100 < 50 ∧ vp_in l2 (hln h l1) ∧ okA h (hG h 553 l3) "java/lang/Object" ∧ ∀ h7, h7 = setB l1 l2.toNatClampNeg (hG h 553 l3) h → R g d m_J6_toArray 15 [.null, .ref l1, .int (l2 + 1), .ref (hG h7 554 l3)] [] h7 Q)
theorem v_J6_toArray_15 {g : PG} {d : Nat} {l1 : Nat} {l2 : Int32} {l3 : Nat} {h : PH} {Q : Out → PH → Prop} (H : w_J6_toArray_15 g d l1 l2 l3 h Q) : R g d m_J6_toArray 15 [.null, .ref l1, .int l2, .ref l3] [] h Q := by
  refine r_aload_n dJ6_toArray_15 rfl rfl ?_
  refine r_ifnull (tgt := 37) dJ6_toArray_16 rfl (fun b1 => ?_) (fun b1 => ?_)
  · replace H := H.1 b1
    refine r_aload_n dJ6_toArray_37 rfl rfl ?_
    exact r_aret dJ6_toArray_38 rfl H
  · replace H := H.2 b1
    refine r_aload_n dJ6_toArray_19 rfl rfl ?_
    refine r_iload_n dJ6_toArray_20 rfl rfl ?_
    refine r_iinc dJ6_toArray_21 rfl rfl (Nat.le_of_ble_eq_true rfl) rfl (slS (slS sl0)) ?_
    refine r_aload_n dJ6_toArray_24 rfl rfl ?_
    obtain ⟨k2, H⟩ := H
    refine r_getG fr_J6_39_24 (by decide) dJ6_toArray_25 k2 (by decide) ?_
    obtain ⟨k3, H⟩ := H
    obtain ⟨k4, H⟩ := H
    obtain ⟨k5, H⟩ := H
    obtain ⟨k6, H⟩ := H
    replace H := H _ rfl
    refine r_aastO dJ6_toArray_28 (m := 6) (by decide) rfl k3 k4 k5 k6 ?_
    refine r_aload_n dJ6_toArray_29 rfl rfl ?_
    refine r_getG fr_J6_36_24 (by decide) dJ6_toArray_30 k2 (by decide) ?_
    refine r_astore_n dJ6_toArray_33 rfl (Nat.le_of_ble_eq_true rfl) rfl (slS (slS (slS sl0))) ?_
    refine r_goto (tgt := 15) dJ6_toArray_34 rfl ?_
    exact H
abbrev w_J6_toArray_0 (g : PG) (d : Nat) (l0 : Nat) (h : PH) (Q : Out → PH → Prop) : Prop := hkd h l0 = 23 ∧ ¬ (hF h 43 l0) < 0 ∧ (hF h 43 l0).toNatClampNeg ≤ 67108864 ∧ ∀ h4, h4 = hnew 600 (hF h 43 l0).toNatClampNeg ((hF h 43 l0).toNatClampNeg + 1) h → hkd h4 l0 = 23 ∧ R g d m_J6_toArray 15 [.null, .ref (hnx h), .int 0, .ref (hG h4 551 l0)] [] h4 Q
theorem v_J6_toArray_0 {g : PG} {d : Nat} {l0 : Nat} {h : PH} {Q : Out → PH → Prop} (H : w_J6_toArray_0 g d l0 h Q) : R g d m_J6_toArray 0 [.ref l0, .null, .null, .null] [] h Q := by
  refine r_aload_n dJ6_toArray_0 rfl rfl ?_
  obtain ⟨k1, H⟩ := H
  refine r_getF fr_J6_7_23 (by decide) dJ6_toArray_1 k1 (by decide) ?_
  obtain ⟨k2, H⟩ := H
  obtain ⟨k3, H⟩ := H
  replace H := H _ rfl
  refine r_anew (m := 6) (kk := 600) dJ6_toArray_4 rfl (by decide) (by decide) q1987 q353 k2 rfl (newB4 k3) ?_
  refine r_astore_n dJ6_toArray_7 rfl (Nat.le_of_ble_eq_true rfl) rfl (slS sl0) ?_
  refine r_iconst dJ6_toArray_8 rfl ?_
  refine r_istore_n dJ6_toArray_9 rfl (Nat.le_of_ble_eq_true rfl) rfl (slS (slS sl0)) ?_
  refine r_aload_n dJ6_toArray_10 rfl rfl ?_
  obtain ⟨k5, H⟩ := H
  refine r_getG fr_J6_18_23 (by decide) dJ6_toArray_11 k5 (by decide) ?_
  refine r_astore_n dJ6_toArray_14 rfl (Nat.le_of_ble_eq_true rfl) rfl (slS (slS (slS sl0))) ?_
  exact R.forget H ⟨Or.inr rfl, ⟨Or.inl rfl, ⟨Or.inl rfl, ⟨Or.inl rfl, trivial⟩⟩⟩⟩
theorem c_J6_toArray_0 {g : PG} {d : Nat} {l0 : Nat} {h : PH} {Q : Out → PH → Prop} (H : w_J6_toArray_0 g d l0 h Q) : C g (d + 1) m_J6_toArray [.ref l0] h Q := C_of_R rfl rfl (Nat.le_of_ble_eq_true rfl) rfl (v_J6_toArray_0 H)
abbrev w_J6_removeLast_0 (g : PG) (d : Nat) (l0 : Nat) (h : PH) (Q : Out → PH → Prop) : Prop := hkd h l0 = 23 ∧ ((¬ (hG h 552 l0) = 0) → C g d m_J6_unlinkLast [.ref l0, .ref (hG h 552 l0)] h (oR (fun v4 h3 => Q (.inl (some (.ref v4))) h3) (fun r hx => Q (.inr r) hx))) ∧ (((hG h 552 l0) = 0) → 5 ≤ d ∧ Q (.inr (hnx h)) (hnew 34 0 7 h))
theorem v_J6_removeLast_0 {g : PG} {d : Nat} {l0 : Nat} {h : PH} {Q : Out → PH → Prop} (H : w_J6_removeLast_0 g d l0 h Q) : R g d m_J6_removeLast 0 [.ref l0, .null] [] h Q := by
  refine r_aload_n dJ6_removeLast_0 rfl rfl ?_
  obtain ⟨k1, H⟩ := H
  refine r_getG fr_J6_27_23 (by decide) dJ6_removeLast_1 k1 (by decide) ?_
  refine r_astore_n dJ6_removeLast_4 rfl (Nat.le_of_ble_eq_true rfl) rfl (slS sl0) ?_
  refine r_aload_n dJ6_removeLast_5 rfl rfl ?_
  refine r_ifnonnull (tgt := 17) dJ6_removeLast_6 rfl (fun b2 => ?_) (fun b2 => ?_)
  · replace H := H.1 b2
    refine r_aload_n dJ6_removeLast_17 rfl rfl ?_
    refine r_aload_n dJ6_removeLast_18 rfl rfl ?_
    refine r_invV (y := m_J6_unlinkLast) dJ6_removeLast_19 rfl (lw_V q2491 q2493 qp34 q115 q2494) py_J6_unlinkLast (Nat.le_of_ble_eq_true rfl) (args := [_]) rfl rfl (Nat.le_of_ble_eq_true rfl) k1 (by decide) rfl (C.monoE H (fun o h3 _ x5 K => cont_R K (fun v4 H => ?_) (fun r HX => XR_nc rfl HX)))
    exact r_aret dJ6_removeLast_22 rfl H
  · replace H := H.2 b2
    exact r_throw0 (kE := 34) (names := ["java/lang/RuntimeException", "java/lang/Exception"]) (by decide) dJ6_removeLast_9 dJ6_removeLast_12 dJ6_removeLast_13 dJ6_removeLast_16 (by decide +kernel) (by decide +kernel) tw_J6_43_45 rfl H.1 (Nat.le_of_ble_eq_true rfl) H.2
theorem c_J6_removeLast_0 {g : PG} {d : Nat} {l0 : Nat} {h : PH} {Q : Out → PH → Prop} (H : w_J6_removeLast_0 g d l0 h Q) : C g (d + 1) m_J6_removeLast [.ref l0] h Q := C_of_R rfl rfl (Nat.le_of_ble_eq_true rfl) rfl (v_J6_removeLast_0 H)
abbrev w_J6_unlinkLast_42 (g : PG) (d : Nat) (l0 : Nat) (l2 : Nat) (h : PH) (Q : Out → PH → Prop) : Prop := hkd h l0 = 23 ∧ ∀ h2, h2 = setF 43 l0 ((hF h 43 l0) - (1 : Int32)) h → ∀ h3, h3 = setF 34 l0 ((hF h2 34 l0) + (1 : Int32)) h2 → Q (.inl (some (.ref l2))) h3
theorem v_J6_unlinkLast_42 {g : PG} {d : Nat} {l0 : Nat} {l2 : Nat} {h : PH} {Q : Out → PH → Prop} (H : w_J6_unlinkLast_42 g d l0 l2 h Q) : R g d m_J6_unlinkLast 42 [.ref l0, .null, .ref l2, .null] [] h Q := by
  refine r_aload_n dJ6_unlinkLast_42 rfl rfl ?_
  refine r_dup dJ6_unlinkLast_43 rfl ?_
  obtain ⟨k1, H⟩ := H
  refine r_getF fr_J6_7_23 (by decide) dJ6_unlinkLast_44 k1 (by decide) ?_
  refine r_iconst dJ6_unlinkLast_47 rfl ?_
  refine r_isub dJ6_unlinkLast_48 ?_
  replace H := H _ rfl
  refine r_putF fw_J6_7_23 (by decide) dJ6_unlinkLast_49 k1 (by decide) rfl rfl ?_
  refine r_aload_n dJ6_unlinkLast_52 rfl rfl ?_
  refine r_dup dJ6_unlinkLast_53 rfl ?_
  refine r_getF fr_J6_33_23 (by decide) dJ6_unlinkLast_54 k1 (by decide) ?_
  refine r_iconst dJ6_unlinkLast_57 rfl ?_
  refine r_iadd dJ6_unlinkLast_58 ?_
  replace H := H _ rfl
  refine r_putF fw_J6_33_23 (by decide) dJ6_unlinkLast_59 k1 (by decide) rfl rfl ?_
  refine r_aload_n dJ6_unlinkLast_62 rfl rfl ?_
  exact r_aret dJ6_unlinkLast_63 rfl H
abbrev w_J6_unlinkLast_0 (g : PG) (d : Nat) (l0 : Nat) (l1 : Nat) (h : PH) (Q : Out → PH → Prop) : Prop := hkd h l1 = 24 ∧ ∀ h2, h2 = setG 553 l1 (0 : Nat) h → ∀ h3, h3 = setG 555 l1 (0 : Nat) h2 → hkd h3 l0 = 23 ∧ ∀ h5, h5 = setG 552 l0 (hG h 555 l1) h3 → ((¬ (hG h 555 l1) = 0) → hkd h5 (hG h 555 l1) = 24 ∧ ∀ h8, h8 = setG 554 (hG h 555 l1) (0 : Nat) h5 → w_J6_unlinkLast_42 g d l0 (hG h 553 l1) h8 Q) ∧ (((hG h 555 l1) = 0) → ∀ h9, h9 = setG 551 l0 (0 : Nat) h5 → w_J6_unlinkLast_42 g d l0 (hG h 553 l1) h9 Q)
theorem v_J6_unlinkLast_0 {g : PG} {d : Nat} {l0 : Nat} {l1 : Nat} {h : PH} {Q : Out → PH → Prop} (H : w_J6_unlinkLast_0 g d l0 l1 h Q) : R g d m_J6_unlinkLast 0 [.ref l0, .ref l1, .null, .null] [] h Q := by
  refine r_aload_n dJ6_unlinkLast_0 rfl rfl ?_
  obtain ⟨k1, H⟩ := H
  refine r_getG fr_J6_39_24 (by decide) dJ6_unlinkLast_1 k1 (by decide) ?_
  refine r_astore_n dJ6_unlinkLast_4 rfl (Nat.le_of_ble_eq_true rfl) rfl (slS (slS sl0)) ?_
  refine r_aload_n dJ6_unlinkLast_5 rfl rfl ?_
  refine r_getG fr_J6_30_24 (by decide) dJ6_unlinkLast_6 k1 (by decide) ?_
  refine r_astore_n dJ6_unlinkLast_9 rfl (Nat.le_of_ble_eq_true rfl) rfl (slS (slS (slS sl0))) ?_
  refine r_aload_n dJ6_unlinkLast_10 rfl rfl ?_
  refine r_null dJ6_unlinkLast_11 ?_
  replace H := H _ rfl
  refine r_putG fw_J6_39_24 (by decide) dJ6_unlinkLast_12 k1 (by decide) rfl ?_
  refine r_aload_n dJ6_unlinkLast_15 rfl rfl ?_
  refine r_null dJ6_unlinkLast_16 ?_
  replace H := H _ rfl
  refine r_putG fw_J6_30_24 (by decide) dJ6_unlinkLast_17 k1 (by decide) rfl ?_
  refine r_aload_n dJ6_unlinkLast_20 rfl rfl ?_
  refine r_aload_n dJ6_unlinkLast_21 rfl rfl ?_
  obtain ⟨k4, H⟩ := H
  replace H := H _ rfl
  refine r_putG fw_J6_27_23 (by decide) dJ6_unlinkLast_22 k4 (by decide) rfl ?_
  refine r_aload_n dJ6_unlinkLast_25 rfl rfl ?_
  refine r_ifnonnull (tgt := 37) dJ6_unlinkLast_26 rfl (fun b6 => ?_) (fun b6 => ?_)
  · replace H := H.1 b6
    refine r_aload_n dJ6_unlinkLast_37 rfl rfl ?_
    refine r_null dJ6_unlinkLast_38 ?_
    obtain ⟨k7, H⟩ := H
    replace H := H _ rfl
    refine r_putG fw_J6_36_24 (by decide) dJ6_unlinkLast_39 k7 (by decide) rfl ?_
    exact R.forget (v_J6_unlinkLast_42 H) ⟨Or.inl rfl, ⟨Or.inr rfl, ⟨Or.inl rfl, ⟨Or.inr rfl, trivial⟩⟩⟩⟩
  · replace H := H.2 b6
    refine r_aload_n dJ6_unlinkLast_29 rfl rfl ?_
    refine r_null dJ6_unlinkLast_30 ?_
    replace H := H _ rfl
    refine r_putG fw_J6_18_23 (by decide) dJ6_unlinkLast_31 k4 (by decide) rfl ?_
    refine r_goto (tgt := 42) dJ6_unlinkLast_34 rfl ?_
    exact R.forget (v_J6_unlinkLast_42 H) ⟨Or.inl rfl, ⟨Or.inr rfl, ⟨Or.inl rfl, ⟨Or.inr rfl, trivial⟩⟩⟩⟩
theorem c_J6_unlinkLast_0 {g : PG} {d : Nat} {l0 : Nat} {l1 : Nat} {h : PH} {Q : Out → PH → Prop} (H : w_J6_unlinkLast_0 g d l0 l1 h Q) : C g (d + 1) m_J6_unlinkLast [.ref l0, .ref l1] h Q := C_of_R rfl rfl (Nat.le_of_ble_eq_true rfl) rfl (v_J6_unlinkLast_0 H)
abbrev w_J6_addFirst_0 (g : PG) (d : Nat) (l0 : Nat) (l1 : Nat) (h : PH) (Q : Out → PH → Prop) : Prop := hkd h l0 = 23 ∧ C g d m_J6_linkFirst [.ref l0, .ref l1] h (oV (fun h2 => Q (.inl none) h2) (fun r hx => Q (.inr r) hx))
theorem v_J6_addFirst_0 {g : PG} {d : Nat} {l0 : Nat} {l1 : Nat} {h : PH} {Q : Out → PH → Prop} (H : w_J6_addFirst_0 g d l0 l1 h Q) : R g d m_J6_addFirst 0 [.ref l0, .ref l1] [] h Q := by
  refine r_aload_n dJ6_addFirst_0 rfl rfl ?_
  refine r_aload_n dJ6_addFirst_1 rfl rfl ?_
  obtain ⟨k1, H⟩ := H
  refine r_invV (y := m_J6_linkFirst) dJ6_addFirst_2 rfl (lw_V q2521 q2523 qp35 q115 q2524) py_J6_linkFirst (Nat.le_of_ble_eq_true rfl) (args := [_]) rfl rfl (Nat.le_of_ble_eq_true rfl) k1 (by decide) rfl (C.monoE H (fun o h2 _ x4 K => cont_V K (fun H => ?_) (fun r HX => XR_nc rfl HX)))
  exact r_vret dJ6_addFirst_5 rfl H
theorem c_J6_addFirst_0 {g : PG} {d : Nat} {l0 : Nat} {l1 : Nat} {h : PH} {Q : Out → PH → Prop} (H : w_J6_addFirst_0 g d l0 l1 h Q) : C g (d + 1) m_J6_addFirst [.ref l0, .ref l1] h Q := C_of_R rfl rfl (Nat.le_of_ble_eq_true rfl) rfl (v_J6_addFirst_0 H)
abbrev w_J6_linkFirst_38 (g : PG) (d : Nat) (l0 : Nat) (h : PH) (Q : Out → PH → Prop) : Prop := hkd h l0 = 23 ∧ ∀ h2, h2 = setF 43 l0 ((hF h 43 l0) + (1 : Int32)) h → ∀ h3, h3 = setF 34 l0 ((hF h2 34 l0) + (1 : Int32)) h2 → Q (.inl none) h3
theorem v_J6_linkFirst_38 {g : PG} {d : Nat} {l0 : Nat} {h : PH} {Q : Out → PH → Prop} (H : w_J6_linkFirst_38 g d l0 h Q) : R g d m_J6_linkFirst 38 [.ref l0, .null, .null, .null] [] h Q := by
  refine r_aload_n dJ6_linkFirst_38 rfl rfl ?_
  refine r_dup dJ6_linkFirst_39 rfl ?_
  obtain ⟨k1, H⟩ := H
  refine r_getF fr_J6_7_23 (by decide) dJ6_linkFirst_40 k1 (by decide) ?_
  refine r_iconst dJ6_linkFirst_43 rfl ?_
  refine r_iadd dJ6_linkFirst_44 ?_
  replace H := H _ rfl
  refine r_putF fw_J6_7_23 (by decide) dJ6_linkFirst_45 k1 (by decide) rfl rfl ?_
  refine r_aload_n dJ6_linkFirst_48 rfl rfl ?_
  refine r_dup dJ6_linkFirst_49 rfl ?_
  refine r_getF fr_J6_33_23 (by decide) dJ6_linkFirst_50 k1 (by decide) ?_
  refine r_iconst dJ6_linkFirst_53 rfl ?_
  refine r_iadd dJ6_linkFirst_54 ?_
  replace H := H _ rfl
  refine r_putF fw_J6_33_23 (by decide) dJ6_linkFirst_55 k1 (by decide) rfl rfl ?_
  exact r_vret dJ6_linkFirst_58 rfl H
abbrev w_J6_linkFirst_0 (g : PG) (d : Nat) (l0 : Nat) (l1 : Nat) (h : PH) (Q : Out → PH → Prop) : Prop := hkd h l0 = 23 ∧ ∀ h2, h2 = hnew 24 0 4 h → 0 < (hnx h) ∧ C g d m_J44_init [.ref (hnx h), .ref (0 : Nat), .ref l1, .ref (hG h 551 l0)] h2 (oV (fun h4 => hkd h4 l0 = 23 ∧ ∀ h8, h8 = setG 551 l0 (hnx h) h4 → ((¬ (hG h 551 l0) = 0) → hkd h8 (hG h 551 l0) = 24 ∧ ∀ h11, h11 = setG 555 (hG h 551 l0) (hnx h) h8 → w_J6_linkFirst_38 g d l0 h11 Q) ∧ (((hG h 551 l0) = 0) → ∀ h12, h12 = setG 552 l0 (hnx h) h8 → w_J6_linkFirst_38 g d l0 h12 Q)) (fun r hx => Q (.inr r) hx))
theorem v_J6_linkFirst_0 {g : PG} {d : Nat} {l0 : Nat} {l1 : Nat} {h : PH} {Q : Out → PH → Prop} (H : w_J6_linkFirst_0 g d l0 l1 h Q) : R g d m_J6_linkFirst 0 [.ref l0, .ref l1, .null, .null] [] h Q := by
  refine r_aload_n dJ6_linkFirst_0 rfl rfl ?_
  obtain ⟨k1, H⟩ := H
  refine r_getG fr_J6_18_23 (by decide) dJ6_linkFirst_1 k1 (by decide) ?_
  refine r_astore_n dJ6_linkFirst_4 rfl (Nat.le_of_ble_eq_true rfl) rfl (slS (slS sl0)) ?_
  replace H := H _ rfl
  refine r_new (ci := 24) dJ6_linkFirst_5 rfl (by decide) q1652 q1653 q160 ?_
  refine r_dup dJ6_linkFirst_8 rfl ?_
  refine r_null dJ6_linkFirst_9 ?_
  refine r_aload_n dJ6_linkFirst_10 rfl rfl ?_
  refine r_aload_n dJ6_linkFirst_11 rfl rfl ?_
  obtain ⟨k3, H⟩ := H
  refine r_invI (y := m_J44_init) dJ6_linkFirst_12 rfl rfl q1656 q160 q1654 q1655 rfl py_J44_init (Nat.le_of_ble_eq_true rfl) (args := [_, _, _]) rfl rfl (Nat.le_of_ble_eq_true rfl) k3 (C.monoE H (fun o h4 _ x6 K => cont_V K (fun H => ?_) (fun r HX => XR_nc rfl HX)))
  refine r_astore_n dJ6_linkFirst_15 rfl (Nat.le_of_ble_eq_true rfl) rfl (slS (slS (slS sl0))) ?_
  refine r_aload_n dJ6_linkFirst_16 rfl rfl ?_
  refine r_aload_n dJ6_linkFirst_17 rfl rfl ?_
  obtain ⟨k7, H⟩ := H
  replace H := H _ rfl
  refine r_putG fw_J6_18_23 (by decide) dJ6_linkFirst_18 k7 (by decide) rfl ?_
  refine r_aload_n dJ6_linkFirst_21 rfl rfl ?_
  refine r_ifnonnull (tgt := 33) dJ6_linkFirst_22 rfl (fun b9 => ?_) (fun b9 => ?_)
  · replace H := H.1 b9
    refine r_aload_n dJ6_linkFirst_33 rfl rfl ?_
    refine r_aload_n dJ6_linkFirst_34 rfl rfl ?_
    obtain ⟨k10, H⟩ := H
    replace H := H _ rfl
    refine r_putG fw_J6_30_24 (by decide) dJ6_linkFirst_35 k10 (by decide) rfl ?_
    exact R.forget (v_J6_linkFirst_38 H) ⟨Or.inl rfl, ⟨Or.inr rfl, ⟨Or.inr rfl, ⟨Or.inr rfl, trivial⟩⟩⟩⟩
  · replace H := H.2 b9
    refine r_aload_n dJ6_linkFirst_25 rfl rfl ?_
    refine r_aload_n dJ6_linkFirst_26 rfl rfl ?_
    replace H := H _ rfl
    refine r_putG fw_J6_27_23 (by decide) dJ6_linkFirst_27 k7 (by decide) rfl ?_
    refine r_goto (tgt := 38) dJ6_linkFirst_30 rfl ?_
    exact R.forget (v_J6_linkFirst_38 H) ⟨Or.inl rfl, ⟨Or.inr rfl, ⟨Or.inr rfl, ⟨Or.inr rfl, trivial⟩⟩⟩⟩
theorem c_J6_linkFirst_0 {g : PG} {d : Nat} {l0 : Nat} {l1 : Nat} {h : PH} {Q : Out → PH → Prop} (H : w_J6_linkFirst_0 g d l0 l1 h Q) : C g (d + 1) m_J6_linkFirst [.ref l0, .ref l1] h Q := C_of_R rfl rfl (Nat.le_of_ble_eq_true rfl) rfl (v_J6_linkFirst_0 H)
abbrev w_J7_init_0 (g : PG) (d : Nat) (l0 : Nat) (h : PH) (Q : Out → PH → Prop) : Prop := 0 < l0 ∧ C g d m_J0_init [.ref l0] h (oV (fun h2 => ¬ (17 : Int32) < 0 ∧ (17 : Int32).toNatClampNeg ≤ 67108864 ∧ ∀ h7, h7 = hnew 600 (17 : Int32).toNatClampNeg ((17 : Int32).toNatClampNeg + 1) h2 → hkd h7 l0 = 26 ∧ ∀ h9, h9 = setG 559 l0 (hnx h2) h7 → Q (.inl none) h9) (fun r hx => Q (.inr r) hx))
theorem v_J7_init_0 {g : PG} {d : Nat} {l0 : Nat} {h : PH} {Q : Out → PH → Prop} (H : w_J7_init_0 g d l0 h Q) : R g d m_J7_init 0 [.ref l0] [] h Q := by
  refine r_aload_n dJ7_init_0 rfl rfl ?_
  obtain ⟨k1, H⟩ := H
  refine r_invI (y := m_J0_init) dJ7_init_1 rfl rfl q202 q109 q351 q201 rfl py_J0_init (Nat.le_of_ble_eq_true rfl) (args := []) rfl rfl (Nat.le_of_ble_eq_true rfl) k1 (C.monoE H (fun o h2 _ x4 K => cont_V K (fun H => ?_) (fun r HX => XR_nc rfl HX)))
  refine r_aload_n dJ7_init_4 rfl rfl ?_
  refine r_bipush dJ7_init_5 rfl ?_
  obtain ⟨k5, H⟩ := H
  obtain ⟨k6, H⟩ := H
  replace H := H _ rfl
  refine r_anew (m := 6) (kk := 600) dJ7_init_7 rfl (by decide) (by decide) q352 q353 k5 rfl (newB4 k6) ?_
  obtain ⟨k8, H⟩ := H
  replace H := H _ rfl
  refine r_putG fw_J7_3_26_i (by decide) dJ7_init_10 k8 (by decide) rfl ?_
  exact r_vret dJ7_init_13 rfl H
theorem c_J7_init_0 {g : PG} {d : Nat} {l0 : Nat} {h : PH} {Q : Out → PH → Prop} (H : w_J7_init_0 g d l0 h Q) : C g (d + 1) m_J7_init [.ref l0] h Q := C_of_R rfl rfl (Nat.le_of_ble_eq_true rfl) rfl (v_J7_init_0 H)
abbrev w_J7_isEmpty_0 (g : PG) (d : Nat) (l0 : Nat) (h : PH) (Q : Out → PH → Prop) : Prop := hkd h l0 = 26 ∧ ((¬ (hF h 46 l0) = (hF h 47 l0)) → Q (.inl (some (.int 0))) h) ∧ (((hF h 46 l0) = (hF h 47 l0)) → Q (.inl (some (.int 1))) h)
theorem v_J7_isEmpty_0 {g : PG} {d : Nat} {l0 : Nat} {h : PH} {Q : Out → PH → Prop} (H : w_J7_isEmpty_0 g d l0 h Q) : R g d m_J7_isEmpty 0 [.ref l0] [] h Q := by
  refine r_aload_n dJ7_isEmpty_0 rfl rfl ?_
  obtain ⟨k1, H⟩ := H
  refine r_getF fr_J7_24_26 (by decide) dJ7_isEmpty_1 k1 (by decide) ?_
  refine r_aload_n dJ7_isEmpty_4 rfl rfl ?_
  refine r_getF fr_J7_20_26 (by decide) dJ7_isEmpty_5 k1 (by decide) ?_
  refine r_icmp_ne (tgt := 15) dJ7_isEmpty_8 rfl (fun b2 => ?_) (fun b2 => ?_)
  · replace H := H.1 b2
    refine r_iconst dJ7_isEmpty_15 rfl ?_
    exact r_zret dJ7_isEmpty_16 rfl rfl H
  · replace H := H.2 b2
    refine r_iconst dJ7_isEmpty_11 rfl ?_
    refine r_goto (tgt := 16) dJ7_isEmpty_12 rfl ?_
    exact r_zret dJ7_isEmpty_16 rfl rfl H
theorem c_J7_isEmpty_0 {g : PG} {d : Nat} {l0 : Nat} {h : PH} {Q : Out → PH → Prop} (H : w_J7_isEmpty_0 g d l0 h Q) : C g (d + 1) m_J7_isEmpty [.ref l0] h Q := C_of_R rfl rfl (Nat.le_of_ble_eq_true rfl) rfl (v_J7_isEmpty_0 H)
abbrev w_J7_nonNullElementAt_0 (g : PG) (d : Nat) (l0 : Nat) (l1 : Int32) (h : PH) (Q : Out → PH → Prop) : Prop := hkd h l0 / 100 = 6 ∧ vp_in l1 (hln h l0) ∧ ((¬ (hB h l0 l1.toNatClampNeg) = 0) → Q (.inl (some (.ref (hB h l0 l1.toNatClampNeg)))) h) ∧ (((hB h l0 l1.toNatClampNeg) = 0) → False)
theorem v_J7_nonNullElementAt_0 {g : PG} {d : Nat} {l0 : Nat} {l1 : Int32} {h : PH} {Q : Out → PH → Prop} (H : w_J7_nonNullElementAt_0 g d l0 l1 h Q) : R g d m_J7_nonNullElementAt 0 [.ref l0, .int l1, .null] [] h Q := by
  refine r_aload_n dJ7_nonNullElementAt_0 rfl rfl ?_
  refine r_iload_n dJ7_nonNullElementAt_1 rfl rfl ?_
  obtain ⟨k1, H⟩ := H
  obtain ⟨k2, H⟩ := H
  refine r_aald dJ7_nonNullElementAt_2 (m := 6) (by decide) k1 k2 ?_
  refine r_astore_n dJ7_nonNullElementAt_3 rfl (Nat.le_of_ble_eq_true rfl) rfl (slS (slS sl0)) ?_
  refine r_aload_n dJ7_nonNullElementAt_4 rfl rfl ?_
  refine r_ifnonnull (tgt := 16) dJ7_nonNullElementAt_5 rfl (fun b3 => ?_) (fun b3 => ?_)
  · replace H := H.1 b3
    refine r_aload_n dJ7_nonNullElementAt_16 rfl rfl ?_
    exact r_aret dJ7_nonNullElementAt_17 rfl H
  · replace H := H.2 b3
    exact H.elim
theorem c_J7_nonNullElementAt_0 {g : PG} {d : Nat} {l0 : Nat} {l1 : Int32} {h : PH} {Q : Out → PH → Prop} (H : w_J7_nonNullElementAt_0 g d l0 l1 h Q) : C g (d + 1) m_J7_nonNullElementAt [.ref l0, .int l1] h Q := C_of_R rfl rfl (Nat.le_of_ble_eq_true rfl) rfl (v_J7_nonNullElementAt_0 H)
abbrev w_J7_inc_0 (g : PG) (d : Nat) (l0 : Int32) (l1 : Int32) (h : PH) (Q : Out → PH → Prop) : Prop := (((l0 + 1) < l1) → Q (.inl (some (.int (l0 + 1)))) h) ∧ ((¬ (l0 + 1) < l1) → Q (.inl (some (.int 0))) h)
theorem v_J7_inc_0 {g : PG} {d : Nat} {l0 : Int32} {l1 : Int32} {h : PH} {Q : Out → PH → Prop} (H : w_J7_inc_0 g d l0 l1 h Q) : R g d m_J7_inc 0 [.int l0, .int l1] [] h Q := by
  refine r_iinc dJ7_inc_0 rfl rfl (Nat.le_of_ble_eq_true rfl) rfl sl0 ?_
  refine r_iload_n dJ7_inc_3 rfl rfl ?_
  refine r_iload_n dJ7_inc_4 rfl rfl ?_
  refine r_icmp_lt (tgt := 10) dJ7_inc_5 rfl (fun b1 => ?_) (fun b1 => ?_)
  · replace H := H.1 b1
    refine r_iload_n dJ7_inc_10 rfl rfl ?_
    exact r_iret dJ7_inc_11 rfl H
  · replace H := H.2 b1
    refine r_iconst dJ7_inc_8 rfl ?_
    refine r_istore_n dJ7_inc_9 rfl (Nat.le_of_ble_eq_true rfl) rfl sl0 ?_
    refine r_iload_n dJ7_inc_10 rfl rfl ?_
    exact r_iret dJ7_inc_11 rfl H
theorem c_J7_inc_0 {g : PG} {d : Nat} {l0 : Int32} {l1 : Int32} {h : PH} {Q : Out → PH → Prop} (H : w_J7_inc_0 g d l0 l1 h Q) : C g (d + 1) m_J7_inc [.int l0, .int l1] h Q := C_of_R rfl rfl (Nat.le_of_ble_eq_true rfl) rfl (v_J7_inc_0 H)
abbrev w_J7_poll_0 (g : PG) (d : Nat) (l0 : Nat) (h : PH) (Q : Out → PH → Prop) : Prop := hkd h l0 = 26 ∧ C g d m_J7_pollFirst [.ref l0] h (oR (fun v3 h2 => Q (.inl (some (.ref v3))) h2) (fun r hx => Q (.inr r) hx))
theorem v_J7_poll_0 {g : PG} {d : Nat} {l0 : Nat} {h : PH} {Q : Out → PH → Prop} (H : w_J7_poll_0 g d l0 h Q) : R g d m_J7_poll 0 [.ref l0] [] h Q := by
  refine r_aload_n dJ7_poll_0 rfl rfl ?_
  obtain ⟨k1, H⟩ := H
  refine r_invV (y := m_J7_pollFirst) dJ7_poll_1 rfl (lw_V q1203 q1204 q1205 q117 q1206) py_J7_pollFirst (Nat.le_of_ble_eq_true rfl) (args := []) rfl rfl (Nat.le_of_ble_eq_true rfl) k1 (by decide) rfl (C.monoE H (fun o h2 _ x4 K => cont_R K (fun v3 H => ?_) (fun r HX => XR_nc rfl HX)))
  exact r_aret dJ7_poll_4 rfl H
theorem c_J7_poll_0 {g : PG} {d : Nat} {l0 : Nat} {h : PH} {Q : Out → PH → Prop} (H : w_J7_poll_0 g d l0 h Q) : C g (d + 1) m_J7_poll [.ref l0] h Q := C_of_R rfl rfl (Nat.le_of_ble_eq_true rfl) rfl (v_J7_poll_0 H)
abbrev w_J7_pollFirst_0 (g : PG) (d : Nat) (l0 : Nat) (h : PH) (Q : Out → PH → Prop) : Prop := hkd h l0 = 26 ∧ C g d m_J7_elementAt [.ref (hG h 559 l0), .int (hF h 46 l0)] h (oR (fun v3 h2 => ((v3 = 0) → Q (.inl (some (.ref v3))) h2) ∧ ((¬ v3 = 0) → hkd h2 (hG h 559 l0) / 100 = 6 ∧ hkd h2 (hG h 559 l0) % 100 < 50 ∧ vp_in (hF h 46 l0) (hln h2 (hG h 559 l0)) ∧ ∀ h10, h10 = setB (hG h 559 l0) (hF h 46 l0).toNatClampNeg (0 : Nat) h2 → hkd h10 (hG h 559 l0) / 100 = 6 ∧ C g d m_J7_inc [.int (hF h 46 l0), .int (nI (hln h10 (hG h 559 l0)))] h10 (oI (fun v13 h12 => ∀ h15, h15 = setF 46 l0 v13 h12 → Q (.inl (some (.ref v3))) h15) (fun r hx => Q (.inr r) hx)))) (fun r hx => Q (.inr r) hx))
theorem v_J7_pollFirst_0 {g : PG} {d : Nat} {l0 : Nat} {h : PH} {Q : Out → PH → Prop} (H : w_J7_pollFirst_0 g d l0 h Q) : R g d m_J7_pollFirst 0 [.ref l0, .null, .null, .null] [] h Q := by
  refine r_aload_n dJ7_pollFirst_0 rfl rfl ?_
  obtain ⟨k1, H⟩ := H
  refine r_getG fr_J7_3_26 (by decide) dJ7_pollFirst_1 k1 (by decide) ?_
  refine r_dup dJ7_pollFirst_4 rfl ?_
  refine r_astore_n dJ7_pollFirst_5 rfl (Nat.le_of_ble_eq_true rfl) rfl (slS sl0) ?_
  refine r_aload_n dJ7_pollFirst_6 rfl rfl ?_
  refine r_getF fr_J7_24_26 (by decide) dJ7_pollFirst_7 k1 (by decide) ?_
  refine r_dup dJ7_pollFirst_10 rfl ?_
  refine r_istore_n dJ7_pollFirst_11 rfl (Nat.le_of_ble_eq_true rfl) rfl (slS (slS sl0)) ?_
  refine r_invS (y := m_J7_elementAt) dJ7_pollFirst_12 rfl (lw_S q1207 q1208 q117 q1209) py_J7_elementAt (Nat.le_of_ble_eq_true rfl) (args := [_, _]) rfl rfl (Nat.le_of_ble_eq_true rfl) (C.monoE H (fun o h2 _ x4 K => cont_R K (fun v3 H => ?_) (fun r HX => XR_nc rfl HX)))
  refine r_astore_n dJ7_pollFirst_15 rfl (Nat.le_of_ble_eq_true rfl) rfl (slS (slS (slS sl0))) ?_
  refine r_aload_n dJ7_pollFirst_16 rfl rfl ?_
  refine r_ifnull (tgt := 34) dJ7_pollFirst_17 rfl (fun b5 => ?_) (fun b5 => ?_)
  · replace H := H.1 b5
    refine r_aload_n dJ7_pollFirst_34 rfl rfl ?_
    exact r_aret dJ7_pollFirst_35 rfl H
  · replace H := H.2 b5
    refine r_aload_n dJ7_pollFirst_20 rfl rfl ?_
    refine r_iload_n dJ7_pollFirst_21 rfl rfl ?_
    refine r_null dJ7_pollFirst_22 ?_
    obtain ⟨k6, H⟩ := H
    obtain ⟨k7, H⟩ := H
    obtain ⟨k8, H⟩ := H
    replace H := H _ rfl
    refine r_aastN dJ7_pollFirst_23 (m := 6) (by decide) k6 k7 k8 ?_
    refine r_aload_n dJ7_pollFirst_24 rfl rfl ?_
    refine r_iload_n dJ7_pollFirst_25 rfl rfl ?_
    refine r_aload_n dJ7_pollFirst_26 rfl rfl ?_
    obtain ⟨k11, H⟩ := H
    refine r_alen (m := 6) dJ7_pollFirst_27 (by decide) k11 ?_
    refine r_invS (y := m_J7_inc) dJ7_pollFirst_28 rfl (lw_S q1210 q1165 q117 q1166) py_J7_inc (Nat.le_of_ble_eq_true rfl) (args := [_, _]) rfl rfl (Nat.le_of_ble_eq_true rfl) (C.monoE H (fun o h12 _ x14 K => cont_I K (fun v13 H => ?_) (fun r HX => XR_nc rfl HX)))
    replace H := H _ rfl
    refine r_putF fw_J7_24_26 (by decide) dJ7_pollFirst_31 (x14.kd (x4.kd k1 (by decide)) (by decide)) (by decide) rfl rfl ?_
    refine r_aload_n dJ7_pollFirst_34 rfl rfl ?_
    exact r_aret dJ7_pollFirst_35 rfl H
theorem c_J7_pollFirst_0 {g : PG} {d : Nat} {l0 : Nat} {h : PH} {Q : Out → PH → Prop} (H : w_J7_pollFirst_0 g d l0 h Q) : C g (d + 1) m_J7_pollFirst [.ref l0] h Q := C_of_R rfl rfl (Nat.le_of_ble_eq_true rfl) rfl (v_J7_pollFirst_0 H)
abbrev w_J7_elementAt_0 (g : PG) (d : Nat) (l0 : Nat) (l1 : Int32) (h : PH) (Q : Out → PH → Prop) : Prop := hkd h l0 / 100 = 6 ∧ vp_in l1 (hln h l0) ∧ Q (.inl (some (.ref (hB h l0 l1.toNatClampNeg)))) h
theorem v_J7_elementAt_0 {g : PG} {d : Nat} {l0 : Nat} {l1 : Int32} {h : PH} {Q : Out → PH → Prop} (H : w_J7_elementAt_0 g d l0 l1 h Q) : R g d m_J7_elementAt 0 [.ref l0, .int l1] [] h Q := by
  refine r_aload_n dJ7_elementAt_0 rfl rfl ?_
  refine r_iload_n dJ7_elementAt_1 rfl rfl ?_
  obtain ⟨k1, H⟩ := H
  obtain ⟨k2, H⟩ := H
  refine r_aald dJ7_elementAt_2 (m := 6) (by decide) k1 k2 ?_
  exact r_aret dJ7_elementAt_3 rfl H
theorem c_J7_elementAt_0 {g : PG} {d : Nat} {l0 : Nat} {l1 : Int32} {h : PH} {Q : Out → PH → Prop} (H : w_J7_elementAt_0 g d l0 l1 h Q) : C g (d + 1) m_J7_elementAt [.ref l0, .int l1] h Q := C_of_R rfl rfl (Nat.le_of_ble_eq_true rfl) rfl (v_J7_elementAt_0 H)
abbrev w_J7_size_0 (g : PG) (d : Nat) (l0 : Nat) (h : PH) (Q : Out → PH → Prop) : Prop := hkd h l0 = 26 ∧ hkd h (hG h 559 l0) / 100 = 6 ∧ C g d m_J7_sub [.int (hF h 47 l0), .int (hF h 46 l0), .int (nI (hln h (hG h 559 l0)))] h (oI (fun v4 h3 => Q (.inl (some (.int v4))) h3) (fun r hx => Q (.inr r) hx))
theorem v_J7_size_0 {g : PG} {d : Nat} {l0 : Nat} {h : PH} {Q : Out → PH → Prop} (H : w_J7_size_0 g d l0 h Q) : R g d m_J7_size 0 [.ref l0] [] h Q := by
  refine r_aload_n dJ7_size_0 rfl rfl ?_
  obtain ⟨k1, H⟩ := H
  refine r_getF fr_J7_20_26 (by decide) dJ7_size_1 k1 (by decide) ?_
  refine r_aload_n dJ7_size_4 rfl rfl ?_
  refine r_getF fr_J7_24_26 (by decide) dJ7_size_5 k1 (by decide) ?_
  refine r_aload_n dJ7_size_8 rfl rfl ?_
  refine r_getG fr_J7_3_26 (by decide) dJ7_size_9 k1 (by decide) ?_
  obtain ⟨k2, H⟩ := H
  refine r_alen (m := 6) dJ7_size_12 (by decide) k2 ?_
  refine r_invS (y := m_J7_sub) dJ7_size_13 rfl (lw_S q1785 q1786 q117 q1787) py_J7_sub (Nat.le_of_ble_eq_true rfl) (args := [_, _, _]) rfl rfl (Nat.le_of_ble_eq_true rfl) (C.monoE H (fun o h3 _ x5 K => cont_I K (fun v4 H => ?_) (fun r HX => XR_nc rfl HX)))
  exact r_iret dJ7_size_16 rfl H
theorem c_J7_size_0 {g : PG} {d : Nat} {l0 : Nat} {h : PH} {Q : Out → PH → Prop} (H : w_J7_size_0 g d l0 h Q) : C g (d + 1) m_J7_size [.ref l0] h Q := C_of_R rfl rfl (Nat.le_of_ble_eq_true rfl) rfl (v_J7_size_0 H)
abbrev w_J7_sub_0 (g : PG) (d : Nat) (l0 : Int32) (l1 : Int32) (l2 : Int32) (h : PH) (Q : Out → PH → Prop) : Prop := ((0 ≤ (l0 - l1)) → Q (.inl (some (.int (l0 - l1)))) h) ∧ ((¬ 0 ≤ (l0 - l1)) → Q (.inl (some (.int ((l0 - l1) + l2)))) h)
theorem v_J7_sub_0 {g : PG} {d : Nat} {l0 : Int32} {l1 : Int32} {l2 : Int32} {h : PH} {Q : Out → PH → Prop} (H : w_J7_sub_0 g d l0 l1 l2 h Q) : R g d m_J7_sub 0 [.int l0, .int l1, .int l2] [] h Q := by
  refine r_iload_n dJ7_sub_0 rfl rfl ?_
  refine r_iload_n dJ7_sub_1 rfl rfl ?_
  refine r_isub dJ7_sub_2 ?_
  refine r_dup dJ7_sub_3 rfl ?_
  refine r_istore_n dJ7_sub_4 rfl (Nat.le_of_ble_eq_true rfl) rfl sl0 ?_
  refine r_if_ge (tgt := 12) dJ7_sub_5 rfl (fun b1 => ?_) (fun b1 => ?_)
  · replace H := H.1 b1
    refine r_iload_n dJ7_sub_12 rfl rfl ?_
    exact r_iret dJ7_sub_13 rfl H
  · replace H := H.2 b1
    refine r_iload_n dJ7_sub_8 rfl rfl ?_
    refine r_iload_n dJ7_sub_9 rfl rfl ?_
    refine r_iadd dJ7_sub_10 ?_
    refine r_istore_n dJ7_sub_11 rfl (Nat.le_of_ble_eq_true rfl) rfl sl0 ?_
    refine r_iload_n dJ7_sub_12 rfl rfl ?_
    exact r_iret dJ7_sub_13 rfl H
theorem c_J7_sub_0 {g : PG} {d : Nat} {l0 : Int32} {l1 : Int32} {l2 : Int32} {h : PH} {Q : Out → PH → Prop} (H : w_J7_sub_0 g d l0 l1 l2 h Q) : C g (d + 1) m_J7_sub [.int l0, .int l1, .int l2] h Q := C_of_R rfl rfl (Nat.le_of_ble_eq_true rfl) rfl (v_J7_sub_0 H)
abbrev w_J7_toArray_0 (g : PG) (d : Nat) (l0 : Nat) (h : PH) (Q : Out → PH → Prop) : Prop := False
theorem v_J7_toArray_0 {g : PG} {d : Nat} {l0 : Nat} {h : PH} {Q : Out → PH → Prop} (H : w_J7_toArray_0 g d l0 h Q) : R g d m_J7_toArray 0 [.ref l0] [] h Q := by
  refine r_aload_n dJ7_toArray_0 rfl rfl ?_
  exact H.elim
theorem c_J7_toArray_0 {g : PG} {d : Nat} {l0 : Nat} {h : PH} {Q : Out → PH → Prop} (H : w_J7_toArray_0 g d l0 h Q) : C g (d + 1) m_J7_toArray [.ref l0] h Q := C_of_R rfl rfl (Nat.le_of_ble_eq_true rfl) rfl (v_J7_toArray_0 H)
abbrev w_J7_toArray_2_77 (g : PG) (d : Nat) (l2 : Nat) (l3 : Nat) (l4 : Int32) (l5 : Int32) (l6 : Int32) (h : PH) (Q : Out → PH → Prop) : Prop := ((l6 = l5) → Q (.inl (some (.ref l3))) h) ∧ ((¬ l6 = l5) → False)
theorem v_J7_toArray_2_77 {g : PG} {d : Nat} {l2 : Nat} {l3 : Nat} {l4 : Int32} {l5 : Int32} {l6 : Int32} {h : PH} {Q : Out → PH → Prop} (H : w_J7_toArray_2_77 g d l2 l3 l4 l5 l6 h Q) : R g d m_J7_toArray_2 77 [.null, .null, .ref l2, .ref l3, .int l4, .int l5, .int l6] [] h Q := by
  refine r_iload dJ7_toArray_2_77 rfl ?_
  refine r_iload dJ7_toArray_2_79 rfl ?_
  refine r_icmp_eq (tgt := 97) dJ7_toArray_2_81 rfl (fun b1 => ?_) (fun b1 => ?_)
  · replace H := H.1 b1
    refine r_aload_n dJ7_toArray_2_97 rfl rfl ?_
    exact r_aret dJ7_toArray_2_98 rfl H
  · replace H := H.2 b1
    exact H.elim
abbrev w_J7_toArray_2_32 (g : PG) (d : Nat) (l1 : Nat) (l2 : Nat) (l4 : Int32) (l5 : Int32) (s0 : Int32) (s1 : Int32) (h : PH) (Q : Out → PH → Prop) : Prop := (((s0 + s1) < 0) → False) ∧ ((¬ (s0 + s1) < 0) → C g d m_J23_copyOfRange_2 [.ref l2, .int l4, .int (s0 + s1), .ref l1] h (oR (fun v7 h6 => w_J7_toArray_2_77 g d l2 v7 l4 l5 (s0 + s1) h6 Q) (fun r hx => Q (.inr r) hx)))
theorem v_J7_toArray_2_32 {g : PG} {d : Nat} {l1 : Nat} {l2 : Nat} {l4 : Int32} {l5 : Int32} {s0 : Int32} {s1 : Int32} {h : PH} {Q : Out → PH → Prop} (H : w_J7_toArray_2_32 g d l1 l2 l4 l5 s0 s1 h Q) : R g d m_J7_toArray_2 32 [.null, .ref l1, .ref l2, .null, .int l4, .int l5, .null] [.int s1, .int s0] h Q := by
  refine r_iadd dJ7_toArray_2_32 ?_
  refine r_dup dJ7_toArray_2_33 rfl ?_
  refine r_istore dJ7_toArray_2_34 (Nat.le_of_ble_eq_true rfl) rfl (slS (slS (slS (slS (slS (slS sl0)))))) ?_
  refine r_if_lt (tgt := 52) dJ7_toArray_2_36 rfl (fun b1 => ?_) (fun b1 => ?_)
  · replace H := H.1 b1
    exact H.elim
  · replace H := H.2 b1
    refine r_aload_n dJ7_toArray_2_39 rfl rfl ?_
    refine r_iload dJ7_toArray_2_40 rfl ?_
    refine r_iload dJ7_toArray_2_42 rfl ?_
    refine r_aload_n dJ7_toArray_2_44 rfl rfl ?_
    refine r_invS (y := m_J23_copyOfRange_2) dJ7_toArray_2_45 rfl (lw_S q1964 q1965 q135 q1966) py_J23_copyOfRange_2 (Nat.le_of_ble_eq_true rfl) (args := [_, _, _, _]) rfl rfl (Nat.le_of_ble_eq_true rfl) (C.monoE H (fun o h6 _ x8 K => cont_R K (fun v7 H => ?_) (fun r HX => XR_nc rfl HX)))
    refine r_astore_n dJ7_toArray_2_48 rfl (Nat.le_of_ble_eq_true rfl) rfl (slS (slS (slS sl0))) ?_
    refine r_goto (tgt := 77) dJ7_toArray_2_49 rfl ?_
    exact R.forget (v_J7_toArray_2_77 H) ⟨Or.inl rfl, ⟨Or.inr rfl, ⟨Or.inl rfl, ⟨Or.inl rfl, ⟨Or.inl rfl, ⟨Or.inl rfl, ⟨Or.inl rfl, trivial⟩⟩⟩⟩⟩⟩⟩
abbrev w_J7_toArray_2_0 (g : PG) (d : Nat) (l0 : Nat) (l1 : Nat) (h : PH) (Q : Out → PH → Prop) : Prop := hkd h l0 = 26 ∧ (((hF h 47 l0) < (hF h 46 l0)) → hkd h (hG h 559 l0) / 100 = 6 ∧ w_J7_toArray_2_32 g d l1 (hG h 559 l0) (hF h 46 l0) (hF h 47 l0) (hF h 47 l0) (nI (hln h (hG h 559 l0))) h Q) ∧ ((¬ (hF h 47 l0) < (hF h 46 l0)) → w_J7_toArray_2_32 g d l1 (hG h 559 l0) (hF h 46 l0) (hF h 47 l0) (hF h 47 l0) (0 : Int32) h Q)
theorem v_J7_toArray_2_0 {g : PG} {d : Nat} {l0 : Nat} {l1 : Nat} {h : PH} {Q : Out → PH → Prop} (H : w_J7_toArray_2_0 g d l0 l1 h Q) : R g d m_J7_toArray_2 0 [.ref l0, .ref l1, .null, .null, .null, .null, .null] [] h Q := by
  refine r_aload_n dJ7_toArray_2_0 rfl rfl ?_
  obtain ⟨k1, H⟩ := H
  refine r_getG fr_J7_3_26 (by decide) dJ7_toArray_2_1 k1 (by decide) ?_
  refine r_astore_n dJ7_toArray_2_4 rfl (Nat.le_of_ble_eq_true rfl) rfl (slS (slS sl0)) ?_
  refine r_aload_n dJ7_toArray_2_5 rfl rfl ?_
  refine r_getF fr_J7_24_26 (by decide) dJ7_toArray_2_6 k1 (by decide) ?_
  refine r_istore dJ7_toArray_2_9 (Nat.le_of_ble_eq_true rfl) rfl (slS (slS (slS (slS sl0)))) ?_
  refine r_aload_n dJ7_toArray_2_11 rfl rfl ?_
  refine r_getF fr_J7_20_26 (by decide) dJ7_toArray_2_12 k1 (by decide) ?_
  refine r_istore dJ7_toArray_2_15 (Nat.le_of_ble_eq_true rfl) rfl (slS (slS (slS (slS (slS sl0))))) ?_
  refine r_iload dJ7_toArray_2_17 rfl ?_
  refine r_iload dJ7_toArray_2_19 rfl ?_
  refine r_iload dJ7_toArray_2_21 rfl ?_
  refine r_icmp_gt (tgt := 30) dJ7_toArray_2_23 rfl (fun b2 => ?_) (fun b2 => ?_)
  · replace H := H.1 b2
    refine r_aload_n dJ7_toArray_2_30 rfl rfl ?_
    obtain ⟨k3, H⟩ := H
    refine r_alen (m := 6) dJ7_toArray_2_31 (by decide) k3 ?_
    exact R.forget (v_J7_toArray_2_32 H) ⟨Or.inr rfl, ⟨Or.inl rfl, ⟨Or.inl rfl, ⟨Or.inl rfl, ⟨Or.inl rfl, ⟨Or.inl rfl, ⟨Or.inl rfl, trivial⟩⟩⟩⟩⟩⟩⟩
  · replace H := H.2 b2
    refine r_iconst dJ7_toArray_2_26 rfl ?_
    refine r_goto (tgt := 32) dJ7_toArray_2_27 rfl ?_
    exact R.forget (v_J7_toArray_2_32 H) ⟨Or.inr rfl, ⟨Or.inl rfl, ⟨Or.inl rfl, ⟨Or.inl rfl, ⟨Or.inl rfl, ⟨Or.inl rfl, ⟨Or.inl rfl, trivial⟩⟩⟩⟩⟩⟩⟩
theorem c_J7_toArray_2_0 {g : PG} {d : Nat} {l0 : Nat} {l1 : Nat} {h : PH} {Q : Out → PH → Prop} (H : w_J7_toArray_2_0 g d l0 l1 h Q) : C g (d + 1) m_J7_toArray_2 [.ref l0, .ref l1] h Q := C_of_R rfl rfl (Nat.le_of_ble_eq_true rfl) rfl (v_J7_toArray_2_0 H)
abbrev w_J7_removeFirst_0 (g : PG) (d : Nat) (l0 : Nat) (h : PH) (Q : Out → PH → Prop) : Prop := hkd h l0 = 26 ∧ C g d m_J7_pollFirst [.ref l0] h (oR (fun v3 h2 => ((¬ v3 = 0) → Q (.inl (some (.ref v3))) h2) ∧ ((v3 = 0) → 5 ≤ d ∧ Q (.inr (hnx h2)) (hnew 34 0 7 h2))) (fun r hx => Q (.inr r) hx))
theorem v_J7_removeFirst_0 {g : PG} {d : Nat} {l0 : Nat} {h : PH} {Q : Out → PH → Prop} (H : w_J7_removeFirst_0 g d l0 h Q) : R g d m_J7_removeFirst 0 [.ref l0, .null] [] h Q := by
  refine r_aload_n dJ7_removeFirst_0 rfl rfl ?_
  obtain ⟨k1, H⟩ := H
  refine r_invV (y := m_J7_pollFirst) dJ7_removeFirst_1 rfl (lw_V q1203 q1204 q1205 q117 q1206) py_J7_pollFirst (Nat.le_of_ble_eq_true rfl) (args := []) rfl rfl (Nat.le_of_ble_eq_true rfl) k1 (by decide) rfl (C.monoE H (fun o h2 _ x4 K => cont_R K (fun v3 H => ?_) (fun r HX => XR_nc rfl HX)))
  refine r_astore_n dJ7_removeFirst_4 rfl (Nat.le_of_ble_eq_true rfl) rfl (slS sl0) ?_
  refine r_aload_n dJ7_removeFirst_5 rfl rfl ?_
  refine r_ifnonnull (tgt := 17) dJ7_removeFirst_6 rfl (fun b5 => ?_) (fun b5 => ?_)
  · replace H := H.1 b5
    refine r_aload_n dJ7_removeFirst_17 rfl rfl ?_
    exact r_aret dJ7_removeFirst_18 rfl H
  · replace H := H.2 b5
    exact r_throw0 (kE := 34) (names := ["java/lang/RuntimeException", "java/lang/Exception"]) (by decide) dJ7_removeFirst_9 dJ7_removeFirst_12 dJ7_removeFirst_13 dJ7_removeFirst_16 (by decide +kernel) (by decide +kernel) tw_J7_97_99 rfl H.1 (Nat.le_of_ble_eq_true rfl) H.2
theorem c_J7_removeFirst_0 {g : PG} {d : Nat} {l0 : Nat} {h : PH} {Q : Out → PH → Prop} (H : w_J7_removeFirst_0 g d l0 h Q) : C g (d + 1) m_J7_removeFirst [.ref l0] h Q := C_of_R rfl rfl (Nat.le_of_ble_eq_true rfl) rfl (v_J7_removeFirst_0 H)
abbrev w_J7_addLast_0 (g : PG) (d : Nat) (l0 : Nat) (l1 : Nat) (h : PH) (Q : Out → PH → Prop) : Prop := ((¬ l1 = 0) → hkd h l0 = 26 ∧ hkd h (hG h 559 l0) / 100 = 6 ∧ hkd h (hG h 559 l0) % 100 < 50 ∧ vp_in (hF h 47 l0) (hln h (hG h 559 l0)) ∧ okA h l1 "java/lang/Object" ∧ ∀ h7, h7 = setB (hG h 559 l0) (hF h 47 l0).toNatClampNeg l1 h → hkd h7 (hG h 559 l0) / 100 = 6 ∧ C g d m_J7_inc [.int (hF h7 47 l0), .int (nI (hln h7 (hG h 559 l0)))] h7 (oI (fun v10 h9 => ∀ h12, h12 = setF 47 l0 v10 h9 → ((¬ (hF h7 46 l0) = v10) → Q (.inl none) h12) ∧ (((hF h7 46 l0) = v10) → C g d m_J7_grow [.ref l0, .int 1] h12 (oV (fun h14 => Q (.inl none) h14) (fun r hx => Q (.inr r) hx)))) (fun r hx => Q (.inr r) hx))) ∧ ((l1 = 0) → False)
theorem v_J7_addLast_0 {g : PG} {d : Nat} {l0 : Nat} {l1 : Nat} {h : PH} {Q : Out → PH → Prop} (H : w_J7_addLast_0 g d l0 l1 h Q) : R g d m_J7_addLast 0 [.ref l0, .ref l1, .null] [] h Q := by
  refine r_aload_n dJ7_addLast_0 rfl rfl ?_
  refine r_ifnonnull (tgt := 12) dJ7_addLast_1 rfl (fun b1 => ?_) (fun b1 => ?_)
  · replace H := H.1 b1
    refine r_aload_n dJ7_addLast_12 rfl rfl ?_
    obtain ⟨k2, H⟩ := H
    refine r_getG fr_J7_3_26 (by decide) dJ7_addLast_13 k2 (by decide) ?_
    refine r_astore_n dJ7_addLast_16 rfl (Nat.le_of_ble_eq_true rfl) rfl (slS (slS sl0)) ?_
    refine r_aload_n dJ7_addLast_17 rfl rfl ?_
    refine r_aload_n dJ7_addLast_18 rfl rfl ?_
    refine r_getF fr_J7_20_26 (by decide) dJ7_addLast_19 k2 (by decide) ?_
    refine r_aload_n dJ7_addLast_22 rfl rfl ?_
    obtain ⟨k3, H⟩ := H
    obtain ⟨k4, H⟩ := H
    obtain ⟨k5, H⟩ := H
    obtain ⟨k6, H⟩ := H
    replace H := H _ rfl
    refine r_aastO dJ7_addLast_23 (m := 6) (by decide) rfl k3 k4 k5 k6 ?_
    refine r_aload_n dJ7_addLast_24 rfl rfl ?_
    refine r_getF fr_J7_24_26 (by decide) dJ7_addLast_25 k2 (by decide) ?_
    refine r_aload_n dJ7_addLast_28 rfl rfl ?_
    refine r_aload_n dJ7_addLast_29 rfl rfl ?_
    refine r_getF fr_J7_20_26 (by decide) dJ7_addLast_30 k2 (by decide) ?_
    refine r_aload_n dJ7_addLast_33 rfl rfl ?_
    obtain ⟨k8, H⟩ := H
    refine r_alen (m := 6) dJ7_addLast_34 (by decide) k8 ?_
    refine r_invS (y := m_J7_inc) dJ7_addLast_35 rfl (lw_S q1210 q1165 q117 q1166) py_J7_inc (Nat.le_of_ble_eq_true rfl) (args := [_, _]) rfl rfl (Nat.le_of_ble_eq_true rfl) (C.monoE H (fun o h9 _ x11 K => cont_I K (fun v10 H => ?_) (fun r HX => XR_nc rfl HX)))
    refine r_dup_x1 dJ7_addLast_38 rfl rfl ?_
    replace H := H _ rfl
    refine r_putF fw_J7_20_26 (by decide) dJ7_addLast_39 (x11.kd k2 (by decide)) (by decide) rfl rfl ?_
    refine r_icmp_ne (tgt := 50) dJ7_addLast_42 rfl (fun b13 => ?_) (fun b13 => ?_)
    · replace H := H.1 b13
      exact r_vret dJ7_addLast_50 rfl H
    · replace H := H.2 b13
      refine r_aload_n dJ7_addLast_45 rfl rfl ?_
      refine r_iconst dJ7_addLast_46 rfl ?_
      refine r_invV (y := m_J7_grow) dJ7_addLast_47 rfl (lw_V q2588 q2590 qp41 q117 q2591) py_J7_grow (Nat.le_of_ble_eq_true rfl) (args := [_]) rfl rfl (Nat.le_of_ble_eq_true rfl) (x11.kd k2 (by decide)) (by decide) rfl (C.monoE H (fun o h14 _ x16 K => cont_V K (fun H => ?_) (fun r HX => XR_nc rfl HX)))
      exact r_vret dJ7_addLast_50 rfl H
  · replace H := H.2 b1
    exact H.elim
theorem c_J7_addLast_0 {g : PG} {d : Nat} {l0 : Nat} {l1 : Nat} {h : PH} {Q : Out → PH → Prop} (H : w_J7_addLast_0 g d l0 l1 h Q) : C g (d + 1) m_J7_addLast [.ref l0, .ref l1] h Q := C_of_R rfl rfl (Nat.le_of_ble_eq_true rfl) rfl (v_J7_addLast_0 H)
abbrev w_J7_newCapacity_0 (g : PG) (d : Nat) (l0 : Nat) (l1 : Int32) (l2 : Int32) (h : PH) (Q : Out → PH → Prop) : Prop := hkd h l0 = 26 ∧ hkd h (hG h 559 l0) / 100 = 6 ∧ (((((nI (hln h (hG h 559 l0))) + l1) - (2147483639 : Int32)) ≤ 0) → ((l1 ≤ l2) → ((0 ≤ (((nI (hln h (hG h 559 l0))) + l2) - (2147483639 : Int32))) → Q (.inl (some (.int 2147483639))) h) ∧ ((¬ 0 ≤ (((nI (hln h (hG h 559 l0))) + l2) - (2147483639 : Int32))) → Q (.inl (some (.int ((nI (hln h (hG h 559 l0))) + l2)))) h)) ∧ ((¬ l1 ≤ l2) → Q (.inl (some (.int ((nI (hln h (hG h 559 l0))) + l1)))) h)) ∧ ((¬ (((nI (hln h (hG h 559 l0))) + l1) - (2147483639 : Int32)) ≤ 0) → ((0 ≤ ((nI (hln h (hG h 559 l0))) + l1)) → Q (.inl (some (.int 2147483647))) h) ∧ ((¬ 0 ≤ ((nI (hln h (hG h 559 l0))) + l1)) → False))
theorem v_J7_newCapacity_0 {g : PG} {d : Nat} {l0 : Nat} {l1 : Int32} {l2 : Int32} {h : PH} {Q : Out → PH → Prop} (H : w_J7_newCapacity_0 g d l0 l1 l2 h Q) : R g d m_J7_newCapacity 0 [.ref l0, .int l1, .int l2, .null, .null] [] h Q := by
  refine r_aload_n dJ7_newCapacity_0 rfl rfl ?_
  obtain ⟨k1, H⟩ := H
  refine r_getG fr_J7_3_26 (by decide) dJ7_newCapacity_1 k1 (by decide) ?_
  obtain ⟨k2, H⟩ := H
  refine r_alen (m := 6) dJ7_newCapacity_4 (by decide) k2 ?_
  refine r_istore_n dJ7_newCapacity_5 rfl (Nat.le_of_ble_eq_true rfl) rfl (slS (slS (slS sl0))) ?_
  refine r_iload_n dJ7_newCapacity_6 rfl rfl ?_
  refine r_iload_n dJ7_newCapacity_7 rfl rfl ?_
  refine r_iadd dJ7_newCapacity_8 ?_
  refine r_dup dJ7_newCapacity_9 rfl ?_
  refine r_istore dJ7_newCapacity_10 (Nat.le_of_ble_eq_true rfl) rfl (slS (slS (slS (slS sl0)))) ?_
  refine r_ldc dJ7_newCapacity_12 q2592 ?_
  refine r_isub dJ7_newCapacity_14 ?_
  refine r_if_le (tgt := 36) dJ7_newCapacity_15 rfl (fun b3 => ?_) (fun b3 => ?_)
  · replace H := H.1 b3
    refine r_iload_n dJ7_newCapacity_36 rfl rfl ?_
    refine r_iload_n dJ7_newCapacity_37 rfl rfl ?_
    refine r_icmp_le (tgt := 44) dJ7_newCapacity_38 rfl (fun b4 => ?_) (fun b4 => ?_)
    · replace H := H.1 b4
      refine r_iload_n dJ7_newCapacity_44 rfl rfl ?_
      refine r_iload_n dJ7_newCapacity_45 rfl rfl ?_
      refine r_iadd dJ7_newCapacity_46 ?_
      refine r_ldc dJ7_newCapacity_47 q2592 ?_
      refine r_isub dJ7_newCapacity_49 ?_
      refine r_if_ge (tgt := 59) dJ7_newCapacity_50 rfl (fun b5 => ?_) (fun b5 => ?_)
      · replace H := H.1 b5
        refine r_ldc dJ7_newCapacity_59 q2592 ?_
        exact r_iret dJ7_newCapacity_61 rfl H
      · replace H := H.2 b5
        refine r_iload_n dJ7_newCapacity_53 rfl rfl ?_
        refine r_iload_n dJ7_newCapacity_54 rfl rfl ?_
        refine r_iadd dJ7_newCapacity_55 ?_
        refine r_goto (tgt := 61) dJ7_newCapacity_56 rfl ?_
        exact r_iret dJ7_newCapacity_61 rfl H
    · replace H := H.2 b4
      refine r_iload dJ7_newCapacity_41 rfl ?_
      exact r_iret dJ7_newCapacity_43 rfl H
  · replace H := H.2 b3
    refine r_iload dJ7_newCapacity_18 rfl ?_
    refine r_if_ge (tgt := 33) dJ7_newCapacity_20 rfl (fun b6 => ?_) (fun b6 => ?_)
    · replace H := H.1 b6
      refine r_ldc dJ7_newCapacity_33 q2613 ?_
      exact r_iret dJ7_newCapacity_35 rfl H
    · replace H := H.2 b6
      exact H.elim
theorem c_J7_newCapacity_0 {g : PG} {d : Nat} {l0 : Nat} {l1 : Int32} {l2 : Int32} {h : PH} {Q : Out → PH → Prop} (H : w_J7_newCapacity_0 g d l0 l1 l2 h Q) : C g (d + 1) m_J7_newCapacity [.ref l0, .int l1, .int l2] h Q := C_of_R rfl rfl (Nat.le_of_ble_eq_true rfl) rfl (v_J7_newCapacity_0 H)
abbrev w_J7_removeLast_0 (g : PG) (d : Nat) (l0 : Nat) (h : PH) (Q : Out → PH → Prop) : Prop := hkd h l0 = 26 ∧ C g d m_J7_pollLast [.ref l0] h (oR (fun v3 h2 => ((¬ v3 = 0) → Q (.inl (some (.ref v3))) h2) ∧ ((v3 = 0) → 5 ≤ d ∧ Q (.inr (hnx h2)) (hnew 34 0 7 h2))) (fun r hx => Q (.inr r) hx))
theorem v_J7_removeLast_0 {g : PG} {d : Nat} {l0 : Nat} {h : PH} {Q : Out → PH → Prop} (H : w_J7_removeLast_0 g d l0 h Q) : R g d m_J7_removeLast 0 [.ref l0, .null] [] h Q := by
  refine r_aload_n dJ7_removeLast_0 rfl rfl ?_
  obtain ⟨k1, H⟩ := H
  refine r_invV (y := m_J7_pollLast) dJ7_removeLast_1 rfl (lw_V q3219 q3220 q3221 q117 q3222) py_J7_pollLast (Nat.le_of_ble_eq_true rfl) (args := []) rfl rfl (Nat.le_of_ble_eq_true rfl) k1 (by decide) rfl (C.monoE H (fun o h2 _ x4 K => cont_R K (fun v3 H => ?_) (fun r HX => XR_nc rfl HX)))
  refine r_astore_n dJ7_removeLast_4 rfl (Nat.le_of_ble_eq_true rfl) rfl (slS sl0) ?_
  refine r_aload_n dJ7_removeLast_5 rfl rfl ?_
  refine r_ifnonnull (tgt := 17) dJ7_removeLast_6 rfl (fun b5 => ?_) (fun b5 => ?_)
  · replace H := H.1 b5
    refine r_aload_n dJ7_removeLast_17 rfl rfl ?_
    exact r_aret dJ7_removeLast_18 rfl H
  · replace H := H.2 b5
    exact r_throw0 (kE := 34) (names := ["java/lang/RuntimeException", "java/lang/Exception"]) (by decide) dJ7_removeLast_9 dJ7_removeLast_12 dJ7_removeLast_13 dJ7_removeLast_16 (by decide +kernel) (by decide +kernel) tw_J7_97_99 rfl H.1 (Nat.le_of_ble_eq_true rfl) H.2
theorem c_J7_removeLast_0 {g : PG} {d : Nat} {l0 : Nat} {h : PH} {Q : Out → PH → Prop} (H : w_J7_removeLast_0 g d l0 h Q) : C g (d + 1) m_J7_removeLast [.ref l0] h Q := C_of_R rfl rfl (Nat.le_of_ble_eq_true rfl) rfl (v_J7_removeLast_0 H)
abbrev w_J7_pollLast_0 (g : PG) (d : Nat) (l0 : Nat) (h : PH) (Q : Out → PH → Prop) : Prop := hkd h l0 = 26 ∧ hkd h (hG h 559 l0) / 100 = 6 ∧ C g d m_J7_dec [.int (hF h 47 l0), .int (nI (hln h (hG h 559 l0)))] h (oI (fun v4 h3 => C g d m_J7_elementAt [.ref (hG h 559 l0), .int v4] h3 (oR (fun v7 h6 => ((v7 = 0) → Q (.inl (some (.ref v7))) h6) ∧ ((¬ v7 = 0) → ∀ h10, h10 = setF 47 l0 v4 h6 → hkd h10 (hG h 559 l0) / 100 = 6 ∧ hkd h10 (hG h 559 l0) % 100 < 50 ∧ vp_in v4 (hln h10 (hG h 559 l0)) ∧ ∀ h15, h15 = setB (hG h 559 l0) v4.toNatClampNeg (0 : Nat) h10 → Q (.inl (some (.ref v7))) h15)) (fun r hx => Q (.inr r) hx))) (fun r hx => Q (.inr r) hx))
theorem v_J7_pollLast_0 {g : PG} {d : Nat} {l0 : Nat} {h : PH} {Q : Out → PH → Prop} (H : w_J7_pollLast_0 g d l0 h Q) : R g d m_J7_pollLast 0 [.ref l0, .null, .null, .null] [] h Q := by
  refine r_aload_n dJ7_pollLast_0 rfl rfl ?_
  obtain ⟨k1, H⟩ := H
  refine r_getG fr_J7_3_26 (by decide) dJ7_pollLast_1 k1 (by decide) ?_
  refine r_dup dJ7_pollLast_4 rfl ?_
  refine r_astore_n dJ7_pollLast_5 rfl (Nat.le_of_ble_eq_true rfl) rfl (slS sl0) ?_
  refine r_aload_n dJ7_pollLast_6 rfl rfl ?_
  refine r_getF fr_J7_20_26 (by decide) dJ7_pollLast_7 k1 (by decide) ?_
  refine r_aload_n dJ7_pollLast_10 rfl rfl ?_
  obtain ⟨k2, H⟩ := H
  refine r_alen (m := 6) dJ7_pollLast_11 (by decide) k2 ?_
  refine r_invS (y := m_J7_dec) dJ7_pollLast_12 rfl (lw_S q3223 q3224 q117 q3225) py_J7_dec (Nat.le_of_ble_eq_true rfl) (args := [_, _]) rfl rfl (Nat.le_of_ble_eq_true rfl) (C.monoE H (fun o h3 _ x5 K => cont_I K (fun v4 H => ?_) (fun r HX => XR_nc rfl HX)))
  refine r_dup dJ7_pollLast_15 rfl ?_
  refine r_istore_n dJ7_pollLast_16 rfl (Nat.le_of_ble_eq_true rfl) rfl (slS (slS sl0)) ?_
  refine r_invS (y := m_J7_elementAt) dJ7_pollLast_17 rfl (lw_S q1207 q1208 q117 q1209) py_J7_elementAt (Nat.le_of_ble_eq_true rfl) (args := [_, _]) rfl rfl (Nat.le_of_ble_eq_true rfl) (C.monoE H (fun o h6 _ x8 K => cont_R K (fun v7 H => ?_) (fun r HX => XR_nc rfl HX)))
  refine r_astore_n dJ7_pollLast_20 rfl (Nat.le_of_ble_eq_true rfl) rfl (slS (slS (slS sl0))) ?_
  refine r_aload_n dJ7_pollLast_21 rfl rfl ?_
  refine r_ifnull (tgt := 34) dJ7_pollLast_22 rfl (fun b9 => ?_) (fun b9 => ?_)
  · replace H := H.1 b9
    refine r_aload_n dJ7_pollLast_34 rfl rfl ?_
    exact r_aret dJ7_pollLast_35 rfl H
  · replace H := H.2 b9
    refine r_aload_n dJ7_pollLast_25 rfl rfl ?_
    refine r_aload_n dJ7_pollLast_26 rfl rfl ?_
    refine r_iload_n dJ7_pollLast_27 rfl rfl ?_
    refine r_dup_x1 dJ7_pollLast_28 rfl rfl ?_
    replace H := H _ rfl
    refine r_putF fw_J7_20_26 (by decide) dJ7_pollLast_29 (x8.kd (x5.kd k1 (by decide)) (by decide)) (by decide) rfl rfl ?_
    refine r_null dJ7_pollLast_32 ?_
    obtain ⟨k11, H⟩ := H
    obtain ⟨k12, H⟩ := H
    obtain ⟨k13, H⟩ := H
    replace H := H _ rfl
    refine r_aastN dJ7_pollLast_33 (m := 6) (by decide) k11 k12 k13 ?_
    refine r_aload_n dJ7_pollLast_34 rfl rfl ?_
    exact r_aret dJ7_pollLast_35 rfl H
theorem c_J7_pollLast_0 {g : PG} {d : Nat} {l0 : Nat} {h : PH} {Q : Out → PH → Prop} (H : w_J7_pollLast_0 g d l0 h Q) : C g (d + 1) m_J7_pollLast [.ref l0] h Q := C_of_R rfl rfl (Nat.le_of_ble_eq_true rfl) rfl (v_J7_pollLast_0 H)
abbrev w_J7_dec_0 (g : PG) (d : Nat) (l0 : Int32) (l1 : Int32) (h : PH) (Q : Out → PH → Prop) : Prop := ((0 ≤ (l0 + (-1))) → Q (.inl (some (.int (l0 + (-1))))) h) ∧ ((¬ 0 ≤ (l0 + (-1))) → Q (.inl (some (.int (l1 - (1 : Int32))))) h)
theorem v_J7_dec_0 {g : PG} {d : Nat} {l0 : Int32} {l1 : Int32} {h : PH} {Q : Out → PH → Prop} (H : w_J7_dec_0 g d l0 l1 h Q) : R g d m_J7_dec 0 [.int l0, .int l1] [] h Q := by
  refine r_iinc dJ7_dec_0 rfl rfl (Nat.le_of_ble_eq_true rfl) rfl sl0 ?_
  refine r_iload_n dJ7_dec_3 rfl rfl ?_
  refine r_if_ge (tgt := 11) dJ7_dec_4 rfl (fun b1 => ?_) (fun b1 => ?_)
  · replace H := H.1 b1
    refine r_iload_n dJ7_dec_11 rfl rfl ?_
    exact r_iret dJ7_dec_12 rfl H
  · replace H := H.2 b1
    refine r_iload_n dJ7_dec_7 rfl rfl ?_
    refine r_iconst dJ7_dec_8 rfl ?_
    refine r_isub dJ7_dec_9 ?_
    refine r_istore_n dJ7_dec_10 rfl (Nat.le_of_ble_eq_true rfl) rfl sl0 ?_
    refine r_iload_n dJ7_dec_11 rfl rfl ?_
    exact r_iret dJ7_dec_12 rfl H
theorem c_J7_dec_0 {g : PG} {d : Nat} {l0 : Int32} {l1 : Int32} {h : PH} {Q : Out → PH → Prop} (H : w_J7_dec_0 g d l0 l1 h Q) : C g (d + 1) m_J7_dec [.int l0, .int l1] h Q := C_of_R rfl rfl (Nat.le_of_ble_eq_true rfl) rfl (v_J7_dec_0 H)
abbrev w_J7_clear_0 (g : PG) (d : Nat) (l0 : Nat) (h : PH) (Q : Out → PH → Prop) : Prop := hkd h l0 = 26 ∧ C g d m_J7_circularClear [.ref (hG h 559 l0), .int (hF h 46 l0), .int (hF h 47 l0)] h (oV (fun h2 => ∀ h5, h5 = setF 47 l0 (0 : Int32) h2 → ∀ h6, h6 = setF 46 l0 (0 : Int32) h5 → Q (.inl none) h6) (fun r hx => Q (.inr r) hx))
theorem v_J7_clear_0 {g : PG} {d : Nat} {l0 : Nat} {h : PH} {Q : Out → PH → Prop} (H : w_J7_clear_0 g d l0 h Q) : R g d m_J7_clear 0 [.ref l0] [] h Q := by
  refine r_aload_n dJ7_clear_0 rfl rfl ?_
  obtain ⟨k1, H⟩ := H
  refine r_getG fr_J7_3_26 (by decide) dJ7_clear_1 k1 (by decide) ?_
  refine r_aload_n dJ7_clear_4 rfl rfl ?_
  refine r_getF fr_J7_24_26 (by decide) dJ7_clear_5 k1 (by decide) ?_
  refine r_aload_n dJ7_clear_8 rfl rfl ?_
  refine r_getF fr_J7_20_26 (by decide) dJ7_clear_9 k1 (by decide) ?_
  refine r_invS (y := m_J7_circularClear) dJ7_clear_12 rfl (lw_S q3237 q3238 q117 q3239) py_J7_circularClear (Nat.le_of_ble_eq_true rfl) (args := [_, _, _]) rfl rfl (Nat.le_of_ble_eq_true rfl) (C.monoE H (fun o h2 _ x4 K => cont_V K (fun H => ?_) (fun r HX => XR_nc rfl HX)))
  refine r_aload_n dJ7_clear_15 rfl rfl ?_
  refine r_aload_n dJ7_clear_16 rfl rfl ?_
  refine r_iconst dJ7_clear_17 rfl ?_
  refine r_dup_x1 dJ7_clear_18 rfl rfl ?_
  replace H := H _ rfl
  refine r_putF fw_J7_20_26 (by decide) dJ7_clear_19 (x4.kd k1 (by decide)) (by decide) rfl rfl ?_
  replace H := H _ rfl
  refine r_putF fw_J7_24_26 (by decide) dJ7_clear_22 (x4.kd k1 (by decide)) (by decide) rfl rfl ?_
  exact r_vret dJ7_clear_25 rfl H
theorem c_J7_clear_0 {g : PG} {d : Nat} {l0 : Nat} {h : PH} {Q : Out → PH → Prop} (H : w_J7_clear_0 g d l0 h Q) : C g (d + 1) m_J7_clear [.ref l0] h Q := C_of_R rfl rfl (Nat.le_of_ble_eq_true rfl) rfl (v_J7_clear_0 H)
abbrev w_J7_circularClear_12 (g : PG) (d : Nat) (l0 : Nat) (l1 : Int32) (l2 : Int32) (l3 : Int32) (h : PH) (Q : Out → PH → Prop) : Prop := ((l3 ≤ l1) → ((¬ l3 = l2) → R g d m_J7_circularClear 12 [.ref l0, .int 0, .int l2, .int l2] [] h Q) ∧ ((l3 = l2) → Q (.inl none) h)) ∧ ((¬ l3 ≤ l1) → hkd h l0 / 100 = 6 ∧ hkd h l0 % 100 < 50 ∧ vp_in l1 (hln h l0) ∧ ∀ h7, h7 = setB l0 l1.toNatClampNeg (0 : Nat) h → R g d m_J7_circularClear 12 [.ref l0, .int (l1 + 1), .int l2, .int l3] [] h7 Q)
theorem v_J7_circularClear_12 {g : PG} {d : Nat} {l0 : Nat} {l1 : Int32} {l2 : Int32} {l3 : Int32} {h : PH} {Q : Out → PH → Prop} (H : w_J7_circularClear_12 g d l0 l1 l2 l3 h Q) : R g d m_J7_circularClear 12 [.ref l0, .int l1, .int l2, .int l3] [] h Q := by
  refine r_iload_n dJ7_circularClear_12 rfl rfl ?_
  refine r_iload_n dJ7_circularClear_13 rfl rfl ?_
  refine r_icmp_ge (tgt := 27) dJ7_circularClear_14 rfl (fun b1 => ?_) (fun b1 => ?_)
  · replace H := H.1 b1
    refine r_iload_n dJ7_circularClear_27 rfl rfl ?_
    refine r_iload_n dJ7_circularClear_28 rfl rfl ?_
    refine r_icmp_ne (tgt := 35) dJ7_circularClear_29 rfl (fun b2 => ?_) (fun b2 => ?_)
    · replace H := H.1 b2
      refine r_iconst dJ7_circularClear_35 rfl ?_
      refine r_istore_n dJ7_circularClear_36 rfl (Nat.le_of_ble_eq_true rfl) rfl (slS sl0) ?_
      refine r_iload_n dJ7_circularClear_37 rfl rfl ?_
      refine r_istore_n dJ7_circularClear_38 rfl (Nat.le_of_ble_eq_true rfl) rfl (slS (slS (slS sl0))) ?_
      refine r_goto (tgt := 12) dJ7_circularClear_39 rfl ?_
      exact H
    · replace H := H.2 b2
      refine r_goto (tgt := 42) dJ7_circularClear_32 rfl ?_
      exact r_vret dJ7_circularClear_42 rfl H
  · replace H := H.2 b1
    refine r_aload_n dJ7_circularClear_17 rfl rfl ?_
    refine r_iload_n dJ7_circularClear_18 rfl rfl ?_
    refine r_null dJ7_circularClear_19 ?_
    obtain ⟨k3, H⟩ := H
    obtain ⟨k4, H⟩ := H
    obtain ⟨k5, H⟩ := H
    replace H := H _ rfl
    refine r_aastN dJ7_circularClear_20 (m := 6) (by decide) k3 k4 k5 ?_
    refine r_iinc dJ7_circularClear_21 rfl rfl (Nat.le_of_ble_eq_true rfl) rfl (slS sl0) ?_
    refine r_goto (tgt := 12) dJ7_circularClear_24 rfl ?_
    exact H
abbrev w_J7_circularClear_11 (g : PG) (d : Nat) (l0 : Nat) (l1 : Int32) (l2 : Int32) (s0 : Int32) (h : PH) (Q : Out → PH → Prop) : Prop := R g d m_J7_circularClear 12 [.ref l0, .int l1, .int l2, .int s0] [] h Q
theorem v_J7_circularClear_11 {g : PG} {d : Nat} {l0 : Nat} {l1 : Int32} {l2 : Int32} {s0 : Int32} {h : PH} {Q : Out → PH → Prop} (H : w_J7_circularClear_11 g d l0 l1 l2 s0 h Q) : R g d m_J7_circularClear 11 [.ref l0, .int l1, .int l2, .null] [.int s0] h Q := by
  refine r_istore_n dJ7_circularClear_11 rfl (Nat.le_of_ble_eq_true rfl) rfl (slS (slS (slS sl0))) ?_
  exact H
abbrev w_J7_circularClear_0 (g : PG) (d : Nat) (l0 : Nat) (l1 : Int32) (l2 : Int32) (h : PH) (Q : Out → PH → Prop) : Prop := ((l2 < l1) → hkd h l0 / 100 = 6 ∧ w_J7_circularClear_11 g d l0 l1 l2 (nI (hln h l0)) h Q) ∧ ((¬ l2 < l1) → w_J7_circularClear_11 g d l0 l1 l2 l2 h Q)
theorem v_J7_circularClear_0 {g : PG} {d : Nat} {l0 : Nat} {l1 : Int32} {l2 : Int32} {h : PH} {Q : Out → PH → Prop} (H : w_J7_circularClear_0 g d l0 l1 l2 h Q) : R g d m_J7_circularClear 0 [.ref l0, .int l1, .int l2, .null] [] h Q := by
  refine r_iload_n dJ7_circularClear_0 rfl rfl ?_
  refine r_iload_n dJ7_circularClear_1 rfl rfl ?_
  refine r_icmp_gt (tgt := 9) dJ7_circularClear_2 rfl (fun b1 => ?_) (fun b1 => ?_)
  · replace H := H.1 b1
    refine r_aload_n dJ7_circularClear_9 rfl rfl ?_
    obtain ⟨k2, H⟩ := H
    refine r_alen (m := 6) dJ7_circularClear_10 (by decide) k2 ?_
    exact v_J7_circularClear_11 H
  · replace H := H.2 b1
    refine r_iload_n dJ7_circularClear_5 rfl rfl ?_
    refine r_goto (tgt := 11) dJ7_circularClear_6 rfl ?_
    exact v_J7_circularClear_11 H
theorem c_J7_circularClear_0 {g : PG} {d : Nat} {l0 : Nat} {l1 : Int32} {l2 : Int32} {h : PH} {Q : Out → PH → Prop} (H : w_J7_circularClear_0 g d l0 l1 l2 h Q) : C g (d + 1) m_J7_circularClear [.ref l0, .int l1, .int l2] h Q := C_of_R rfl rfl (Nat.le_of_ble_eq_true rfl) rfl (v_J7_circularClear_0 H)
abbrev w_J8_init_k28_0 (g : PG) (d : Nat) (l0 : Nat) (l1 : Int32) (h : PH) (Q : Out → PH → Prop) : Prop := 0 < l0 ∧ isSI g 1 ∧ (((sI g 1) = 0) → C g d m_J11_newBytesFor [.int l1] h (oR (fun v5 h4 => hkd h4 l0 = 28 ∧ ∀ h8, h8 = setG 562 l0 v5 h4 → narrow .byte (.int 1) = .int 1 ∧ fits .byte (.int 1) = true ∧ ∀ h9, h9 = setF 50 l0 (1 : Int32) h8 → Q (.inl none) h9) (fun r hx => Q (.inr r) hx))) ∧ ((¬ (sI g 1) = 0) → ¬ l1 < 0 ∧ l1.toNatClampNeg ≤ 67108864 ∧ ∀ h14, h14 = hnew 300 l1.toNatClampNeg (l1.toNatClampNeg + 1) h → hkd h14 l0 = 28 ∧ ∀ h16, h16 = setG 562 l0 (hnx h) h14 → narrow .byte (.int 0) = .int 0 ∧ fits .byte (.int 0) = true ∧ ∀ h17, h17 = setF 50 l0 (0 : Int32) h16 → Q (.inl none) h17)
theorem v_J8_init_k28_0 {g : PG} {d : Nat} {l0 : Nat} {l1 : Int32} {h : PH} {Q : Out → PH → Prop} (H : w_J8_init_k28_0 g d l0 l1 h Q) : R g d m_J8_init 0 [.ref l0, .int l1] [] h Q := by
  refine r_aload_n dJ8_init_0 rfl rfl ?_
  obtain ⟨k1, H⟩ := H
  refine r_oinit dJ8_init_1 q374 q182 q183 k1 (Nat.le_of_ble_eq_true rfl) ?_
  obtain ⟨k2, H⟩ := H
  refine r_getsI (ref := "") (n := 1) dJ8_init_4 rfl q375 k2 ?_
  refine r_if_eq (tgt := 25) dJ8_init_7 rfl (fun b3 => ?_) (fun b3 => ?_)
  · replace H := H.1 b3
    refine r_aload_n dJ8_init_25 rfl rfl ?_
    refine r_iload_n dJ8_init_26 rfl rfl ?_
    refine r_invS (y := m_J11_newBytesFor) dJ8_init_27 rfl (lw_S q377 q378 q121 q379) py_J11_newBytesFor (Nat.le_of_ble_eq_true rfl) (args := [_]) rfl rfl (Nat.le_of_ble_eq_true rfl) (C.monoE H (fun o h4 _ x6 K => cont_R K (fun v5 H => ?_) (fun r HX => XR_nc rfl HX)))
    obtain ⟨k7, H⟩ := H
    replace H := H _ rfl
    refine r_putG fw_J8_15_28_i (by decide) dJ8_init_30 k7 (by decide) rfl ?_
    refine r_aload_n dJ8_init_33 rfl rfl ?_
    refine r_iconst dJ8_init_34 rfl ?_
    obtain ⟨k10, H⟩ := H
    obtain ⟨k11, H⟩ := H
    replace H := H _ rfl
    refine r_putF fw_J8_22_28_i (by decide) dJ8_init_35 k7 (by decide) k10 k11 ?_
    exact r_vret dJ8_init_38 rfl H
  · replace H := H.2 b3
    refine r_aload_n dJ8_init_10 rfl rfl ?_
    refine r_iload_n dJ8_init_11 rfl rfl ?_
    obtain ⟨k12, H⟩ := H
    obtain ⟨k13, H⟩ := H
    replace H := H _ rfl
    refine r_newa (atype := .byte) (m := 3) (kk := 300) dJ8_init_12 rfl (by decide) (by decide) q398 k12 rfl (newB k13 (by decide)) ?_
    obtain ⟨k15, H⟩ := H
    replace H := H _ rfl
    refine r_putG fw_J8_15_28_i (by decide) dJ8_init_14 k15 (by decide) rfl ?_
    refine r_aload_n dJ8_init_17 rfl rfl ?_
    refine r_iconst dJ8_init_18 rfl ?_
    obtain ⟨k18, H⟩ := H
    obtain ⟨k19, H⟩ := H
    replace H := H _ rfl
    refine r_putF fw_J8_22_28_i (by decide) dJ8_init_19 k15 (by decide) k18 k19 ?_
    refine r_goto (tgt := 38) dJ8_init_22 rfl ?_
    exact r_vret dJ8_init_38 rfl H
theorem c_J8_init_k28_0 {g : PG} {d : Nat} {l0 : Nat} {l1 : Int32} {h : PH} {Q : Out → PH → Prop} (H : w_J8_init_k28_0 g d l0 l1 h Q) : C g (d + 1) m_J8_init [.ref l0, .int l1] h Q := C_of_R rfl rfl (Nat.le_of_ble_eq_true rfl) rfl (v_J8_init_k28_0 H)
abbrev w_J8_setLength_k28_76 (g : PG) (d : Nat) (l0 : Nat) (l1 : Int32) (h : PH) (Q : Out → PH → Prop) : Prop := hkd h l0 = 28 ∧ ∀ h2, h2 = setF 52 l0 l1 h → Q (.inl none) h2
theorem v_J8_setLength_k28_76 {g : PG} {d : Nat} {l0 : Nat} {l1 : Int32} {h : PH} {Q : Out → PH → Prop} (H : w_J8_setLength_k28_76 g d l0 l1 h Q) : R g d m_J8_setLength 76 [.ref l0, .int l1] [] h Q := by
  refine r_aload_n dJ8_setLength_76 rfl rfl ?_
  refine r_iload_n dJ8_setLength_77 rfl rfl ?_
  obtain ⟨k1, H⟩ := H
  replace H := H _ rfl
  refine r_putF fw_J8_79_28 (by decide) dJ8_setLength_78 k1 (by decide) rfl rfl ?_
  exact r_vret dJ8_setLength_81 rfl H
abbrev w_J8_setLength_k28_0 (g : PG) (d : Nat) (l0 : Nat) (l1 : Int32) (h : PH) (Q : Out → PH → Prop) : Prop := ((0 ≤ l1) → hkd h l0 = 28 ∧ C g d m_J8_ensureCapacityInternal [.ref l0, .int l1] h (oV (fun h3 => ((l1 ≤ (hF h3 52 l0)) → (((hF h3 52 l0) ≤ l1) → w_J8_setLength_k28_76 g d l0 l1 h3 Q) ∧ ((¬ (hF h3 52 l0) ≤ l1) → ∀ h8, h8 = setF 51 l0 (1 : Int32) h3 → w_J8_setLength_k28_76 g d l0 l1 h8 Q)) ∧ ((¬ l1 ≤ (hF h3 52 l0)) → C g d m_J8_isLatin1 [.ref l0] h3 (oI (fun v10 h9 => ((v10 = 0) → C g d m_J11_fillNull [.ref (hG h9 562 l0), .int (hF h9 52 l0), .int l1] h9 (oV (fun h13 => w_J8_setLength_k28_76 g d l0 l1 h13 Q) (fun r hx => Q (.inr r) hx))) ∧ ((¬ v10 = 0) → C g d m_J24_fillNull [.ref (hG h9 562 l0), .int (hF h9 52 l0), .int l1] h9 (oV (fun h16 => w_J8_setLength_k28_76 g d l0 l1 h16 Q) (fun r hx => Q (.inr r) hx)))) (fun r hx => Q (.inr r) hx)))) (fun r hx => Q (.inr r) hx))) ∧ ((¬ 0 ≤ l1) → False)
theorem v_J8_setLength_k28_0 {g : PG} {d : Nat} {l0 : Nat} {l1 : Int32} {h : PH} {Q : Out → PH → Prop} (H : w_J8_setLength_k28_0 g d l0 l1 h Q) : R g d m_J8_setLength 0 [.ref l0, .int l1] [] h Q := by
  refine r_iload_n dJ8_setLength_0 rfl rfl ?_
  refine r_if_ge (tgt := 13) dJ8_setLength_1 rfl (fun b1 => ?_) (fun b1 => ?_)
  · replace H := H.1 b1
    refine r_aload_n dJ8_setLength_13 rfl rfl ?_
    refine r_iload_n dJ8_setLength_14 rfl rfl ?_
    obtain ⟨k2, H⟩ := H
    refine r_invP (y := m_J8_ensureCapacityInternal) (Cn := "java/lang/StringBuilder") dJ8_setLength_15 rfl q458 q118 q455 q457 q456 q367 q3670 py_J8_ensureCapacityInternal (Nat.le_of_ble_eq_true rfl) (args := [_]) rfl rfl (Nat.le_of_ble_eq_true rfl) k2 (by decide) rfl (C.monoE H (fun o h3 _ x5 K => cont_V K (fun H => ?_) (fun r HX => XR_nc rfl HX)))
    refine r_aload_n dJ8_setLength_18 rfl rfl ?_
    refine r_getF fr_J8_79_28 (by decide) dJ8_setLength_19 (x5.kd k2 (by decide)) (by decide) ?_
    refine r_iload_n dJ8_setLength_22 rfl rfl ?_
    refine r_icmp_ge (tgt := 63) dJ8_setLength_23 rfl (fun b6 => ?_) (fun b6 => ?_)
    · replace H := H.1 b6
      refine r_aload_n dJ8_setLength_63 rfl rfl ?_
      refine r_getF fr_J8_79_28 (by decide) dJ8_setLength_64 (x5.kd k2 (by decide)) (by decide) ?_
      refine r_iload_n dJ8_setLength_67 rfl rfl ?_
      refine r_icmp_le (tgt := 76) dJ8_setLength_68 rfl (fun b7 => ?_) (fun b7 => ?_)
      · replace H := H.1 b7
        exact v_J8_setLength_k28_76 H
      · replace H := H.2 b7
        refine r_aload_n dJ8_setLength_71 rfl rfl ?_
        refine r_iconst dJ8_setLength_72 rfl ?_
        replace H := H _ rfl
        refine r_putF fw_J8_73_28 (by decide) dJ8_setLength_73 (x5.kd k2 (by decide)) (by decide) rfl rfl ?_
        exact v_J8_setLength_k28_76 H
    · replace H := H.2 b6
      refine r_aload_n dJ8_setLength_26 rfl rfl ?_
      refine r_invU (y := m_J8_isLatin1) (owner := "java/lang/AbstractStringBuilder") (Cn := "java/lang/StringBuilder") (x := ⟨"java/lang/AbstractStringBuilder", "isLatin1", "()Z"⟩) dJ8_setLength_27 (n := 0) ⟨rfl, by decide +kernel, by decide, by decide, Or.inl ⟨lw_U q490 q492 q493 q491 q118 q494, Or.inl rfl⟩⟩ (Nat.le_of_ble_eq_true rfl) (args := []) rfl rfl (Nat.le_of_ble_eq_true rfl) (x5.kd k2 (by decide)) (by decide) rfl (C.monoE H (fun o h9 _ x11 K => cont_I K (fun v10 H => ?_) (fun r HX => XR_nc rfl HX)))
      refine r_if_eq (tgt := 48) dJ8_setLength_30 rfl (fun b12 => ?_) (fun b12 => ?_)
      · replace H := H.1 b12
        refine r_aload_n dJ8_setLength_48 rfl rfl ?_
        refine r_getG fr_J8_15_28 (by decide) dJ8_setLength_49 (x11.kd (x5.kd k2 (by decide)) (by decide)) (by decide) ?_
        refine r_aload_n dJ8_setLength_52 rfl rfl ?_
        refine r_getF fr_J8_79_28 (by decide) dJ8_setLength_53 (x11.kd (x5.kd k2 (by decide)) (by decide)) (by decide) ?_
        refine r_iload_n dJ8_setLength_56 rfl rfl ?_
        refine r_invS (y := m_J11_fillNull) dJ8_setLength_57 rfl (lw_S q776 q777 q121 q778) py_J11_fillNull (Nat.le_of_ble_eq_true rfl) (args := [_, _, _]) rfl rfl (Nat.le_of_ble_eq_true rfl) (C.monoE H (fun o h13 _ x15 K => cont_V K (fun H => ?_) (fun r HX => XR_nc rfl HX)))
        refine r_goto (tgt := 76) dJ8_setLength_60 rfl ?_
        exact v_J8_setLength_k28_76 H
      · replace H := H.2 b12
        refine r_aload_n dJ8_setLength_33 rfl rfl ?_
        refine r_getG fr_J8_15_28 (by decide) dJ8_setLength_34 (x11.kd (x5.kd k2 (by decide)) (by decide)) (by decide) ?_
        refine r_aload_n dJ8_setLength_37 rfl rfl ?_
        refine r_getF fr_J8_79_28 (by decide) dJ8_setLength_38 (x11.kd (x5.kd k2 (by decide)) (by decide)) (by decide) ?_
        refine r_iload_n dJ8_setLength_41 rfl rfl ?_
        refine r_invS (y := m_J24_fillNull) dJ8_setLength_42 rfl (lw_S q741 q742 q137 q743) py_J24_fillNull (Nat.le_of_ble_eq_true rfl) (args := [_, _, _]) rfl rfl (Nat.le_of_ble_eq_true rfl) (C.monoE H (fun o h16 _ x18 K => cont_V K (fun H => ?_) (fun r HX => XR_nc rfl HX)))
        refine r_goto (tgt := 76) dJ8_setLength_45 rfl ?_
        exact v_J8_setLength_k28_76 H
  · replace H := H.2 b1
    exact H.elim
theorem c_J8_setLength_k28_0 {g : PG} {d : Nat} {l0 : Nat} {l1 : Int32} {h : PH} {Q : Out → PH → Prop} (H : w_J8_setLength_k28_0 g d l0 l1 h Q) : C g (d + 1) m_J8_setLength [.ref l0, .int l1] h Q := C_of_R rfl rfl (Nat.le_of_ble_eq_true rfl) rfl (v_J8_setLength_k28_0 H)
abbrev w_J8_append_k28_0 (g : PG) (d : Nat) (l0 : Nat) (l1 : Nat) (h : PH) (Q : Out → PH → Prop) : Prop := ((¬ l1 = 0) → ko h l1 29 ∧ C g d m_J10_length [.ref l1] h (oI (fun v5 h4 => hkd h4 l0 = 28 ∧ C g d m_J8_ensureCapacityInternal [.ref l0, .int ((hF h4 52 l0) + v5)] h4 (oV (fun h8 => C g d m_J8_putStringAt [.ref l0, .int (hF h8 52 l0), .ref l1] h8 (oV (fun h11 => ∀ h14, h14 = setF 52 l0 ((hF h11 52 l0) + v5) h11 → Q (.inl (some (.ref l0))) h14) (fun r hx => Q (.inr r) hx))) (fun r hx => Q (.inr r) hx))) (fun r hx => Q (.inr r) hx))) ∧ ((l1 = 0) → hkd h l0 = 28 ∧ C g d m_J8_appendNull [.ref l0] h (oR (fun v17 h16 => Q (.inl (some (.ref v17))) h16) (fun r hx => Q (.inr r) hx)))
theorem v_J8_append_k28_0 {g : PG} {d : Nat} {l0 : Nat} {l1 : Nat} {h : PH} {Q : Out → PH → Prop} (H : w_J8_append_k28_0 g d l0 l1 h Q) : R g d m_J8_append 0 [.ref l0, .ref l1, .null] [] h Q := by
  refine r_aload_n dJ8_append_0 rfl rfl ?_
  refine r_ifnonnull (tgt := 9) dJ8_append_1 rfl (fun b1 => ?_) (fun b1 => ?_)
  · replace H := H.1 b1
    refine r_aload_n dJ8_append_9 rfl rfl ?_
    obtain ⟨k2, H⟩ := H
    obtain ⟨_, k3, k3a, k3b⟩ := ko_use (by decide) k2
    refine r_invV (y := m_J10_length) dJ8_append_10 rfl (lw_V q521 q522 q523 q120 q524) py_J10_length (Nat.le_of_ble_eq_true rfl) (args := []) rfl rfl (Nat.le_of_ble_eq_true rfl) k3 k3a (k3b.trans rfl) (C.monoE H (fun o h4 _ x6 K => cont_I K (fun v5 H => ?_) (fun r HX => XR_nc rfl HX)))
    refine r_istore_n dJ8_append_13 rfl (Nat.le_of_ble_eq_true rfl) rfl (slS (slS sl0)) ?_
    refine r_aload_n dJ8_append_14 rfl rfl ?_
    refine r_aload_n dJ8_append_15 rfl rfl ?_
    obtain ⟨k7, H⟩ := H
    refine r_getF fr_J8_79_28 (by decide) dJ8_append_16 k7 (by decide) ?_
    refine r_iload_n dJ8_append_19 rfl rfl ?_
    refine r_iadd dJ8_append_20 ?_
    refine r_invP (y := m_J8_ensureCapacityInternal) (Cn := "java/lang/StringBuilder") dJ8_append_21 rfl q458 q118 q455 q457 q456 q367 q3670 py_J8_ensureCapacityInternal (Nat.le_of_ble_eq_true rfl) (args := [_]) rfl rfl (Nat.le_of_ble_eq_true rfl) k7 (by decide) rfl (C.monoE H (fun o h8 _ x10 K => cont_V K (fun H => ?_) (fun r HX => XR_nc rfl HX)))
    refine r_aload_n dJ8_append_24 rfl rfl ?_
    refine r_aload_n dJ8_append_25 rfl rfl ?_
    refine r_getF fr_J8_79_28 (by decide) dJ8_append_26 (x10.kd k7 (by decide)) (by decide) ?_
    refine r_aload_n dJ8_append_29 rfl rfl ?_
    refine r_invP (y := m_J8_putStringAt) (Cn := "java/lang/StringBuilder") dJ8_append_30 rfl q533 q118 q530 q532 q531 q367 q3672 py_J8_putStringAt (Nat.le_of_ble_eq_true rfl) (args := [_, _]) rfl rfl (Nat.le_of_ble_eq_true rfl) (x10.kd k7 (by decide)) (by decide) rfl (C.monoE H (fun o h11 _ x13 K => cont_V K (fun H => ?_) (fun r HX => XR_nc rfl HX)))
    refine r_aload_n dJ8_append_33 rfl rfl ?_
    refine r_dup dJ8_append_34 rfl ?_
    refine r_getF fr_J8_79_28 (by decide) dJ8_append_35 (x13.kd (x10.kd k7 (by decide)) (by decide)) (by decide) ?_
    refine r_iload_n dJ8_append_38 rfl rfl ?_
    refine r_iadd dJ8_append_39 ?_
    replace H := H _ rfl
    refine r_putF fw_J8_79_28 (by decide) dJ8_append_40 (x13.kd (x10.kd k7 (by decide)) (by decide)) (by decide) rfl rfl ?_
    refine r_aload_n dJ8_append_43 rfl rfl ?_
    exact r_aret dJ8_append_44 rfl H
  · replace H := H.2 b1
    refine r_aload_n dJ8_append_4 rfl rfl ?_
    obtain ⟨k15, H⟩ := H
    refine r_invP (y := m_J8_appendNull) (Cn := "java/lang/StringBuilder") dJ8_append_5 rfl q454 q118 q451 q453 q452 q367 q3669 py_J8_appendNull (Nat.le_of_ble_eq_true rfl) (args := []) rfl rfl (Nat.le_of_ble_eq_true rfl) k15 (by decide) rfl (C.monoE H (fun o h16 _ x18 K => cont_R K (fun v17 H => ?_) (fun r HX => XR_nc rfl HX)))
    exact r_aret dJ8_append_8 rfl H
theorem c_J8_append_k28_0 {g : PG} {d : Nat} {l0 : Nat} {l1 : Nat} {h : PH} {Q : Out → PH → Prop} (H : w_J8_append_k28_0 g d l0 l1 h Q) : C g (d + 1) m_J8_append [.ref l0, .ref l1] h Q := C_of_R rfl rfl (Nat.le_of_ble_eq_true rfl) rfl (v_J8_append_k28_0 H)
abbrev w_J8_ensureCapacityInternal_k28_0 (g : PG) (d : Nat) (l0 : Nat) (l1 : Int32) (h : PH) (Q : Out → PH → Prop) : Prop := hkd h l0 = 28 ∧ hkd h (hG h 562 l0) / 100 = 3 ∧ (((l1 - ((nI (hln h (hG h 562 l0))) >>> ((hF h 50 l0) &&& 31))) ≤ 0) → Q (.inl none) h) ∧ ((¬ (l1 - ((nI (hln h (hG h 562 l0))) >>> ((hF h 50 l0) &&& 31))) ≤ 0) → C g d m_J8_newCapacity [.ref l0, .int l1] h (oI (fun v5 h4 => C g d m_J23_copyOf [.ref (hG h 562 l0), .int (v5 <<< ((hF h4 50 l0) &&& 31))] h4 (oR (fun v8 h7 => ∀ h10, h10 = setG 562 l0 v8 h7 → Q (.inl none) h10) (fun r hx => Q (.inr r) hx))) (fun r hx => Q (.inr r) hx)))
theorem v_J8_ensureCapacityInternal_k28_0 {g : PG} {d : Nat} {l0 : Nat} {l1 : Int32} {h : PH} {Q : Out → PH → Prop} (H : w_J8_ensureCapacityInternal_k28_0 g d l0 l1 h Q) : R g d m_J8_ensureCapacityInternal 0 [.ref l0, .int l1, .null] [] h Q := by
  refine r_aload_n dJ8_ensureCapacityInternal_0 rfl rfl ?_
  obtain ⟨k1, H⟩ := H
  refine r_getG fr_J8_15_28 (by decide) dJ8_ensureCapacityInternal_1 k1 (by decide) ?_
  obtain ⟨k2, H⟩ := H
  refine r_alen (m := 3) dJ8_ensureCapacityInternal_4 (by decide) k2 ?_
  refine r_aload_n dJ8_ensureCapacityInternal_5 rfl rfl ?_
  refine r_getF fr_J8_22_28 (by decide) dJ8_ensureCapacityInternal_6 k1 (by decide) ?_
  refine r_ishr dJ8_ensureCapacityInternal_9 ?_
  refine r_istore_n dJ8_ensureCapacityInternal_10 rfl (Nat.le_of_ble_eq_true rfl) rfl (slS (slS sl0)) ?_
  refine r_iload_n dJ8_ensureCapacityInternal_11 rfl rfl ?_
  refine r_iload_n dJ8_ensureCapacityInternal_12 rfl rfl ?_
  refine r_isub dJ8_ensureCapacityInternal_13 ?_
  refine r_if_le (tgt := 38) dJ8_ensureCapacityInternal_14 rfl (fun b3 => ?_) (fun b3 => ?_)
  · replace H := H.1 b3
    exact r_vret dJ8_ensureCapacityInternal_38 rfl H
  · replace H := H.2 b3
    refine r_aload_n dJ8_ensureCapacityInternal_17 rfl rfl ?_
    refine r_aload_n dJ8_ensureCapacityInternal_18 rfl rfl ?_
    refine r_getG fr_J8_15_28 (by decide) dJ8_ensureCapacityInternal_19 k1 (by decide) ?_
    refine r_aload_n dJ8_ensureCapacityInternal_22 rfl rfl ?_
    refine r_iload_n dJ8_ensureCapacityInternal_23 rfl rfl ?_
    refine r_invP (y := m_J8_newCapacity) (Cn := "java/lang/StringBuilder") dJ8_ensureCapacityInternal_24 rfl q462 q118 q459 q461 q460 q367 q3671 py_J8_newCapacity (Nat.le_of_ble_eq_true rfl) (args := [_]) rfl rfl (Nat.le_of_ble_eq_true rfl) k1 (by decide) rfl (C.monoE H (fun o h4 _ x6 K => cont_I K (fun v5 H => ?_) (fun r HX => XR_nc rfl HX)))
    refine r_aload_n dJ8_ensureCapacityInternal_27 rfl rfl ?_
    refine r_getF fr_J8_22_28 (by decide) dJ8_ensureCapacityInternal_28 (x6.kd k1 (by decide)) (by decide) ?_
    refine r_ishl dJ8_ensureCapacityInternal_31 ?_
    refine r_invS (y := m_J23_copyOf) dJ8_ensureCapacityInternal_32 rfl (lw_S q474 q475 q135 q476) py_J23_copyOf (Nat.le_of_ble_eq_true rfl) (args := [_, _]) rfl rfl (Nat.le_of_ble_eq_true rfl) (C.monoE H (fun o h7 _ x9 K => cont_R K (fun v8 H => ?_) (fun r HX => XR_nc rfl HX)))
    replace H := H _ rfl
    refine r_putG fw_J8_15_28 (by decide) dJ8_ensureCapacityInternal_35 (x9.kd (x6.kd k1 (by decide)) (by decide)) (by decide) rfl ?_
    exact r_vret dJ8_ensureCapacityInternal_38 rfl H
theorem c_J8_ensureCapacityInternal_k28_0 {g : PG} {d : Nat} {l0 : Nat} {l1 : Int32} {h : PH} {Q : Out → PH → Prop} (H : w_J8_ensureCapacityInternal_k28_0 g d l0 l1 h Q) : C g (d + 1) m_J8_ensureCapacityInternal [.ref l0, .int l1] h Q := C_of_R rfl rfl (Nat.le_of_ble_eq_true rfl) rfl (v_J8_ensureCapacityInternal_k28_0 H)
abbrev w_J8_newCapacity_k28_0 (g : PG) (d : Nat) (l0 : Nat) (l1 : Int32) (h : PH) (Q : Out → PH → Prop) : Prop := hkd h l0 = 28 ∧ hkd h (hG h 562 l0) / 100 = 3 ∧ C g d m_J21_newLength [.int (nI (hln h (hG h 562 l0))), .int ((l1 <<< ((hF h 50 l0) &&& 31)) - (nI (hln h (hG h 562 l0)))), .int ((nI (hln h (hG h 562 l0))) + ((2 : Int32) <<< ((hF h 50 l0) &&& 31)))] h (oI (fun v4 h3 => ((¬ v4 = (2147483647 : Int32)) → Q (.inl (some (.int (v4 >>> ((hF h3 50 l0) &&& 31))))) h3) ∧ ((v4 = (2147483647 : Int32)) → False)) (fun r hx => Q (.inr r) hx))
theorem v_J8_newCapacity_k28_0 {g : PG} {d : Nat} {l0 : Nat} {l1 : Int32} {h : PH} {Q : Out → PH → Prop} (H : w_J8_newCapacity_k28_0 g d l0 l1 h Q) : R g d m_J8_newCapacity 0 [.ref l0, .int l1, .null, .null, .null, .null] [] h Q := by
  refine r_aload_n dJ8_newCapacity_0 rfl rfl ?_
  obtain ⟨k1, H⟩ := H
  refine r_getG fr_J8_15_28 (by decide) dJ8_newCapacity_1 k1 (by decide) ?_
  obtain ⟨k2, H⟩ := H
  refine r_alen (m := 3) dJ8_newCapacity_4 (by decide) k2 ?_
  refine r_istore_n dJ8_newCapacity_5 rfl (Nat.le_of_ble_eq_true rfl) rfl (slS (slS sl0)) ?_
  refine r_iload_n dJ8_newCapacity_6 rfl rfl ?_
  refine r_aload_n dJ8_newCapacity_7 rfl rfl ?_
  refine r_getF fr_J8_22_28 (by decide) dJ8_newCapacity_8 k1 (by decide) ?_
  refine r_ishl dJ8_newCapacity_11 ?_
  refine r_istore_n dJ8_newCapacity_12 rfl (Nat.le_of_ble_eq_true rfl) rfl (slS (slS (slS sl0))) ?_
  refine r_iload_n dJ8_newCapacity_13 rfl rfl ?_
  refine r_iload_n dJ8_newCapacity_14 rfl rfl ?_
  refine r_isub dJ8_newCapacity_15 ?_
  refine r_istore dJ8_newCapacity_16 (Nat.le_of_ble_eq_true rfl) rfl (slS (slS (slS (slS sl0)))) ?_
  refine r_iload_n dJ8_newCapacity_18 rfl rfl ?_
  refine r_iload dJ8_newCapacity_19 rfl ?_
  refine r_iload_n dJ8_newCapacity_21 rfl rfl ?_
  refine r_iconst dJ8_newCapacity_22 rfl ?_
  refine r_aload_n dJ8_newCapacity_23 rfl rfl ?_
  refine r_getF fr_J8_22_28 (by decide) dJ8_newCapacity_24 k1 (by decide) ?_
  refine r_ishl dJ8_newCapacity_27 ?_
  refine r_iadd dJ8_newCapacity_28 ?_
  refine r_invS (y := m_J21_newLength) dJ8_newCapacity_29 rfl (lw_S q463 q464 q133 q465) py_J21_newLength (Nat.le_of_ble_eq_true rfl) (args := [_, _, _]) rfl rfl (Nat.le_of_ble_eq_true rfl) (C.monoE H (fun o h3 _ x5 K => cont_I K (fun v4 H => ?_) (fun r HX => XR_nc rfl HX)))
  refine r_istore dJ8_newCapacity_32 (Nat.le_of_ble_eq_true rfl) rfl (slS (slS (slS (slS (slS sl0))))) ?_
  refine r_iload dJ8_newCapacity_34 rfl ?_
  refine r_ldc dJ8_newCapacity_36 q473 ?_
  refine r_icmp_ne (tgt := 51) dJ8_newCapacity_38 rfl (fun b6 => ?_) (fun b6 => ?_)
  · replace H := H.1 b6
    refine r_iload dJ8_newCapacity_51 rfl ?_
    refine r_aload_n dJ8_newCapacity_53 rfl rfl ?_
    refine r_getF fr_J8_22_28 (by decide) dJ8_newCapacity_54 (x5.kd k1 (by decide)) (by decide) ?_
    refine r_ishr dJ8_newCapacity_57 ?_
    exact r_iret dJ8_newCapacity_58 rfl H
  · replace H := H.2 b6
    exact H.elim
theorem c_J8_newCapacity_k28_0 {g : PG} {d : Nat} {l0 : Nat} {l1 : Int32} {h : PH} {Q : Out → PH → Prop} (H : w_J8_newCapacity_k28_0 g d l0 l1 h Q) : C g (d + 1) m_J8_newCapacity [.ref l0, .int l1] h Q := C_of_R rfl rfl (Nat.le_of_ble_eq_true rfl) rfl (v_J8_newCapacity_k28_0 H)
abbrev w_J8_isLatin1_k28_0 (g : PG) (d : Nat) (l0 : Nat) (h : PH) (Q : Out → PH → Prop) : Prop := isSI g 1 ∧ (((sI g 1) = 0) → Q (.inl (some (.int 0))) h) ∧ ((¬ (sI g 1) = 0) → hkd h l0 = 28 ∧ ((¬ (hF h 50 l0) = 0) → Q (.inl (some (.int 0))) h) ∧ (((hF h 50 l0) = 0) → Q (.inl (some (.int 1))) h))
theorem v_J8_isLatin1_k28_0 {g : PG} {d : Nat} {l0 : Nat} {h : PH} {Q : Out → PH → Prop} (H : w_J8_isLatin1_k28_0 g d l0 h Q) : R g d m_J8_isLatin1 0 [.ref l0] [] h Q := by
  obtain ⟨k1, H⟩ := H
  refine r_getsI (ref := "") (n := 1) dJ8_isLatin1_0 rfl q375 k1 ?_
  refine r_if_eq (tgt := 17) dJ8_isLatin1_3 rfl (fun b2 => ?_) (fun b2 => ?_)
  · replace H := H.1 b2
    refine r_iconst dJ8_isLatin1_17 rfl ?_
    exact r_zret dJ8_isLatin1_18 rfl rfl H
  · replace H := H.2 b2
    refine r_aload_n dJ8_isLatin1_6 rfl rfl ?_
    obtain ⟨k3, H⟩ := H
    refine r_getF fr_J8_22_28 (by decide) dJ8_isLatin1_7 k3 (by decide) ?_
    refine r_if_ne (tgt := 17) dJ8_isLatin1_10 rfl (fun b4 => ?_) (fun b4 => ?_)
    · replace H := H.1 b4
      refine r_iconst dJ8_isLatin1_17 rfl ?_
      exact r_zret dJ8_isLatin1_18 rfl rfl H
    · replace H := H.2 b4
      refine r_iconst dJ8_isLatin1_13 rfl ?_
      refine r_goto (tgt := 18) dJ8_isLatin1_14 rfl ?_
      exact r_zret dJ8_isLatin1_18 rfl rfl H
theorem c_J8_isLatin1_k28_0 {g : PG} {d : Nat} {l0 : Nat} {h : PH} {Q : Out → PH → Prop} (H : w_J8_isLatin1_k28_0 g d l0 h Q) : C g (d + 1) m_J8_isLatin1 [.ref l0] h Q := C_of_R rfl rfl (Nat.le_of_ble_eq_true rfl) rfl (v_J8_isLatin1_k28_0 H)
abbrev w_J8_putStringAt_k28_0 (g : PG) (d : Nat) (l0 : Nat) (l1 : Int32) (l2 : Nat) (h : PH) (Q : Out → PH → Prop) : Prop := hkd h l0 = 28 ∧ C g d m_J8_inflateIfNeededFor [.ref l0, .ref l2] h (oV (fun h2 => ko h2 l2 29 ∧ C g d m_J10_getBytes [.ref l2, .ref (hG h2 562 l0), .int l1, .int (hF h2 50 l0)] h2 (oV (fun h7 => Q (.inl none) h7) (fun r hx => Q (.inr r) hx))) (fun r hx => Q (.inr r) hx))
theorem v_J8_putStringAt_k28_0 {g : PG} {d : Nat} {l0 : Nat} {l1 : Int32} {l2 : Nat} {h : PH} {Q : Out → PH → Prop} (H : w_J8_putStringAt_k28_0 g d l0 l1 l2 h Q) : R g d m_J8_putStringAt 0 [.ref l0, .int l1, .ref l2] [] h Q := by
  refine r_aload_n dJ8_putStringAt_0 rfl rfl ?_
  refine r_aload_n dJ8_putStringAt_1 rfl rfl ?_
  obtain ⟨k1, H⟩ := H
  refine r_invP (y := m_J8_inflateIfNeededFor) (Cn := "java/lang/StringBuilder") dJ8_putStringAt_2 rfl q537 q118 q534 q536 q535 q367 q3673 py_J8_inflateIfNeededFor (Nat.le_of_ble_eq_true rfl) (args := [_]) rfl rfl (Nat.le_of_ble_eq_true rfl) k1 (by decide) rfl (C.monoE H (fun o h2 _ x4 K => cont_V K (fun H => ?_) (fun r HX => XR_nc rfl HX)))
  refine r_aload_n dJ8_putStringAt_5 rfl rfl ?_
  refine r_aload_n dJ8_putStringAt_6 rfl rfl ?_
  refine r_getG fr_J8_15_28 (by decide) dJ8_putStringAt_7 (x4.kd k1 (by decide)) (by decide) ?_
  refine r_iload_n dJ8_putStringAt_10 rfl rfl ?_
  refine r_aload_n dJ8_putStringAt_11 rfl rfl ?_
  refine r_getF fr_J8_22_28 (by decide) dJ8_putStringAt_12 (x4.kd k1 (by decide)) (by decide) ?_
  obtain ⟨k5, H⟩ := H
  obtain ⟨_, k6, k6a, k6b⟩ := ko_use (by decide) k5
  refine r_invV (y := m_J10_getBytes) dJ8_putStringAt_15 rfl (lw_V q558 q559 q560 q120 q561) py_J10_getBytes (Nat.le_of_ble_eq_true rfl) (args := [_, _, _]) rfl rfl (Nat.le_of_ble_eq_true rfl) k6 k6a (k6b.trans rfl) (C.monoE H (fun o h7 _ x9 K => cont_V K (fun H => ?_) (fun r HX => XR_nc rfl HX)))
  exact r_vret dJ8_putStringAt_18 rfl H
theorem c_J8_putStringAt_k28_0 {g : PG} {d : Nat} {l0 : Nat} {l1 : Int32} {l2 : Nat} {h : PH} {Q : Out → PH → Prop} (H : w_J8_putStringAt_k28_0 g d l0 l1 l2 h Q) : C g (d + 1) m_J8_putStringAt [.ref l0, .int l1, .ref l2] h Q := C_of_R rfl rfl (Nat.le_of_ble_eq_true rfl) rfl (v_J8_putStringAt_k28_0 H)
abbrev w_J8_inflateIfNeededFor_k28_0 (g : PG) (d : Nat) (l0 : Nat) (l1 : Nat) (h : PH) (Q : Out → PH → Prop) : Prop := isSI g 1 ∧ (((sI g 1) = 0) → Q (.inl none) h) ∧ ((¬ (sI g 1) = 0) → hkd h l0 = 28 ∧ ko h l1 29 ∧ C g d m_J10_coder [.ref l1] h (oI (fun v7 h6 => (((hF h 50 l0) = v7) → Q (.inl none) h6) ∧ ((¬ (hF h 50 l0) = v7) → C g d m_J8_inflate [.ref l0] h6 (oV (fun h10 => Q (.inl none) h10) (fun r hx => Q (.inr r) hx)))) (fun r hx => Q (.inr r) hx)))
theorem v_J8_inflateIfNeededFor_k28_0 {g : PG} {d : Nat} {l0 : Nat} {l1 : Nat} {h : PH} {Q : Out → PH → Prop} (H : w_J8_inflateIfNeededFor_k28_0 g d l0 l1 h Q) : R g d m_J8_inflateIfNeededFor 0 [.ref l0, .ref l1] [] h Q := by
  obtain ⟨k1, H⟩ := H
  refine r_getsI (ref := "") (n := 1) dJ8_inflateIfNeededFor_0 rfl q375 k1 ?_
  refine r_if_eq (tgt := 21) dJ8_inflateIfNeededFor_3 rfl (fun b2 => ?_) (fun b2 => ?_)
  · replace H := H.1 b2
    exact r_vret dJ8_inflateIfNeededFor_21 rfl H
  · replace H := H.2 b2
    refine r_aload_n dJ8_inflateIfNeededFor_6 rfl rfl ?_
    obtain ⟨k3, H⟩ := H
    refine r_getF fr_J8_22_28 (by decide) dJ8_inflateIfNeededFor_7 k3 (by decide) ?_
    refine r_aload_n dJ8_inflateIfNeededFor_10 rfl rfl ?_
    obtain ⟨k4, H⟩ := H
    obtain ⟨_, k5, k5a, k5b⟩ := ko_use (by decide) k4
    refine r_invV (y := m_J10_coder) dJ8_inflateIfNeededFor_11 rfl (lw_V q538 q526 q527 q120 q528) py_J10_coder (Nat.le_of_ble_eq_true rfl) (args := []) rfl rfl (Nat.le_of_ble_eq_true rfl) k5 k5a (k5b.trans rfl) (C.monoE H (fun o h6 _ x8 K => cont_I K (fun v7 H => ?_) (fun r HX => XR_nc rfl HX)))
    refine r_icmp_eq (tgt := 21) dJ8_inflateIfNeededFor_14 rfl (fun b9 => ?_) (fun b9 => ?_)
    · replace H := H.1 b9
      exact r_vret dJ8_inflateIfNeededFor_21 rfl H
    · replace H := H.2 b9
      refine r_aload_n dJ8_inflateIfNeededFor_17 rfl rfl ?_
      refine r_invP (y := m_J8_inflate) (Cn := "java/lang/StringBuilder") dJ8_inflateIfNeededFor_18 rfl q542 q118 q539 q541 q540 q367 q3674 py_J8_inflate (Nat.le_of_ble_eq_true rfl) (args := []) rfl rfl (Nat.le_of_ble_eq_true rfl) (x8.kd k3 (by decide)) (by decide) rfl (C.monoE H (fun o h10 _ x12 K => cont_V K (fun H => ?_) (fun r HX => XR_nc rfl HX)))
      exact r_vret dJ8_inflateIfNeededFor_21 rfl H
theorem c_J8_inflateIfNeededFor_k28_0 {g : PG} {d : Nat} {l0 : Nat} {l1 : Nat} {h : PH} {Q : Out → PH → Prop} (H : w_J8_inflateIfNeededFor_k28_0 g d l0 l1 h Q) : C g (d + 1) m_J8_inflateIfNeededFor [.ref l0, .ref l1] h Q := C_of_R rfl rfl (Nat.le_of_ble_eq_true rfl) rfl (v_J8_inflateIfNeededFor_k28_0 H)
abbrev w_J8_append_2_k28_48 (g : PG) (d : Nat) (l0 : Nat) (l3 : Int32) (h : PH) (Q : Out → PH → Prop) : Prop := hkd h l0 = 28 ∧ ∀ h2, h2 = setF 52 l0 l3 h → Q (.inl (some (.ref l0))) h2
theorem v_J8_append_2_k28_48 {g : PG} {d : Nat} {l0 : Nat} {l3 : Int32} {h : PH} {Q : Out → PH → Prop} (H : w_J8_append_2_k28_48 g d l0 l3 h Q) : R g d m_J8_append_2 48 [.ref l0, .null, .null, .int l3] [] h Q := by
  refine r_aload_n dJ8_append_2_48 rfl rfl ?_
  refine r_iload_n dJ8_append_2_49 rfl rfl ?_
  obtain ⟨k1, H⟩ := H
  replace H := H _ rfl
  refine r_putF fw_J8_79_28 (by decide) dJ8_append_2_50 k1 (by decide) rfl rfl ?_
  refine r_aload_n dJ8_append_2_53 rfl rfl ?_
  exact r_aret dJ8_append_2_54 rfl H
abbrev w_J8_append_2_k28_0 (g : PG) (d : Nat) (l0 : Nat) (l1 : Int32) (h : PH) (Q : Out → PH → Prop) : Prop := hkd h l0 = 28 ∧ C g d m_J26_stringSize [.int l1] h (oI (fun v3 h2 => C g d m_J8_ensureCapacityInternal [.ref l0, .int ((hF h 52 l0) + v3)] h2 (oV (fun h5 => C g d m_J8_isLatin1 [.ref l0] h5 (oI (fun v9 h8 => ((v9 = 0) → C g d m_J11_getChars [.int l1, .int (hF h 52 l0), .int ((hF h 52 l0) + v3), .ref (hG h8 562 l0)] h8 (oI (fun v13 h12 => w_J8_append_2_k28_48 g d l0 ((hF h 52 l0) + v3) h12 Q) (fun r hx => Q (.inr r) hx))) ∧ ((¬ v9 = 0) → C g d m_J26_getChars [.int l1, .int ((hF h 52 l0) + v3), .ref (hG h8 562 l0)] h8 (oI (fun v16 h15 => w_J8_append_2_k28_48 g d l0 ((hF h 52 l0) + v3) h15 Q) (fun r hx => Q (.inr r) hx)))) (fun r hx => Q (.inr r) hx))) (fun r hx => Q (.inr r) hx))) (fun r hx => Q (.inr r) hx))
theorem v_J8_append_2_k28_0 {g : PG} {d : Nat} {l0 : Nat} {l1 : Int32} {h : PH} {Q : Out → PH → Prop} (H : w_J8_append_2_k28_0 g d l0 l1 h Q) : R g d m_J8_append_2 0 [.ref l0, .int l1, .null, .null] [] h Q := by
  refine r_aload_n dJ8_append_2_0 rfl rfl ?_
  obtain ⟨k1, H⟩ := H
  refine r_getF fr_J8_79_28 (by decide) dJ8_append_2_1 k1 (by decide) ?_
  refine r_istore_n dJ8_append_2_4 rfl (Nat.le_of_ble_eq_true rfl) rfl (slS (slS sl0)) ?_
  refine r_iload_n dJ8_append_2_5 rfl rfl ?_
  refine r_iload_n dJ8_append_2_6 rfl rfl ?_
  refine r_invS (y := m_J26_stringSize) dJ8_append_2_7 rfl (lw_S q571 q572 q139 q573) py_J26_stringSize (Nat.le_of_ble_eq_true rfl) (args := [_]) rfl rfl (Nat.le_of_ble_eq_true rfl) (C.monoE H (fun o h2 _ x4 K => cont_I K (fun v3 H => ?_) (fun r HX => XR_nc rfl HX)))
  refine r_iadd dJ8_append_2_10 ?_
  refine r_istore_n dJ8_append_2_11 rfl (Nat.le_of_ble_eq_true rfl) rfl (slS (slS (slS sl0))) ?_
  refine r_aload_n dJ8_append_2_12 rfl rfl ?_
  refine r_iload_n dJ8_append_2_13 rfl rfl ?_
  refine r_invP (y := m_J8_ensureCapacityInternal) (Cn := "java/lang/StringBuilder") dJ8_append_2_14 rfl q458 q118 q455 q457 q456 q367 q3670 py_J8_ensureCapacityInternal (Nat.le_of_ble_eq_true rfl) (args := [_]) rfl rfl (Nat.le_of_ble_eq_true rfl) (x4.kd k1 (by decide)) (by decide) rfl (C.monoE H (fun o h5 _ x7 K => cont_V K (fun H => ?_) (fun r HX => XR_nc rfl HX)))
  refine r_aload_n dJ8_append_2_17 rfl rfl ?_
  refine r_invU (y := m_J8_isLatin1) (owner := "java/lang/AbstractStringBuilder") (Cn := "java/lang/StringBuilder") (x := ⟨"java/lang/AbstractStringBuilder", "isLatin1", "()Z"⟩) dJ8_append_2_18 (n := 0) ⟨rfl, by decide +kernel, by decide, by decide, Or.inl ⟨lw_U q490 q492 q493 q491 q118 q494, Or.inl rfl⟩⟩ (Nat.le_of_ble_eq_true rfl) (args := []) rfl rfl (Nat.le_of_ble_eq_true rfl) (x7.kd (x4.kd k1 (by decide)) (by decide)) (by decide) rfl (C.monoE H (fun o h8 _ x10 K => cont_I K (fun v9 H => ?_) (fun r HX => XR_nc rfl HX)))
  refine r_if_eq (tgt := 37) dJ8_append_2_21 rfl (fun b11 => ?_) (fun b11 => ?_)
  · replace H := H.1 b11
    refine r_iload_n dJ8_append_2_37 rfl rfl ?_
    refine r_iload_n dJ8_append_2_38 rfl rfl ?_
    refine r_iload_n dJ8_append_2_39 rfl rfl ?_
    refine r_aload_n dJ8_append_2_40 rfl rfl ?_
    refine r_getG fr_J8_15_28 (by decide) dJ8_append_2_41 (x10.kd (x7.kd (x4.kd k1 (by decide)) (by decide)) (by decide)) (by decide) ?_
    refine r_invS (y := m_J11_getChars) dJ8_append_2_44 rfl (lw_S q581 q582 q121 q583) py_J11_getChars (Nat.le_of_ble_eq_true rfl) (args := [_, _, _, _]) rfl rfl (Nat.le_of_ble_eq_true rfl) (C.monoE H (fun o h12 _ x14 K => cont_I K (fun v13 H => ?_) (fun r HX => XR_nc rfl HX)))
    refine r_pop dJ8_append_2_47 rfl ?_
    exact R.forget (v_J8_append_2_k28_48 H) ⟨Or.inl rfl, ⟨Or.inr rfl, ⟨Or.inr rfl, ⟨Or.inl rfl, trivial⟩⟩⟩⟩
  · replace H := H.2 b11
    refine r_iload_n dJ8_append_2_24 rfl rfl ?_
    refine r_iload_n dJ8_append_2_25 rfl rfl ?_
    refine r_aload_n dJ8_append_2_26 rfl rfl ?_
    refine r_getG fr_J8_15_28 (by decide) dJ8_append_2_27 (x10.kd (x7.kd (x4.kd k1 (by decide)) (by decide)) (by decide)) (by decide) ?_
    refine r_invS (y := m_J26_getChars) dJ8_append_2_30 rfl (lw_S q574 q575 q139 q576) py_J26_getChars (Nat.le_of_ble_eq_true rfl) (args := [_, _, _]) rfl rfl (Nat.le_of_ble_eq_true rfl) (C.monoE H (fun o h15 _ x17 K => cont_I K (fun v16 H => ?_) (fun r HX => XR_nc rfl HX)))
    refine r_pop dJ8_append_2_33 rfl ?_
    refine r_goto (tgt := 48) dJ8_append_2_34 rfl ?_
    exact R.forget (v_J8_append_2_k28_48 H) ⟨Or.inl rfl, ⟨Or.inr rfl, ⟨Or.inr rfl, ⟨Or.inl rfl, trivial⟩⟩⟩⟩
theorem c_J8_append_2_k28_0 {g : PG} {d : Nat} {l0 : Nat} {l1 : Int32} {h : PH} {Q : Out → PH → Prop} (H : w_J8_append_2_k28_0 g d l0 l1 h Q) : C g (d + 1) m_J8_append_2 [.ref l0, .int l1] h Q := C_of_R rfl rfl (Nat.le_of_ble_eq_true rfl) rfl (v_J8_append_2_k28_0 H)
abbrev w_J8_getValue_k28_0 (g : PG) (d : Nat) (l0 : Nat) (h : PH) (Q : Out → PH → Prop) : Prop := hkd h l0 = 28 ∧ Q (.inl (some (.ref (hG h 562 l0)))) h
theorem v_J8_getValue_k28_0 {g : PG} {d : Nat} {l0 : Nat} {h : PH} {Q : Out → PH → Prop} (H : w_J8_getValue_k28_0 g d l0 h Q) : R g d m_J8_getValue 0 [.ref l0] [] h Q := by
  refine r_aload_n dJ8_getValue_0 rfl rfl ?_
  obtain ⟨k1, H⟩ := H
  refine r_getG fr_J8_15_28 (by decide) dJ8_getValue_1 k1 (by decide) ?_
  exact r_aret dJ8_getValue_4 rfl H
theorem c_J8_getValue_k28_0 {g : PG} {d : Nat} {l0 : Nat} {h : PH} {Q : Out → PH → Prop} (H : w_J8_getValue_k28_0 g d l0 h Q) : C g (d + 1) m_J8_getValue [.ref l0] h Q := C_of_R rfl rfl (Nat.le_of_ble_eq_true rfl) rfl (v_J8_getValue_k28_0 H)
abbrev w_J8_length_k28_0 (g : PG) (d : Nat) (l0 : Nat) (h : PH) (Q : Out → PH → Prop) : Prop := hkd h l0 = 28 ∧ Q (.inl (some (.int (hF h 52 l0)))) h
theorem v_J8_length_k28_0 {g : PG} {d : Nat} {l0 : Nat} {h : PH} {Q : Out → PH → Prop} (H : w_J8_length_k28_0 g d l0 h Q) : R g d m_J8_length 0 [.ref l0] [] h Q := by
  refine r_aload_n dJ8_length_0 rfl rfl ?_
  obtain ⟨k1, H⟩ := H
  refine r_getF fr_J8_79_28 (by decide) dJ8_length_1 k1 (by decide) ?_
  exact r_iret dJ8_length_4 rfl H
theorem c_J8_length_k28_0 {g : PG} {d : Nat} {l0 : Nat} {h : PH} {Q : Out → PH → Prop} (H : w_J8_length_k28_0 g d l0 h Q) : C g (d + 1) m_J8_length [.ref l0] h Q := C_of_R rfl rfl (Nat.le_of_ble_eq_true rfl) rfl (v_J8_length_k28_0 H)
abbrev w_J8_append_3_k28_56 (g : PG) (d : Nat) (l0 : Nat) (l1 : Int32) (h : PH) (Q : Out → PH → Prop) : Prop := hkd h l0 = 28 ∧ ∀ h2, h2 = setF 52 l0 ((hF h 52 l0) + (1 : Int32)) h → C g d m_J11_putCharSB [.ref (hG h 562 l0), .int (hF h 52 l0), .int l1] h2 (oV (fun h3 => Q (.inl (some (.ref l0))) h3) (fun r hx => Q (.inr r) hx))
theorem v_J8_append_3_k28_56 {g : PG} {d : Nat} {l0 : Nat} {l1 : Int32} {h : PH} {Q : Out → PH → Prop} (H : w_J8_append_3_k28_56 g d l0 l1 h Q) : R g d m_J8_append_3 56 [.ref l0, .int l1] [] h Q := by
  refine r_aload_n dJ8_append_3_56 rfl rfl ?_
  obtain ⟨k1, H⟩ := H
  refine r_getG fr_J8_15_28 (by decide) dJ8_append_3_57 k1 (by decide) ?_
  refine r_aload_n dJ8_append_3_60 rfl rfl ?_
  refine r_dup dJ8_append_3_61 rfl ?_
  refine r_getF fr_J8_79_28 (by decide) dJ8_append_3_62 k1 (by decide) ?_
  refine r_dup_x1 dJ8_append_3_65 rfl rfl ?_
  refine r_iconst dJ8_append_3_66 rfl ?_
  refine r_iadd dJ8_append_3_67 ?_
  replace H := H _ rfl
  refine r_putF fw_J8_79_28 (by decide) dJ8_append_3_68 k1 (by decide) rfl rfl ?_
  refine r_iload_n dJ8_append_3_71 rfl rfl ?_
  refine r_invS (y := m_J11_putCharSB) dJ8_append_3_72 rfl (lw_S q799 q800 q121 q801) py_J11_putCharSB (Nat.le_of_ble_eq_true rfl) (args := [_, _, _]) rfl rfl (Nat.le_of_ble_eq_true rfl) (C.monoE H (fun o h3 _ x5 K => cont_V K (fun H => ?_) (fun r HX => XR_nc rfl HX)))
  refine r_aload_n dJ8_append_3_75 rfl rfl ?_
  exact r_aret dJ8_append_3_76 rfl H
abbrev w_J8_append_3_k28_45 (g : PG) (d : Nat) (l0 : Nat) (l1 : Int32) (h : PH) (Q : Out → PH → Prop) : Prop := hkd h l0 = 28 ∧ C g d m_J8_isLatin1 [.ref l0] h (oI (fun v3 h2 => ((v3 = 0) → w_J8_append_3_k28_56 g d l0 l1 h2 Q) ∧ ((¬ v3 = 0) → C g d m_J8_inflate [.ref l0] h2 (oV (fun h6 => w_J8_append_3_k28_56 g d l0 l1 h6 Q) (fun r hx => Q (.inr r) hx)))) (fun r hx => Q (.inr r) hx))
theorem v_J8_append_3_k28_45 {g : PG} {d : Nat} {l0 : Nat} {l1 : Int32} {h : PH} {Q : Out → PH → Prop} (H : w_J8_append_3_k28_45 g d l0 l1 h Q) : R g d m_J8_append_3 45 [.ref l0, .int l1] [] h Q := by
  refine r_aload_n dJ8_append_3_45 rfl rfl ?_
  obtain ⟨k1, H⟩ := H
  refine r_invU (y := m_J8_isLatin1) (owner := "java/lang/AbstractStringBuilder") (Cn := "java/lang/StringBuilder") (x := ⟨"java/lang/AbstractStringBuilder", "isLatin1", "()Z"⟩) dJ8_append_3_46 (n := 0) ⟨rfl, by decide +kernel, by decide, by decide, Or.inl ⟨lw_U q490 q492 q493 q491 q118 q494, Or.inl rfl⟩⟩ (Nat.le_of_ble_eq_true rfl) (args := []) rfl rfl (Nat.le_of_ble_eq_true rfl) k1 (by decide) rfl (C.monoE H (fun o h2 _ x4 K => cont_I K (fun v3 H => ?_) (fun r HX => XR_nc rfl HX)))
  refine r_if_eq (tgt := 56) dJ8_append_3_49 rfl (fun b5 => ?_) (fun b5 => ?_)
  · replace H := H.1 b5
    exact v_J8_append_3_k28_56 H
  · replace H := H.2 b5
    refine r_aload_n dJ8_append_3_52 rfl rfl ?_
    refine r_invP (y := m_J8_inflate) (Cn := "java/lang/StringBuilder") dJ8_append_3_53 rfl q542 q118 q539 q541 q540 q367 q3674 py_J8_inflate (Nat.le_of_ble_eq_true rfl) (args := []) rfl rfl (Nat.le_of_ble_eq_true rfl) (x4.kd k1 (by decide)) (by decide) rfl (C.monoE H (fun o h6 _ x8 K => cont_V K (fun H => ?_) (fun r HX => XR_nc rfl HX)))
    exact v_J8_append_3_k28_56 H
abbrev w_J8_append_3_k28_0 (g : PG) (d : Nat) (l0 : Nat) (l1 : Int32) (h : PH) (Q : Out → PH → Prop) : Prop := hkd h l0 = 28 ∧ C g d m_J8_ensureCapacityInternal [.ref l0, .int ((hF h 52 l0) + (1 : Int32))] h (oV (fun h2 => C g d m_J8_isLatin1 [.ref l0] h2 (oI (fun v6 h5 => ((v6 = 0) → w_J8_append_3_k28_45 g d l0 l1 h5 Q) ∧ ((¬ v6 = 0) → C g d m_J24_canEncode [.int l1] h5 (oI (fun v10 h9 => ((v10 = 0) → w_J8_append_3_k28_45 g d l0 l1 h9 Q) ∧ ((¬ v10 = 0) → ∀ h13, h13 = setF 52 l0 ((hF h9 52 l0) + (1 : Int32)) h9 → hkd h13 (hG h9 562 l0) / 100 = 3 ∧ hkd h13 (hG h9 562 l0) % 100 < 50 ∧ vp_in (hF h9 52 l0) (hln h13 (hG h9 562 l0)) ∧ narrow .byte (.int l1.toInt8.toInt32) = .int l1.toInt8.toInt32 ∧ ∀ h17, h17 = setA (hG h9 562 l0) (hF h9 52 l0).toNatClampNeg l1.toInt8.toInt32 h13 → Q (.inl (some (.ref l0))) h17)) (fun r hx => Q (.inr r) hx)))) (fun r hx => Q (.inr r) hx))) (fun r hx => Q (.inr r) hx))
theorem v_J8_append_3_k28_0 {g : PG} {d : Nat} {l0 : Nat} {l1 : Int32} {h : PH} {Q : Out → PH → Prop} (H : w_J8_append_3_k28_0 g d l0 l1 h Q) : R g d m_J8_append_3 0 [.ref l0, .int l1] [] h Q := by
  refine r_aload_n dJ8_append_3_0 rfl rfl ?_
  refine r_aload_n dJ8_append_3_1 rfl rfl ?_
  obtain ⟨k1, H⟩ := H
  refine r_getF fr_J8_79_28 (by decide) dJ8_append_3_2 k1 (by decide) ?_
  refine r_iconst dJ8_append_3_5 rfl ?_
  refine r_iadd dJ8_append_3_6 ?_
  refine r_invP (y := m_J8_ensureCapacityInternal) (Cn := "java/lang/StringBuilder") dJ8_append_3_7 rfl q458 q118 q455 q457 q456 q367 q3670 py_J8_ensureCapacityInternal (Nat.le_of_ble_eq_true rfl) (args := [_]) rfl rfl (Nat.le_of_ble_eq_true rfl) k1 (by decide) rfl (C.monoE H (fun o h2 _ x4 K => cont_V K (fun H => ?_) (fun r HX => XR_nc rfl HX)))
  refine r_aload_n dJ8_append_3_10 rfl rfl ?_
  refine r_invU (y := m_J8_isLatin1) (owner := "java/lang/AbstractStringBuilder") (Cn := "java/lang/StringBuilder") (x := ⟨"java/lang/AbstractStringBuilder", "isLatin1", "()Z"⟩) dJ8_append_3_11 (n := 0) ⟨rfl, by decide +kernel, by decide, by decide, Or.inl ⟨lw_U q490 q492 q493 q491 q118 q494, Or.inl rfl⟩⟩ (Nat.le_of_ble_eq_true rfl) (args := []) rfl rfl (Nat.le_of_ble_eq_true rfl) (x4.kd k1 (by decide)) (by decide) rfl (C.monoE H (fun o h5 _ x7 K => cont_I K (fun v6 H => ?_) (fun r HX => XR_nc rfl HX)))
  refine r_if_eq (tgt := 45) dJ8_append_3_14 rfl (fun b8 => ?_) (fun b8 => ?_)
  · replace H := H.1 b8
    exact v_J8_append_3_k28_45 H
  · replace H := H.2 b8
    refine r_iload_n dJ8_append_3_17 rfl rfl ?_
    refine r_invS (y := m_J24_canEncode) dJ8_append_3_18 rfl (lw_S q796 q797 q137 q798) py_J24_canEncode (Nat.le_of_ble_eq_true rfl) (args := [_]) rfl rfl (Nat.le_of_ble_eq_true rfl) (C.monoE H (fun o h9 _ x11 K => cont_I K (fun v10 H => ?_) (fun r HX => XR_nc rfl HX)))
    refine r_if_eq (tgt := 45) dJ8_append_3_21 rfl (fun b12 => ?_) (fun b12 => ?_)
    · replace H := H.1 b12
      exact v_J8_append_3_k28_45 H
    · replace H := H.2 b12
      refine r_aload_n dJ8_append_3_24 rfl rfl ?_
      refine r_getG fr_J8_15_28 (by decide) dJ8_append_3_25 (x11.kd (x7.kd (x4.kd k1 (by decide)) (by decide)) (by decide)) (by decide) ?_
      refine r_aload_n dJ8_append_3_28 rfl rfl ?_
      refine r_dup dJ8_append_3_29 rfl ?_
      refine r_getF fr_J8_79_28 (by decide) dJ8_append_3_30 (x11.kd (x7.kd (x4.kd k1 (by decide)) (by decide)) (by decide)) (by decide) ?_
      refine r_dup_x1 dJ8_append_3_33 rfl rfl ?_
      refine r_iconst dJ8_append_3_34 rfl ?_
      refine r_iadd dJ8_append_3_35 ?_
      replace H := H _ rfl
      refine r_putF fw_J8_79_28 (by decide) dJ8_append_3_36 (x11.kd (x7.kd (x4.kd k1 (by decide)) (by decide)) (by decide)) (by decide) rfl rfl ?_
      refine r_iload_n dJ8_append_3_39 rfl rfl ?_
      refine r_i2b dJ8_append_3_40 ?_
      obtain ⟨k14, H⟩ := H
      obtain ⟨k15, H⟩ := H
      obtain ⟨k16, H⟩ := H
      obtain ⟨k18, H⟩ := H
      replace H := H _ rfl
      refine r_bast dJ8_append_3_41 k14 k15 k16 k18 ?_
      refine r_goto (tgt := 75) dJ8_append_3_42 rfl ?_
      refine r_aload_n dJ8_append_3_75 rfl rfl ?_
      exact r_aret dJ8_append_3_76 rfl H
theorem c_J8_append_3_k28_0 {g : PG} {d : Nat} {l0 : Nat} {l1 : Int32} {h : PH} {Q : Out → PH → Prop} (H : w_J8_append_3_k28_0 g d l0 l1 h Q) : C g (d + 1) m_J8_append_3 [.ref l0, .int l1] h Q := C_of_R rfl rfl (Nat.le_of_ble_eq_true rfl) rfl (v_J8_append_3_k28_0 H)
abbrev w_J8_charAt_k28_0 (g : PG) (d : Nat) (l0 : Nat) (l1 : Int32) (h : PH) (Q : Out → PH → Prop) : Prop := hkd h l0 = 28 ∧ hkd h (hG h 562 l0) / 100 = 3 ∧ C g d m_J10_checkIndex [.int l1, .int (i32min (hF h 52 l0) ((nI (hln h (hG h 562 l0))) >>> ((hF h 50 l0) &&& 31)))] h (oV (fun h3 => ((¬ (hF h 50 l0) = 0) → C g d m_J11_getChar [.ref (hG h 562 l0), .int l1] h3 (oI (fun v8 h7 => narrow .char (.int v8) = .int v8 ∧ Q (.inl (some (.int v8))) h7) (fun r hx => Q (.inr r) hx))) ∧ (((hF h 50 l0) = 0) → hkd h3 (hG h 562 l0) / 100 = 3 ∧ vp_in l1 (hln h3 (hG h 562 l0)) ∧ narrow .char (.int ((((hA h3 (hG h 562 l0) l1.toNatClampNeg) &&& (255 : Int32)).toUInt32 % 65536).toInt32)) = .int ((((hA h3 (hG h 562 l0) l1.toNatClampNeg) &&& (255 : Int32)).toUInt32 % 65536).toInt32) ∧ Q (.inl (some (.int ((((hA h3 (hG h 562 l0) l1.toNatClampNeg) &&& (255 : Int32)).toUInt32 % 65536).toInt32)))) h3)) (fun r hx => Q (.inr r) hx))
theorem v_J8_charAt_k28_0 {g : PG} {d : Nat} {l0 : Nat} {l1 : Int32} {h : PH} {Q : Out → PH → Prop} (H : w_J8_charAt_k28_0 g d l0 l1 h Q) : R g d m_J8_charAt 0 [.ref l0, .int l1, .null, .null, .null] [] h Q := by
  refine r_aload_n dJ8_charAt_0 rfl rfl ?_
  obtain ⟨k1, H⟩ := H
  refine r_getF fr_J8_22_28 (by decide) dJ8_charAt_1 k1 (by decide) ?_
  refine r_istore_n dJ8_charAt_4 rfl (Nat.le_of_ble_eq_true rfl) rfl (slS (slS sl0)) ?_
  refine r_aload_n dJ8_charAt_5 rfl rfl ?_
  refine r_getG fr_J8_15_28 (by decide) dJ8_charAt_6 k1 (by decide) ?_
  refine r_astore_n dJ8_charAt_9 rfl (Nat.le_of_ble_eq_true rfl) rfl (slS (slS (slS sl0))) ?_
  refine r_aload_n dJ8_charAt_10 rfl rfl ?_
  refine r_getF fr_J8_79_28 (by decide) dJ8_charAt_11 k1 (by decide) ?_
  refine r_aload_n dJ8_charAt_14 rfl rfl ?_
  obtain ⟨k2, H⟩ := H
  refine r_alen (m := 3) dJ8_charAt_15 (by decide) k2 ?_
  refine r_iload_n dJ8_charAt_16 rfl rfl ?_
  refine r_ishr dJ8_charAt_17 ?_
  refine r_mmin dJ8_charAt_18 q2957 q485 q134 q486 (Nat.le_of_ble_eq_true rfl) ?_
  refine r_istore dJ8_charAt_21 (Nat.le_of_ble_eq_true rfl) rfl (slS (slS (slS (slS sl0)))) ?_
  refine r_iload_n dJ8_charAt_23 rfl rfl ?_
  refine r_iload dJ8_charAt_24 rfl ?_
  refine r_invS (y := m_J10_checkIndex) dJ8_charAt_26 rfl (lw_S q2958 q806 q120 q807) py_J10_checkIndex (Nat.le_of_ble_eq_true rfl) (args := [_, _]) rfl rfl (Nat.le_of_ble_eq_true rfl) (C.monoE H (fun o h3 _ x5 K => cont_V K (fun H => ?_) (fun r HX => XR_nc rfl HX)))
  refine r_iload_n dJ8_charAt_29 rfl rfl ?_
  refine r_if_ne (tgt := 42) dJ8_charAt_30 rfl (fun b6 => ?_) (fun b6 => ?_)
  · replace H := H.1 b6
    refine r_aload_n dJ8_charAt_42 rfl rfl ?_
    refine r_iload_n dJ8_charAt_43 rfl rfl ?_
    refine r_invS (y := m_J11_getChar) dJ8_charAt_44 rfl (lw_S q2959 q711 q121 q712) py_J11_getChar (Nat.le_of_ble_eq_true rfl) (args := [_, _]) rfl rfl (Nat.le_of_ble_eq_true rfl) (C.monoE H (fun o h7 _ x9 K => cont_I K (fun v8 H => ?_) (fun r HX => XR_nc rfl HX)))
    exact r_zret dJ8_charAt_47 rfl H.1 H.2
  · replace H := H.2 b6
    refine r_aload_n dJ8_charAt_33 rfl rfl ?_
    refine r_iload_n dJ8_charAt_34 rfl rfl ?_
    obtain ⟨k10, H⟩ := H
    obtain ⟨k11, H⟩ := H
    refine r_bald dJ8_charAt_35 k10 k11 ?_
    refine r_sipush dJ8_charAt_36 rfl ?_
    refine r_iand dJ8_charAt_39 ?_
    refine r_i2c dJ8_charAt_40 ?_
    exact r_zret dJ8_charAt_41 rfl H.1 H.2
theorem c_J8_charAt_k28_0 {g : PG} {d : Nat} {l0 : Nat} {l1 : Int32} {h : PH} {Q : Out → PH → Prop} (H : w_J8_charAt_k28_0 g d l0 l1 h Q) : C g (d + 1) m_J8_charAt [.ref l0, .int l1] h Q := C_of_R rfl rfl (Nat.le_of_ble_eq_true rfl) rfl (v_J8_charAt_k28_0 H)
abbrev w_J9_init_0 (g : PG) (d : Nat) (l0 : Nat) (h : PH) (Q : Out → PH → Prop) : Prop := 0 < l0 ∧ C g d m_J8_init [.ref l0, .int 16] h (oV (fun h2 => Q (.inl none) h2) (fun r hx => Q (.inr r) hx))
theorem v_J9_init_0 {g : PG} {d : Nat} {l0 : Nat} {h : PH} {Q : Out → PH → Prop} (H : w_J9_init_0 g d l0 h Q) : R g d m_J9_init 0 [.ref l0] [] h Q := by
  refine r_aload_n dJ9_init_0 rfl rfl ?_
  refine r_bipush dJ9_init_1 rfl ?_
  obtain ⟨k1, H⟩ := H
  refine r_invI (y := m_J8_init) dJ9_init_3 rfl rfl q373 q118 q371 q372 rfl py_J8_init (Nat.le_of_ble_eq_true rfl) (args := [_]) rfl rfl (Nat.le_of_ble_eq_true rfl) k1 (C.monoE H (fun o h2 _ x4 K => cont_V K (fun H => ?_) (fun r HX => XR_nc rfl HX)))
  exact r_vret dJ9_init_6 rfl H
theorem c_J9_init_0 {g : PG} {d : Nat} {l0 : Nat} {h : PH} {Q : Out → PH → Prop} (H : w_J9_init_0 g d l0 h Q) : C g (d + 1) m_J9_init [.ref l0] h Q := C_of_R rfl rfl (Nat.le_of_ble_eq_true rfl) rfl (v_J9_init_0 H)
abbrev w_J9_setLength_0 (g : PG) (d : Nat) (l0 : Nat) (l1 : Int32) (h : PH) (Q : Out → PH → Prop) : Prop := hkd h l0 = 28 ∧ C g d m_J8_setLength [.ref l0, .int l1] h (oV (fun h2 => Q (.inl none) h2) (fun r hx => Q (.inr r) hx))
theorem v_J9_setLength_0 {g : PG} {d : Nat} {l0 : Nat} {l1 : Int32} {h : PH} {Q : Out → PH → Prop} (H : w_J9_setLength_0 g d l0 l1 h Q) : R g d m_J9_setLength 0 [.ref l0, .int l1] [] h Q := by
  refine r_aload_n dJ9_setLength_0 rfl rfl ?_
  refine r_iload_n dJ9_setLength_1 rfl rfl ?_
  obtain ⟨k1, H⟩ := H
  refine r_invSU (y := m_J8_setLength) (k := 28) dJ9_setLength_2 rfl (lw_SUq q433 q3667 q397 q434 q118 q435) (by decide) (n := 1) (by decide +kernel) (Nat.le_of_ble_eq_true rfl) (args := [_]) rfl rfl (Nat.le_of_ble_eq_true rfl) k1 (by decide) (C.monoE H (fun o h2 _ x4 K => cont_V K (fun H => ?_) (fun r HX => XR_nc rfl HX)))
  exact r_vret dJ9_setLength_5 rfl H
theorem c_J9_setLength_0 {g : PG} {d : Nat} {l0 : Nat} {l1 : Int32} {h : PH} {Q : Out → PH → Prop} (H : w_J9_setLength_0 g d l0 l1 h Q) : C g (d + 1) m_J9_setLength [.ref l0, .int l1] h Q := C_of_R rfl rfl (Nat.le_of_ble_eq_true rfl) rfl (v_J9_setLength_0 H)
abbrev w_J9_append_0 (g : PG) (d : Nat) (l0 : Nat) (l1 : Nat) (h : PH) (Q : Out → PH → Prop) : Prop := hkd h l0 = 28 ∧ C g d m_J8_append [.ref l0, .ref l1] h (oR (fun v3 h2 => Q (.inl (some (.ref l0))) h2) (fun r hx => Q (.inr r) hx))
theorem v_J9_append_0 {g : PG} {d : Nat} {l0 : Nat} {l1 : Nat} {h : PH} {Q : Out → PH → Prop} (H : w_J9_append_0 g d l0 l1 h Q) : R g d m_J9_append 0 [.ref l0, .ref l1] [] h Q := by
  refine r_aload_n dJ9_append_0 rfl rfl ?_
  refine r_aload_n dJ9_append_1 rfl rfl ?_
  obtain ⟨k1, H⟩ := H
  refine r_invSU (y := m_J8_append) (k := 28) dJ9_append_2 rfl (lw_SUq q448 q3668 q397 q449 q118 q450) (by decide) (n := 1) (by decide +kernel) (Nat.le_of_ble_eq_true rfl) (args := [_]) rfl rfl (Nat.le_of_ble_eq_true rfl) k1 (by decide) (C.monoE H (fun o h2 _ x4 K => cont_R K (fun v3 H => ?_) (fun r HX => XR_nc rfl HX)))
  refine r_pop dJ9_append_5 rfl ?_
  refine r_aload_n dJ9_append_6 rfl rfl ?_
  exact r_aret dJ9_append_7 rfl H
theorem c_J9_append_0 {g : PG} {d : Nat} {l0 : Nat} {l1 : Nat} {h : PH} {Q : Out → PH → Prop} (H : w_J9_append_0 g d l0 l1 h Q) : C g (d + 1) m_J9_append [.ref l0, .ref l1] h Q := C_of_R rfl rfl (Nat.le_of_ble_eq_true rfl) rfl (v_J9_append_0 H)
abbrev w_J9_append_2_0 (g : PG) (d : Nat) (l0 : Nat) (l1 : Int32) (h : PH) (Q : Out → PH → Prop) : Prop := hkd h l0 = 28 ∧ C g d m_J8_append_2 [.ref l0, .int l1] h (oR (fun v3 h2 => Q (.inl (some (.ref l0))) h2) (fun r hx => Q (.inr r) hx))
theorem v_J9_append_2_0 {g : PG} {d : Nat} {l0 : Nat} {l1 : Int32} {h : PH} {Q : Out → PH → Prop} (H : w_J9_append_2_0 g d l0 l1 h Q) : R g d m_J9_append_2 0 [.ref l0, .int l1] [] h Q := by
  refine r_aload_n dJ9_append_2_0 rfl rfl ?_
  refine r_iload_n dJ9_append_2_1 rfl rfl ?_
  obtain ⟨k1, H⟩ := H
  refine r_invSU (y := m_J8_append_2) (k := 28) dJ9_append_2_2 rfl (lw_SUq q568 q3675 q397 q569 q118 q570) (by decide) (n := 1) (by decide +kernel) (Nat.le_of_ble_eq_true rfl) (args := [_]) rfl rfl (Nat.le_of_ble_eq_true rfl) k1 (by decide) (C.monoE H (fun o h2 _ x4 K => cont_R K (fun v3 H => ?_) (fun r HX => XR_nc rfl HX)))
  refine r_pop dJ9_append_2_5 rfl ?_
  refine r_aload_n dJ9_append_2_6 rfl rfl ?_
  exact r_aret dJ9_append_2_7 rfl H
theorem c_J9_append_2_0 {g : PG} {d : Nat} {l0 : Nat} {l1 : Int32} {h : PH} {Q : Out → PH → Prop} (H : w_J9_append_2_0 g d l0 l1 h Q) : C g (d + 1) m_J9_append_2 [.ref l0, .int l1] h Q := C_of_R rfl rfl (Nat.le_of_ble_eq_true rfl) rfl (v_J9_append_2_0 H)
abbrev w_J9_length_0 (g : PG) (d : Nat) (l0 : Nat) (h : PH) (Q : Out → PH → Prop) : Prop := hkd h l0 = 28 ∧ C g d m_J8_length [.ref l0] h (oI (fun v3 h2 => Q (.inl (some (.int v3))) h2) (fun r hx => Q (.inr r) hx))
theorem v_J9_length_0 {g : PG} {d : Nat} {l0 : Nat} {h : PH} {Q : Out → PH → Prop} (H : w_J9_length_0 g d l0 h Q) : R g d m_J9_length 0 [.ref l0] [] h Q := by
  refine r_aload_n dJ9_length_0 rfl rfl ?_
  obtain ⟨k1, H⟩ := H
  refine r_invSU (y := m_J8_length) (k := 28) dJ9_length_1 rfl (lw_SUq q613 q609 q397 q608 q118 q614) (by decide) (n := 0) (by decide +kernel) (Nat.le_of_ble_eq_true rfl) (args := []) rfl rfl (Nat.le_of_ble_eq_true rfl) k1 (by decide) (C.monoE H (fun o h2 _ x4 K => cont_I K (fun v3 H => ?_) (fun r HX => XR_nc rfl HX)))
  exact r_iret dJ9_length_4 rfl H
theorem c_J9_length_0 {g : PG} {d : Nat} {l0 : Nat} {h : PH} {Q : Out → PH → Prop} (H : w_J9_length_0 g d l0 h Q) : C g (d + 1) m_J9_length [.ref l0] h Q := C_of_R rfl rfl (Nat.le_of_ble_eq_true rfl) rfl (v_J9_length_0 H)
abbrev w_J9_append_3_0 (g : PG) (d : Nat) (l0 : Nat) (l1 : Int32) (h : PH) (Q : Out → PH → Prop) : Prop := hkd h l0 = 28 ∧ C g d m_J8_append_3 [.ref l0, .int l1] h (oR (fun v3 h2 => Q (.inl (some (.ref l0))) h2) (fun r hx => Q (.inr r) hx))
theorem v_J9_append_3_0 {g : PG} {d : Nat} {l0 : Nat} {l1 : Int32} {h : PH} {Q : Out → PH → Prop} (H : w_J9_append_3_0 g d l0 l1 h Q) : R g d m_J9_append_3 0 [.ref l0, .int l1] [] h Q := by
  refine r_aload_n dJ9_append_3_0 rfl rfl ?_
  refine r_iload_n dJ9_append_3_1 rfl rfl ?_
  obtain ⟨k1, H⟩ := H
  refine r_invSU (y := m_J8_append_3) (k := 28) dJ9_append_3_2 rfl (lw_SUq q793 q3677 q397 q794 q118 q795) (by decide) (n := 1) (by decide +kernel) (Nat.le_of_ble_eq_true rfl) (args := [_]) rfl rfl (Nat.le_of_ble_eq_true rfl) k1 (by decide) (C.monoE H (fun o h2 _ x4 K => cont_R K (fun v3 H => ?_) (fun r HX => XR_nc rfl HX)))
  refine r_pop dJ9_append_3_5 rfl ?_
  refine r_aload_n dJ9_append_3_6 rfl rfl ?_
  exact r_aret dJ9_append_3_7 rfl H
theorem c_J9_append_3_0 {g : PG} {d : Nat} {l0 : Nat} {l1 : Int32} {h : PH} {Q : Out → PH → Prop} (H : w_J9_append_3_0 g d l0 l1 h Q) : C g (d + 1) m_J9_append_3 [.ref l0, .int l1] h Q := C_of_R rfl rfl (Nat.le_of_ble_eq_true rfl) rfl (v_J9_append_3_0 H)
abbrev w_J9_charAt_0 (g : PG) (d : Nat) (l0 : Nat) (l1 : Int32) (h : PH) (Q : Out → PH → Prop) : Prop := hkd h l0 = 28 ∧ C g d m_J8_charAt [.ref l0, .int l1] h (oI (fun v3 h2 => narrow .char (.int v3) = .int v3 ∧ Q (.inl (some (.int v3))) h2) (fun r hx => Q (.inr r) hx))
theorem v_J9_charAt_0 {g : PG} {d : Nat} {l0 : Nat} {l1 : Int32} {h : PH} {Q : Out → PH → Prop} (H : w_J9_charAt_0 g d l0 l1 h Q) : R g d m_J9_charAt 0 [.ref l0, .int l1] [] h Q := by
  refine r_aload_n dJ9_charAt_0 rfl rfl ?_
  refine r_iload_n dJ9_charAt_1 rfl rfl ?_
  obtain ⟨k1, H⟩ := H
  refine r_invSU (y := m_J8_charAt) (k := 28) dJ9_charAt_2 rfl (lw_SUq q2954 q3695 q397 q2955 q118 q2956) (by decide) (n := 1) (by decide +kernel) (Nat.le_of_ble_eq_true rfl) (args := [_]) rfl rfl (Nat.le_of_ble_eq_true rfl) k1 (by decide) (C.monoE H (fun o h2 _ x4 K => cont_I K (fun v3 H => ?_) (fun r HX => XR_nc rfl HX)))
  exact r_zret dJ9_charAt_5 rfl H.1 H.2
theorem c_J9_charAt_0 {g : PG} {d : Nat} {l0 : Nat} {l1 : Int32} {h : PH} {Q : Out → PH → Prop} (H : w_J9_charAt_0 g d l0 l1 h Q) : C g (d + 1) m_J9_charAt [.ref l0, .int l1] h Q := C_of_R rfl rfl (Nat.le_of_ble_eq_true rfl) rfl (v_J9_charAt_0 H)
