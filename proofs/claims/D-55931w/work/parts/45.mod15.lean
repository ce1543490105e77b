/-! ===== the model: standing, ranked, legOf ===== -/
set_option maxRecDepth 100000
def legO (A : Nat → Int32) (l w : Int32) : AO := if 0 ≤ l ∧ l ≤ i32min 5 (A 2) - 1 then (if 0 ≤ w ∧ w ≤ 4 then .inl (A (102 + 5 * l.toNatClampNeg + w.toNatClampNeg)) else .inr 2) else .inr 1
section M15
variable {g : PG} {d m : Nat} {S : MSt} {h : PH} {Q : Out → PH → Prop}
theorem k_standing_17 {pl : Int32} {t : Nat} (B : MB m h) (ht : t < 3) (H : HP (S.1 1)) (k1 : nI (cntF (bfrF (S.1 1) t) 3) = pl → Q (.inl (some (.int (nI t)))) (mst m S h)) (k0 : ¬ nI (cntF (bfrF (S.1 1) t) 3) = pl → R g (d + 3) m_X4_standing 7 [.ref m, .int pl, .int (nI (t + 1)), .null, .null] [] (mst m S h) Q) : ∀ j i : Nat, j + i = 3 → R g (d + 3) m_X4_standing 17 [.ref m, .int pl, .int (nI t), .int (nI (cntF (bfrF (S.1 1) t) i)), .int (nI i)] [] (mst m S h) Q := by
  intro j
  induction j with
  | zero =>
    intro i hi
    obtain rfl : i = 3 := by omega
    refine v_X4_standing_17 ⟨fun q => ⟨fun q2 => ?_, fun q2 => k1 q2⟩, fun q => absurd (show nI 3 ≤ nI 3 from nI_le (Nat.le_refl _) (by omega)) q⟩
    have h1 := k0 q2
    rw [← nI_1] at h1
    exact h1
  | succ j ih =>
    intro i hi
    have ih2 := ih (i + 1) (by omega)
    rw [cntF, ← nI_1 i] at ih2
    refine v_X4_standing_17 ⟨fun q => absurd q (nI_ge (a := i) (b := 3) (by omega) (by omega)), fun q => ⟨fun q2 => ?_, fun q2 => ⟨B.kd, k_isAhead B (by omega) ht H (oI_i ⟨fun q3 => ?_, fun q3 => ?_⟩)⟩⟩⟩
    · rw [eqNN (by omega) (by omega)] at q2
      rw [if_neg (show ¬ bfrF (S.1 1) t i = true from fun z => (of_decide_eq_true z).1 q2), Nat.add_zero] at ih2
      exact ih2
    · rw [b1_eq] at q3
      rw [if_neg (show ¬ bfrF (S.1 1) t i = true from fun z => q3 (of_decide_eq_true z).2), Nat.add_zero] at ih2
      exact ih2
    · rw [b1_eq, Classical.not_not] at q3
      rw [eqNN (by omega) (by omega)] at q2
      rw [if_pos (show bfrF (S.1 1) t i = true from decide_eq_true ⟨q2, q3⟩), ← nI_1] at ih2
      exact ih2
theorem k_standing_7 {pl : Int32} (B : MB m h) (H : HP (S.1 1)) : ∀ n t : Nat, n + t = 3 → Q (.inl (some (.int (asR (frst (fun t => decide (nI (cntF (bfrF (S.1 1) t) 3) = pl)) n t))))) (mst m (sF 33 (asC (frst (fun t => decide (nI (cntF (bfrF (S.1 1) t) 3) = pl)) n t)) S) h) → S.2.1 33 = 0 → R g (d + 3) m_X4_standing 7 [.ref m, .int pl, .int (nI t), .null, .null] [] (mst m S h) Q := by
  intro n
  induction n with
  | zero =>
    intro t ht k e0
    obtain rfl : t = 3 := by omega
    exact v_X4_standing_7 ⟨fun q => ⟨B.kd, k_raises B (oI_i k)⟩, fun q => absurd (show nI 3 ≤ nI 3 from nI_le (Nat.le_refl _) (by omega)) q⟩
  | succ n ih =>
    intro t ht k e0
    refine v_X4_standing_7 ⟨fun q => absurd q (nI_ge (a := t) (b := 3) (by omega) (by omega)), fun q => ?_⟩
    rw [frst] at k
    refine k_standing_17 (t := t) B (by omega) H (fun q2 => ?_) (fun q2 => ?_) 3 0 rfl
    · rw [if_pos (decide_eq_true q2)] at k
      have e : sF 33 (asC (.inl (nI t))) S = S := by
        show sF 33 0 S = S
        rw [← e0, sF_self]
      rw [e] at k
      exact k
    · rw [if_neg (fun z => q2 (of_decide_eq_true z))] at k
      exact ih (t + 1) (by omega) k e0
theorem k_standing {pl : Int32} (B : MB m h) (H : HP (S.1 1)) (k : Q (.inl (some (.int (asR (standO (S.1 1) pl))))) (mst m (sF 33 (asC (standO (S.1 1) pl)) S) h)) : C g (d + 4) m_X4_standing [.ref m, .int pl] (mst m S h) Q := by
  refine c_X4_standing_0 ?_
  simp (disch := omega) only [w_X4_standing_0, hnx_mst, hw_mst, hkd_mst, hln_mst, hF_mst, hA_mst, setF_mst, setA_mst, setG_mst, sArr_get, sArr_ne, sArr_f, sArr_w, sF_get, sF_ne, sF_a, sF_w, sArr_sArr, sF_sArr, sF_sF, B.kd, B.g1, B.g2, B.g3, B.g4, B.g5, B.g6, B.g7, B.g8, B.g9, B.k1, B.k2, B.k3, B.k4, B.k5, B.k6, B.k7, B.k8, B.k9, B.l1, B.l2, B.l3, B.l4, B.l5, B.l6, B.l7, B.l8, B.l9, MB.gw, ixP, ixT, ixM, vp_iff, clp, leNN, ltNN, eqNN, nI_add, vpL0, clL0, ixA0, ixB0, leLN0, leNL0, ltLN0, ltNL0, eqNL0, eqLN0, vpL1, clL1, ixA1, ixB1, leLN1, leNL1, ltLN1, ltNL1, eqNL1, eqLN1, vpL2, clL2, ixA2, ixB2, leLN2, leNL2, ltLN2, ltNL2, eqNL2, eqLN2, vpL3, clL3, ixA3, ixB3, leLN3, leNL3, ltLN3, ltNL3, eqNL3, eqLN3, vpL4, clL4, ixA4, ixB4, leLN4, leNL4, ltLN4, ltNL4, eqNL4, eqLN4, vpL5, clL5, ixA5, ixB5, leLN5, leNL5, ltLN5, ltNL5, eqNL5, eqLN5, vpL6, clL6, ixA6, ixB6, leLN6, leNL6, ltLN6, ltNL6, eqNL6, eqLN6, vpL7, clL7, ixA7, ixB7, leLN7, leNL7, ltLN7, ltNL7, eqNL7, eqLN7, vpL8, clL8, ixA8, ixB8, leLN8, leNL8, ltLN8, ltNL8, eqNL8, eqLN8, vpL9, clL9, ixA9, ixB9, leLN9, leNL9, ltLN9, ltNL9, eqNL9, eqLN9, vpL10, clL10, ixA10, ixB10, leLN10, leNL10, ltLN10, ltNL10, eqNL10, eqLN10, vpL11, clL11, ixA11, ixB11, leLN11, leNL11, ltLN11, ltNL11, eqNL11, eqLN11, vpL12, clL12, ixA12, ixB12, leLN12, leNL12, ltLN12, ltNL12, eqNL12, eqLN12, vpL13, clL13, ixA13, ixB13, leLN13, leNL13, ltLN13, ltNL13, eqNL13, eqLN13, vpL14, clL14, ixA14, ixB14, leLN14, leNL14, ltLN14, ltNL14, eqNL14, eqLN14, vpL15, clL15, ixA15, ixB15, leLN15, leNL15, ltLN15, ltNL15, eqNL15, eqLN15, vpL23, clL23, ixA23, ixB23, leLN23, leNL23, ltLN23, ltNL23, eqNL23, eqLN23, vpL24, clL24, ixA24, ixB24, leLN24, leNL24, ltLN24, ltNL24, eqNL24, eqLN24, vpL29, clL29, ixA29, ixB29, leLN29, leNL29, ltLN29, ltNL29, eqNL29, eqLN29, vpL39, clL39, ixA39, ixB39, leLN39, leNL39, ltLN39, ltNL39, eqNL39, eqLN39, vpL48, clL48, ixA48, ixB48, leLN48, leNL48, ltLN48, ltNL48, eqNL48, eqLN48, vpL49, clL49, ixA49, ixB49, leLN49, leNL49, ltLN49, ltNL49, eqNL49, eqLN49, vpL50, clL50, ixA50, ixB50, leLN50, leNL50, ltLN50, ltNL50, eqNL50, eqLN50, vpL60, clL60, ixA60, ixB60, leLN60, leNL60, ltLN60, ltNL60, eqNL60, eqLN60, vpL102, clL102, ixA102, ixB102, leLN102, leNL102, ltLN102, ltNL102, eqNL102, eqLN102, vpL103, clL103, ixA103, ixB103, leLN103, leNL103, ltLN103, ltNL103, eqNL103, eqLN103, vpL104, clL104, ixA104, ixB104, leLN104, leNL104, ltLN104, ltNL104, eqNL104, eqLN104, vpL105, clL105, ixA105, ixB105, leLN105, leNL105, ltLN105, ltNL105, eqNL105, eqLN105, vpL106, clL106, ixA106, ixB106, leLN106, leNL106, ltLN106, ltNL106, eqNL106, eqLN106, vpL120, clL120, ixA120, ixB120, leLN120, leNL120, ltLN120, ltNL120, eqNL120, eqLN120, vpL126, clL126, ixA126, ixB126, leLN126, leNL126, ltLN126, ltNL126, eqNL126, eqLN126, vpL127, clL127, ixA127, ixB127, leLN127, leNL127, ltLN127, ltNL127, eqNL127, eqLN127, vpL889, clL889, ixA889, ixB889, leLN889, leNL889, ltLN889, ltNL889, eqNL889, eqLN889, vpL1000000, clL1000000, ixA1000000, ixB1000000, leLN1000000, leNL1000000, ltLN1000000, ltNL1000000, eqNL1000000, eqLN1000000, Nat.reduceDiv, Nat.reduceMod, Nat.reduceEqDiff, Nat.reduceLT, Nat.reduceLeDiff, Nat.reduceAdd, Nat.reduceMul, Nat.reduceSub, true_and, and_true, if_true, if_false, false_and, and_false, ne_eq, not_true_eq_false, not_false_eq_true, forall_eq, and_self, true_or, or_true, false_or, or_false]
  refine k_standing_7 (S := sF 33 0 S) B H 3 0 rfl ?_ (sF_get 33 0 S)
  rw [sF_sF]
  exact k
theorem k_standingAgain {pl : Int32} (B : MB m h) (H : HP (S.1 1)) (k : Q (.inl (some (.int (asR (standO (S.1 1) pl))))) (mst m (sF 33 (asC (standO (S.1 1) pl)) S) h)) : C g (d + 5) m_X4_standingAgain [.ref m, .int pl] (mst m S h) Q :=
  c_X4_standingAgain_0 ⟨B.kd, k_standing B H (oI_i k)⟩
end M15
