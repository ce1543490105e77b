/-! ===== the model: masses behind planks ===== -/
set_option maxRecDepth 100000
/-- the array is laid aside, a snowman goes n planks, it is put back: the state after it -/
def thoughtS (S : MSt) : MSt := sArr 3 (cp 127 (S.1 1) (S.1 3)) S
def behF (A : Nat → Int32) (s p t n : Nat) : Int32 := (goesF n A s p t).1 (48 + 6 * s + 2)
theorem goesF_hi {A : Nat → Int32} {s p t n j : Nat} (hs : s < 9) (ht : t < 3) (hp : p + n < 12) (hj : 127 ≤ j) : (goesF n A s p t).1 j = A j := by
  induction n generalizing A p with
  | zero => rfl
  | succ n ih =>
    unfold goesF
    split
    · rfl
    · rw [ih (by omega), actsF_ne (by omega) (by omega) (by omega) (by omega) (by omega) (by omega), updA_ne _ _ _ _ (by omega)]
theorem cp_back {F G : Nat → Int32} (h : ∀ j, 127 ≤ j → G j = F j) : cp 127 F G = F := by
  funext j
  show (if j < 127 then F j else G j) = F j
  split
  · rfl
  · exact h j (by omega)
theorem cp_cp (n : Nat) (F G H : Nat → Int32) : cp n (cp n F G) H = cp n F H := by
  funext j
  show (if j < n then (if j < n then F j else G j) else H j) = if j < n then F j else H j
  split <;> rfl
section M17
variable {g : PG} {d m : Nat} {S : MSt} {h : PH} {Q : Out → PH → Prop}
theorem k_massBehind_52 {x : Int32} (B : MB m h) (k : Q (.inl (some (.int x))) (mst m (sArr 1 (cp 127 (S.1 3) (S.1 1)) S) h)) : ∀ j i : Nat, j + i = 127 → R g d m_X4_massBehind 52 [.ref m, .null, .null, .null, .int x, .int (nI i)] [] (mst m (sArr 1 (cp i (S.1 3) (S.1 1)) S) h) Q := by
  intro j
  induction j with
  | zero =>
    intro i hi
    obtain rfl : i = 127 := by omega
    exact v_X4_massBehind_52 ⟨fun q => k, fun q => absurd (show nI 127 ≤ nI 127 from nI_le (Nat.le_refl _) (by omega)) q⟩
  | succ j ih =>
    intro i hi
    refine v_X4_massBehind_52 ⟨fun q => absurd q (nI_ge (a := i) (b := 127) (by omega) (by omega)), fun q => ?_⟩
    simp (disch := omega) only [hnx_mst, hw_mst, hkd_mst, hln_mst, hF_mst, hA_mst, setF_mst, setA_mst, setG_mst, sArr_get, sArr_ne, sArr_f, sArr_w, sF_get, sF_ne, sF_a, sF_w, sArr_sArr, sF_sArr, sF_sF, B.kd, B.g1, B.g2, B.g3, B.g4, B.g5, B.g6, B.g7, B.g8, B.g9, B.k1, B.k2, B.k3, B.k4, B.k5, B.k6, B.k7, B.k8, B.k9, B.l1, B.l2, B.l3, B.l4, B.l5, B.l6, B.l7, B.l8, B.l9, MB.gw, ixP, ixT, ixM, vp_iff, clp, leNN, ltNN, eqNN, nI_add, vpL0, clL0, ixA0, ixB0, leLN0, leNL0, ltLN0, ltNL0, eqNL0, eqLN0, vpL1, clL1, ixA1, ixB1, leLN1, leNL1, ltLN1, ltNL1, eqNL1, eqLN1, vpL2, clL2, ixA2, ixB2, leLN2, leNL2, ltLN2, ltNL2, eqNL2, eqLN2, vpL3, clL3, ixA3, ixB3, leLN3, leNL3, ltLN3, ltNL3, eqNL3, eqLN3, vpL4, clL4, ixA4, ixB4, leLN4, leNL4, ltLN4, ltNL4, eqNL4, eqLN4, vpL5, clL5, ixA5, ixB5, leLN5, leNL5, ltLN5, ltNL5, eqNL5, eqLN5, vpL6, clL6, ixA6, ixB6, leLN6, leNL6, ltLN6, ltNL6, eqNL6, eqLN6, vpL7, clL7, ixA7, ixB7, leLN7, leNL7, ltLN7, ltNL7, eqNL7, eqLN7, vpL8, clL8, ixA8, ixB8, leLN8, leNL8, ltLN8, ltNL8, eqNL8, eqLN8, vpL9, clL9, ixA9, ixB9, leLN9, leNL9, ltLN9, ltNL9, eqNL9, eqLN9, vpL10, clL10, ixA10, ixB10, leLN10, leNL10, ltLN10, ltNL10, eqNL10, eqLN10, vpL11, clL11, ixA11, ixB11, leLN11, leNL11, ltLN11, ltNL11, eqNL11, eqLN11, vpL12, clL12, ixA12, ixB12, leLN12, leNL12, ltLN12, ltNL12, eqNL12, eqLN12, vpL13, clL13, ixA13, ixB13, leLN13, leNL13, ltLN13, ltNL13, eqNL13, eqLN13, vpL14, clL14, ixA14, ixB14, leLN14, leNL14, ltLN14, ltNL14, eqNL14, eqLN14, vpL15, clL15, ixA15, ixB15, leLN15, leNL15, ltLN15, ltNL15, eqNL15, eqLN15, vpL23, clL23, ixA23, ixB23, leLN23, leNL23, ltLN23, ltNL23, eqNL23, eqLN23, vpL24, clL24, ixA24, ixB24, leLN24, leNL24, ltLN24, ltNL24, eqNL24, eqLN24, vpL29, clL29, ixA29, ixB29, leLN29, leNL29, ltLN29, ltNL29, eqNL29, eqLN29, vpL39, clL39, ixA39, ixB39, leLN39, leNL39, ltLN39, ltNL39, eqNL39, eqLN39, vpL48, clL48, ixA48, ixB48, leLN48, leNL48, ltLN48, ltNL48, eqNL48, eqLN48, vpL49, clL49, ixA49, ixB49, leLN49, leNL49, ltLN49, ltNL49, eqNL49, eqLN49, vpL50, clL50, ixA50, ixB50, leLN50, leNL50, ltLN50, ltNL50, eqNL50, eqLN50, vpL60, clL60, ixA60, ixB60, leLN60, leNL60, ltLN60, ltNL60, eqNL60, eqLN60, vpL102, clL102, ixA102, ixB102, leLN102, leNL102, ltLN102, ltNL102, eqNL102, eqLN102, vpL103, clL103, ixA103, ixB103, leLN103, leNL103, ltLN103, ltNL103, eqNL103, eqLN103, vpL104, clL104, ixA104, ixB104, leLN104, leNL104, ltLN104, ltNL104, eqNL104, eqLN104, vpL105, clL105, ixA105, ixB105, leLN105, leNL105, ltLN105, ltNL105, eqNL105, eqLN105, vpL106, clL106, ixA106, ixB106, leLN106, leNL106, ltLN106, ltNL106, eqNL106, eqLN106, vpL120, clL120, ixA120, ixB120, leLN120, leNL120, ltLN120, ltNL120, eqNL120, eqLN120, vpL126, clL126, ixA126, ixB126, leLN126, leNL126, ltLN126, ltNL126, eqNL126, eqLN126, vpL127, clL127, ixA127, ixB127, leLN127, leNL127, ltLN127, ltNL127, eqNL127, eqLN127, vpL889, clL889, ixA889, ixB889, leLN889, leNL889, ltLN889, ltNL889, eqNL889, eqLN889, vpL1000000, clL1000000, ixA1000000, ixB1000000, leLN1000000, leNL1000000, ltLN1000000, ltNL1000000, eqNL1000000, eqLN1000000, Nat.reduceDiv, Nat.reduceMod, Nat.reduceEqDiff, Nat.reduceLT, Nat.reduceLeDiff, Nat.reduceAdd, Nat.reduceMul, Nat.reduceSub, true_and, and_true, if_true, if_false, false_and, and_false, ne_eq, not_true_eq_false, not_false_eq_true, forall_eq, and_self, true_or, or_true, false_or, or_false]
    repeat refine ⟨by omega, ?_⟩
    rw [cpS]
    exact ih (i + 1) (by omega)
theorem k_massBehind_2 {s t p n : Nat} (B : MB m h) (hs : s < 9) (ht : t < 3) (hn : n < 12) (hp : p + n < 12) (et : S.1 1 (48 + 6 * s) = nI t) (ep : S.1 1 (48 + 6 * s + 1) = nI p) (k : Q (.inl (some (.int (behF (S.1 1) s p t n)))) (mst m (thoughtS S) h)) : ∀ j i : Nat, j + i = 127 → R g (d + 4) m_X4_massBehind 2 [.ref m, .int (nI s), .int (nI n), .int (nI i), .null, .null] [] (mst m (sArr 3 (cp i (S.1 1) (S.1 3)) S) h) Q := by
  intro j
  induction j with
  | zero =>
    intro i hi
    obtain rfl : i = 127 := by omega
    refine v_X4_massBehind_2 ⟨fun q => ?_, fun q => absurd (show nI 127 ≤ nI 127 from nI_le (Nat.le_refl _) (by omega)) q⟩
    refine ⟨B.kd, k_goes (p := p) (t := t) B hs ht hn hp et ep (oI_i ⟨fun _ => ?_, fun q2 => ?_⟩)⟩
    · refine k_of (w := 2) B (by omega) (oI_i ?_)
      simp (disch := omega) only [w_X4_massBehind_47, hnx_mst, hw_mst, hkd_mst, hln_mst, hF_mst, hA_mst, setF_mst, setA_mst, setG_mst, sArr_get, sArr_ne, sArr_f, sArr_w, sF_get, sF_ne, sF_a, sF_w, sArr_sArr, sF_sArr, sF_sF, B.kd, B.g1, B.g2, B.g3, B.g4, B.g5, B.g6, B.g7, B.g8, B.g9, B.k1, B.k2, B.k3, B.k4, B.k5, B.k6, B.k7, B.k8, B.k9, B.l1, B.l2, B.l3, B.l4, B.l5, B.l6, B.l7, B.l8, B.l9, MB.gw, ixP, ixT, ixM, vp_iff, clp, leNN, ltNN, eqNN, nI_add, vpL0, clL0, ixA0, ixB0, leLN0, leNL0, ltLN0, ltNL0, eqNL0, eqLN0, vpL1, clL1, ixA1, ixB1, leLN1, leNL1, ltLN1, ltNL1, eqNL1, eqLN1, vpL2, clL2, ixA2, ixB2, leLN2, leNL2, ltLN2, ltNL2, eqNL2, eqLN2, vpL3, clL3, ixA3, ixB3, leLN3, leNL3, ltLN3, ltNL3, eqNL3, eqLN3, vpL4, clL4, ixA4, ixB4, leLN4, leNL4, ltLN4, ltNL4, eqNL4, eqLN4, vpL5, clL5, ixA5, ixB5, leLN5, leNL5, ltLN5, ltNL5, eqNL5, eqLN5, vpL6, clL6, ixA6, ixB6, leLN6, leNL6, ltLN6, ltNL6, eqNL6, eqLN6, vpL7, clL7, ixA7, ixB7, leLN7, leNL7, ltLN7, ltNL7, eqNL7, eqLN7, vpL8, clL8, ixA8, ixB8, leLN8, leNL8, ltLN8, ltNL8, eqNL8, eqLN8, vpL9, clL9, ixA9, ixB9, leLN9, leNL9, ltLN9, ltNL9, eqNL9, eqLN9, vpL10, clL10, ixA10, ixB10, leLN10, leNL10, ltLN10, ltNL10, eqNL10, eqLN10, vpL11, clL11, ixA11, ixB11, leLN11, leNL11, ltLN11, ltNL11, eqNL11, eqLN11, vpL12, clL12, ixA12, ixB12, leLN12, leNL12, ltLN12, ltNL12, eqNL12, eqLN12, vpL13, clL13, ixA13, ixB13, leLN13, leNL13, ltLN13, ltNL13, eqNL13, eqLN13, vpL14, clL14, ixA14, ixB14, leLN14, leNL14, ltLN14, ltNL14, eqNL14, eqLN14, vpL15, clL15, ixA15, ixB15, leLN15, leNL15, ltLN15, ltNL15, eqNL15, eqLN15, vpL23, clL23, ixA23, ixB23, leLN23, leNL23, ltLN23, ltNL23, eqNL23, eqLN23, vpL24, clL24, ixA24, ixB24, leLN24, leNL24, ltLN24, ltNL24, eqNL24, eqLN24, vpL29, clL29, ixA29, ixB29, leLN29, leNL29, ltLN29, ltNL29, eqNL29, eqLN29, vpL39, clL39, ixA39, ixB39, leLN39, leNL39, ltLN39, ltNL39, eqNL39, eqLN39, vpL48, clL48, ixA48, ixB48, leLN48, leNL48, ltLN48, ltNL48, eqNL48, eqLN48, vpL49, clL49, ixA49, ixB49, leLN49, leNL49, ltLN49, ltNL49, eqNL49, eqLN49, vpL50, clL50, ixA50, ixB50, leLN50, leNL50, ltLN50, ltNL50, eqNL50, eqLN50, vpL60, clL60, ixA60, ixB60, leLN60, leNL60, ltLN60, ltNL60, eqNL60, eqLN60, vpL102, clL102, ixA102, ixB102, leLN102, leNL102, ltLN102, ltNL102, eqNL102, eqLN102, vpL103, clL103, ixA103, ixB103, leLN103, leNL103, ltLN103, ltNL103, eqNL103, eqLN103, vpL104, clL104, ixA104, ixB104, leLN104, leNL104, ltLN104, ltNL104, eqNL104, eqLN104, vpL105, clL105, ixA105, ixB105, leLN105, leNL105, ltLN105, ltNL105, eqNL105, eqLN105, vpL106, clL106, ixA106, ixB106, leLN106, leNL106, ltLN106, ltNL106, eqNL106, eqLN106, vpL120, clL120, ixA120, ixB120, leLN120, leNL120, ltLN120, ltNL120, eqNL120, eqLN120, vpL126, clL126, ixA126, ixB126, leLN126, leNL126, ltLN126, ltNL126, eqNL126, eqLN126, vpL127, clL127, ixA127, ixB127, leLN127, leNL127, ltLN127, ltNL127, eqNL127, eqLN127, vpL889, clL889, ixA889, ixB889, leLN889, leNL889, ltLN889, ltNL889, eqNL889, eqLN889, vpL1000000, clL1000000, ixA1000000, ixB1000000, leLN1000000, leNL1000000, ltLN1000000, ltNL1000000, eqNL1000000, eqLN1000000, Nat.reduceDiv, Nat.reduceMod, Nat.reduceEqDiff, Nat.reduceLT, Nat.reduceLeDiff, Nat.reduceAdd, Nat.reduceMul, Nat.reduceSub, true_and, and_true, if_true, if_false, false_and, and_false, ne_eq, not_true_eq_false, not_false_eq_true, forall_eq, and_self, true_or, or_true, false_or, or_false]
      have h1 := k_massBehind_52 (g := g) (d := d + 4) (Q := Q) (S := sArr 1 (goesF n (S.1 1) s p t).1 (thoughtS S)) (x := behF (S.1 1) s p t n) B ?_ 127 0 rfl
      · have e : sArr 1 (goesF n (S.1 1) s p t).1 (sArr 1 (goesF n (S.1 1) s p t).1 (thoughtS S)) = sArr 1 (goesF n (S.1 1) s p t).1 (thoughtS S) := sArr_sArr 1 _ _ _
        rw [cp0, sArr_get, e] at h1
        exact h1
      · have e1 : (sArr 1 (goesF n (S.1 1) s p t).1 (thoughtS S)).1 3 = cp 127 (S.1 1) (S.1 3) := rfl
        rw [e1, sArr_get, sArr_sArr, cp_cp, cp_back (fun j hj => goesF_hi hs ht hp hj)]
        have e2 : sArr 1 (S.1 1) (thoughtS S) = thoughtS S := sArr_self 1 (thoughtS S)
        rw [e2]
        exact k
    · have := goesF_le n (S.1 1) s p t
      exact absurd (nI_pos' (n := (goesF n (S.1 1) s p t).2) (by omega)) q2
  | succ j ih =>
    intro i hi
    refine v_X4_massBehind_2 ⟨fun q => absurd q (nI_ge (a := i) (b := 127) (by omega) (by omega)), fun q => ?_⟩
    simp (disch := omega) only [hnx_mst, hw_mst, hkd_mst, hln_mst, hF_mst, hA_mst, setF_mst, setA_mst, setG_mst, sArr_get, sArr_ne, sArr_f, sArr_w, sF_get, sF_ne, sF_a, sF_w, sArr_sArr, sF_sArr, sF_sF, B.kd, B.g1, B.g2, B.g3, B.g4, B.g5, B.g6, B.g7, B.g8, B.g9, B.k1, B.k2, B.k3, B.k4, B.k5, B.k6, B.k7, B.k8, B.k9, B.l1, B.l2, B.l3, B.l4, B.l5, B.l6, B.l7, B.l8, B.l9, MB.gw, ixP, ixT, ixM, vp_iff, clp, leNN, ltNN, eqNN, nI_add, vpL0, clL0, ixA0, ixB0, leLN0, leNL0, ltLN0, ltNL0, eqNL0, eqLN0, vpL1, clL1, ixA1, ixB1, leLN1, leNL1, ltLN1, ltNL1, eqNL1, eqLN1, vpL2, clL2, ixA2, ixB2, leLN2, leNL2, ltLN2, ltNL2, eqNL2, eqLN2, vpL3, clL3, ixA3, ixB3, leLN3, leNL3, ltLN3, ltNL3, eqNL3, eqLN3, vpL4, clL4, ixA4, ixB4, leLN4, leNL4, ltLN4, ltNL4, eqNL4, eqLN4, vpL5, clL5, ixA5, ixB5, leLN5, leNL5, ltLN5, ltNL5, eqNL5, eqLN5, vpL6, clL6, ixA6, ixB6, leLN6, leNL6, ltLN6, ltNL6, eqNL6, eqLN6, vpL7, clL7, ixA7, ixB7, leLN7, leNL7, ltLN7, ltNL7, eqNL7, eqLN7, vpL8, clL8, ixA8, ixB8, leLN8, leNL8, ltLN8, ltNL8, eqNL8, eqLN8, vpL9, clL9, ixA9, ixB9, leLN9, leNL9, ltLN9, ltNL9, eqNL9, eqLN9, vpL10, clL10, ixA10, ixB10, leLN10, leNL10, ltLN10, ltNL10, eqNL10, eqLN10, vpL11, clL11, ixA11, ixB11, leLN11, leNL11, ltLN11, ltNL11, eqNL11, eqLN11, vpL12, clL12, ixA12, ixB12, leLN12, leNL12, ltLN12, ltNL12, eqNL12, eqLN12, vpL13, clL13, ixA13, ixB13, leLN13, leNL13, ltLN13, ltNL13, eqNL13, eqLN13, vpL14, clL14, ixA14, ixB14, leLN14, leNL14, ltLN14, ltNL14, eqNL14, eqLN14, vpL15, clL15, ixA15, ixB15, leLN15, leNL15, ltLN15, ltNL15, eqNL15, eqLN15, vpL23, clL23, ixA23, ixB23, leLN23, leNL23, ltLN23, ltNL23, eqNL23, eqLN23, vpL24, clL24, ixA24, ixB24, leLN24, leNL24, ltLN24, ltNL24, eqNL24, eqLN24, vpL29, clL29, ixA29, ixB29, leLN29, leNL29, ltLN29, ltNL29, eqNL29, eqLN29, vpL39, clL39, ixA39, ixB39, leLN39, leNL39, ltLN39, ltNL39, eqNL39, eqLN39, vpL48, clL48, ixA48, ixB48, leLN48, leNL48, ltLN48, ltNL48, eqNL48, eqLN48, vpL49, clL49, ixA49, ixB49, leLN49, leNL49, ltLN49, ltNL49, eqNL49, eqLN49, vpL50, clL50, ixA50, ixB50, leLN50, leNL50, ltLN50, ltNL50, eqNL50, eqLN50, vpL60, clL60, ixA60, ixB60, leLN60, leNL60, ltLN60, ltNL60, eqNL60, eqLN60, vpL102, clL102, ixA102, ixB102, leLN102, leNL102, ltLN102, ltNL102, eqNL102, eqLN102, vpL103, clL103, ixA103, ixB103, leLN103, leNL103, ltLN103, ltNL103, eqNL103, eqLN103, vpL104, clL104, ixA104, ixB104, leLN104, leNL104, ltLN104, ltNL104, eqNL104, eqLN104, vpL105, clL105, ixA105, ixB105, leLN105, leNL105, ltLN105, ltNL105, eqNL105, eqLN105, vpL106, clL106, ixA106, ixB106, leLN106, leNL106, ltLN106, ltNL106, eqNL106, eqLN106, vpL120, clL120, ixA120, ixB120, leLN120, leNL120, ltLN120, ltNL120, eqNL120, eqLN120, vpL126, clL126, ixA126, ixB126, leLN126, leNL126, ltLN126, ltNL126, eqNL126, eqLN126, vpL127, clL127, ixA127, ixB127, leLN127, leNL127, ltLN127, ltNL127, eqNL127, eqLN127, vpL889, clL889, ixA889, ixB889, leLN889, leNL889, ltLN889, ltNL889, eqNL889, eqLN889, vpL1000000, clL1000000, ixA1000000, ixB1000000, leLN1000000, leNL1000000, ltLN1000000, ltNL1000000, eqNL1000000, eqLN1000000, Nat.reduceDiv, Nat.reduceMod, Nat.reduceEqDiff, Nat.reduceLT, Nat.reduceLeDiff, Nat.reduceAdd, Nat.reduceMul, Nat.reduceSub, true_and, and_true, if_true, if_false, false_and, and_false, ne_eq, not_true_eq_false, not_false_eq_true, forall_eq, and_self, true_or, or_true, false_or, or_false]
    repeat refine ⟨by omega, ?_⟩
    rw [cpS]
    exact ih (i + 1) (by omega)
theorem k_massBehind {s t p n : Nat} (B : MB m h) (hs : s < 9) (ht : t < 3) (hn : n < 12) (hp : p + n < 12) (et : S.1 1 (48 + 6 * s) = nI t) (ep : S.1 1 (48 + 6 * s + 1) = nI p) (k : Q (.inl (some (.int (behF (S.1 1) s p t n)))) (mst m (thoughtS S) h)) : C g (d + 5) m_X4_massBehind [.ref m, .int (nI s), .int (nI n)] (mst m S h) Q := by
  refine c_X4_massBehind_0 ?_
  have h1 := k_massBehind_2 (g := g) (d := d) (Q := Q) B hs ht hn hp et ep k 127 0 rfl
  rw [cp0, sArr_self] at h1
  exact h1
end M17
