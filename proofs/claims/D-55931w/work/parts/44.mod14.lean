/-! ===== the model: orders, legs ===== -/
set_option maxRecDepth 100000
def pos01 (x : Int32) : Int32 := if x ≤ 0 then 0 else 1
def aheadM (A : Nat → Int32) (a b : Nat) : Int32 := if pos01 (A (39 + 3 * a + 1)) - pos01 (A (39 + 3 * b + 1)) = 0 then (if A (39 + 3 * a + 1) ≤ 0 then placeF A a - placeF A b else A (39 + 3 * b + 1) - A (39 + 3 * a + 1)) else pos01 (A (39 + 3 * a + 1)) - pos01 (A (39 + 3 * b + 1))
def beat (x : Int32) (a b : Nat) : Bool := decide (0 < x ∨ x = 0 ∧ a < b)
def bfrF (A : Nat → Int32) (t : Nat) (q : Nat) : Bool := decide (¬ q = t ∧ beat (aheadM A q t) q t = true)
def heavM (A : Nat → Int32) (a b : Nat) : Int32 := if A (48 + 6 * a + 2) - A (48 + 6 * b + 2) = 0 then A (48 + 6 * a + 1) - A (48 + 6 * b + 1) else A (48 + 6 * a + 2) - A (48 + 6 * b + 2)
def bfhF (A : Nat → Int32) (t : Nat) (q : Nat) : Bool := decide (¬ q = t ∧ beat (heavM A q t) q t = true)
/-- the first from t on, of n, of which P -/
def frst (P : Nat → Bool) : Nat → Nat → AO
  | 0, _ => .inr 1
  | n + 1, t => if P t = true then .inl (nI t) else frst P n (t + 1)
def standO (A : Nat → Int32) (pl : Int32) : AO := frst (fun t => decide (nI (cntF (bfrF A t) 3) = pl)) 3 0
def rankO (A : Nat → Int32) (pl : Int32) (n : Nat) : AO := frst (fun s => decide (nI (cntF (bfhF A s) n) = pl)) n 0
section M14
variable {g : PG} {d m : Nat} {S : MSt} {h : PH} {Q : Out → PH → Prop}
theorem k_isAhead_80 {a b : Nat} {x : Int32} (ha : a < 100) (hb : b < 100) (k : Q (.inl (some (.int (if beat x a b = true then 1 else 0)))) h) : w_X4_isAhead_80 g d (nI a) (nI b) x h Q := by
  refine ⟨fun q => ?_, fun q => ⟨fun q2 => ?_, fun q2 => ⟨fun q3 => ?_, fun q3 => ?_⟩⟩⟩
  · rwa [if_pos (show beat x a b = true from decide_eq_true (Or.inl q))] at k
  · rwa [if_neg (show ¬ beat x a b = true from fun z => (of_decide_eq_true z).elim q (fun y => q2 y.1))] at k
  · rw [leNN (by omega) (by omega)] at q3
    rwa [if_neg (show ¬ beat x a b = true from fun z => (of_decide_eq_true z).elim q (fun y => by omega))] at k
  · rw [leNN (by omega) (by omega)] at q3
    rwa [if_pos (show beat x a b = true from decide_eq_true (Or.inr ⟨q2, by omega⟩))] at k
theorem k_isHeavier_32 {a b : Nat} {x : Int32} (ha : a < 100) (hb : b < 100) (k : Q (.inl (some (.int (if beat x a b = true then 1 else 0)))) h) : w_X4_isHeavier_32 g d (nI a) (nI b) x h Q := k_isAhead_80 (g := g) (d := d) ha hb k
theorem k_isHeavier {a b : Nat} (B : MB m h) (ha : a < 9) (hb : b < 9) (k : Q (.inl (some (.int (if beat (heavM (S.1 1) a b) a b = true then 1 else 0)))) (mst m S h)) : C g (d + 2) m_X4_isHeavier [.ref m, .int (nI a), .int (nI b)] (mst m S h) Q := by
  refine c_X4_isHeavier_0 ⟨B.kd, k_of (w := 2) B (by omega) (oI_i (k_of (w := 2) B (by omega) (oI_i ⟨fun q => ?_, fun q => ?_⟩)))⟩
  · rw [heavM, if_neg q] at k
    exact k_isHeavier_32 (by omega) (by omega) k
  · rw [heavM, if_pos q] at k
    exact k_of (w := 1) B (by omega) (oI_i (k_of (w := 1) B (by omega) (oI_i (k_isHeavier_32 (by omega) (by omega) k))))
theorem k_isAhead {a b : Nat} (B : MB m h) (ha : a < 3) (hb : b < 3) (H : HP (S.1 1)) (k : Q (.inl (some (.int (if beat (aheadM (S.1 1) a b) a b = true then 1 else 0)))) (mst m S h)) : C g (d + 3) m_X4_isAhead [.ref m, .int (nI a), .int (nI b)] (mst m S h) Q := by
  have k48 : w_X4_isAhead_48 g (d + 2) m (nI a) (nI b) (S.1 1 (39 + 3 * a + 1)) (S.1 1 (39 + 3 * b + 1)) (pos01 (S.1 1 (39 + 3 * a + 1))) (pos01 (S.1 1 (39 + 3 * b + 1))) (mst m S h) Q := by
    refine ⟨fun q => ?_, fun q => ⟨fun q2 => ?_, fun q2 => ?_⟩⟩
    · rw [aheadM, if_neg q] at k
      exact k_isAhead_80 (by omega) (by omega) k
    · rw [aheadM, if_pos q, if_pos q2] at k
      exact ⟨B.kd, k_place B ha H (oI_i (k_place B hb H (oI_i (k_isAhead_80 (by omega) (by omega) k))))⟩
    · rw [aheadM, if_pos q, if_neg q2] at k
      exact k_isAhead_80 (by omega) (by omega) k
  have k38 : w_X4_isAhead_38 g (d + 2) m (nI a) (nI b) (S.1 1 (39 + 3 * a + 1)) (S.1 1 (39 + 3 * b + 1)) (pos01 (S.1 1 (39 + 3 * a + 1))) (mst m S h) Q := by
    refine ⟨fun q => ?_, fun q => ?_⟩
    · have e : pos01 (S.1 1 (39 + 3 * b + 1)) = 0 := by rw [pos01, if_pos q]
      rw [e] at k48
      exact k48
    · have e : pos01 (S.1 1 (39 + 3 * b + 1)) = 1 := by rw [pos01, if_neg q]
      rw [e] at k48
      exact k48
  refine c_X4_isAhead_0 ?_
  simp (disch := omega) only [w_X4_isAhead_0, hnx_mst, hw_mst, hkd_mst, hln_mst, hF_mst, hA_mst, setF_mst, setA_mst, setG_mst, sArr_get, sArr_ne, sArr_f, sArr_w, sF_get, sF_ne, sF_a, sF_w, sArr_sArr, sF_sArr, sF_sF, B.kd, B.g1, B.g2, B.g3, B.g4, B.g5, B.g6, B.g7, B.g8, B.g9, B.k1, B.k2, B.k3, B.k4, B.k5, B.k6, B.k7, B.k8, B.k9, B.l1, B.l2, B.l3, B.l4, B.l5, B.l6, B.l7, B.l8, B.l9, MB.gw, ixP, ixT, ixM, vp_iff, clp, leNN, ltNN, eqNN, nI_add, vpL0, clL0, ixA0, ixB0, leLN0, leNL0, ltLN0, ltNL0, eqNL0, eqLN0, vpL1, clL1, ixA1, ixB1, leLN1, leNL1, ltLN1, ltNL1, eqNL1, eqLN1, vpL2, clL2, ixA2, ixB2, leLN2, leNL2, ltLN2, ltNL2, eqNL2, eqLN2, vpL3, clL3, ixA3, ixB3, leLN3, leNL3, ltLN3, ltNL3, eqNL3, eqLN3, vpL4, clL4, ixA4, ixB4, leLN4, leNL4, ltLN4, ltNL4, eqNL4, eqLN4, vpL5, clL5, ixA5, ixB5, leLN5, leNL5, ltLN5, ltNL5, eqNL5, eqLN5, vpL6, clL6, ixA6, ixB6, leLN6, leNL6, ltLN6, ltNL6, eqNL6, eqLN6, vpL7, clL7, ixA7, ixB7, leLN7, leNL7, ltLN7, ltNL7, eqNL7, eqLN7, vpL8, clL8, ixA8, ixB8, leLN8, leNL8, ltLN8, ltNL8, eqNL8, eqLN8, vpL9, clL9, ixA9, ixB9, leLN9, leNL9, ltLN9, ltNL9, eqNL9, eqLN9, vpL10, clL10, ixA10, ixB10, leLN10, leNL10, ltLN10, ltNL10, eqNL10, eqLN10, vpL11, clL11, ixA11, ixB11, leLN11, leNL11, ltLN11, ltNL11, eqNL11, eqLN11, vpL12, clL12, ixA12, ixB12, leLN12, leNL12, ltLN12, ltNL12, eqNL12, eqLN12, vpL13, clL13, ixA13, ixB13, leLN13, leNL13, ltLN13, ltNL13, eqNL13, eqLN13, vpL14, clL14, ixA14, ixB14, leLN14, leNL14, ltLN14, ltNL14, eqNL14, eqLN14, vpL15, clL15, ixA15, ixB15, leLN15, leNL15, ltLN15, ltNL15, eqNL15, eqLN15, vpL23, clL23, ixA23, ixB23, leLN23, leNL23, ltLN23, ltNL23, eqNL23, eqLN23, vpL24, clL24, ixA24, ixB24, leLN24, leNL24, ltLN24, ltNL24, eqNL24, eqLN24, vpL29, clL29, ixA29, ixB29, leLN29, leNL29, ltLN29, ltNL29, eqNL29, eqLN29, vpL39, clL39, ixA39, ixB39, leLN39, leNL39, ltLN39, ltNL39, eqNL39, eqLN39, vpL48, clL48, ixA48, ixB48, leLN48, leNL48, ltLN48, ltNL48, eqNL48, eqLN48, vpL49, clL49, ixA49, ixB49, leLN49, leNL49, ltLN49, ltNL49, eqNL49, eqLN49, vpL50, clL50, ixA50, ixB50, leLN50, leNL50, ltLN50, ltNL50, eqNL50, eqLN50, vpL60, clL60, ixA60, ixB60, leLN60, leNL60, ltLN60, ltNL60, eqNL60, eqLN60, vpL102, clL102, ixA102, ixB102, leLN102, leNL102, ltLN102, ltNL102, eqNL102, eqLN102, vpL103, clL103, ixA103, ixB103, leLN103, leNL103, ltLN103, ltNL103, eqNL103, eqLN103, vpL104, clL104, ixA104, ixB104, leLN104, leNL104, ltLN104, ltNL104, eqNL104, eqLN104, vpL105, clL105, ixA105, ixB105, leLN105, leNL105, ltLN105, ltNL105, eqNL105, eqLN105, vpL106, clL106, ixA106, ixB106, leLN106, leNL106, ltLN106, ltNL106, eqNL106, eqLN106, vpL120, clL120, ixA120, ixB120, leLN120, leNL120, ltLN120, ltNL120, eqNL120, eqLN120, vpL126, clL126, ixA126, ixB126, leLN126, leNL126, ltLN126, ltNL126, eqNL126, eqLN126, vpL127, clL127, ixA127, ixB127, leLN127, leNL127, ltLN127, ltNL127, eqNL127, eqLN127, vpL889, clL889, ixA889, ixB889, leLN889, leNL889, ltLN889, ltNL889, eqNL889, eqLN889, vpL1000000, clL1000000, ixA1000000, ixB1000000, leLN1000000, leNL1000000, ltLN1000000, ltNL1000000, eqNL1000000, eqLN1000000, Nat.reduceDiv, Nat.reduceMod, Nat.reduceEqDiff, Nat.reduceLT, Nat.reduceLeDiff, Nat.reduceAdd, Nat.reduceMul, Nat.reduceSub, true_and, and_true, if_true, if_false, false_and, and_false, ne_eq, not_true_eq_false, not_false_eq_true, forall_eq, and_self, true_or, or_true, false_or, or_false]
  repeat refine ⟨by omega, ?_⟩
  refine ⟨fun q => ?_, fun q => ?_⟩
  · have e : pos01 (S.1 1 (39 + 3 * a + 1)) = 0 := by rw [pos01, if_pos q]
    rw [e] at k38
    exact k38
  · have e : pos01 (S.1 1 (39 + 3 * a + 1)) = 1 := by rw [pos01, if_neg q]
    rw [e] at k38
    exact k38
end M14
