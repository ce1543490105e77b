/-! ===== the model's methods: the small ones ===== -/
set_option maxRecDepth 100000
section M1
variable {g : PG} {d m : Nat} {S : MSt} {h : PH} {Q : Out → PH → Prop}
theorem k_in {v lo hi : Int32} (k : Q (.inl (some (.int (if lo ≤ v ∧ v ≤ hi then 1 else 0)))) h) : C g (d + 1) m_X4_in [.int v, .int lo, .int hi] h Q := by
  refine c_X4_in_0 ⟨fun q => ?_, fun q => ⟨fun q2 => ?_, fun q2 => ?_⟩⟩
  · rwa [if_neg (fun z => Int32.not_le.mpr q z.1)] at k
  · rwa [if_neg (fun z => Int32.not_le.mpr q2 z.2)] at k
  · rwa [if_pos ⟨Int32.not_lt.mp q, Int32.not_lt.mp q2⟩] at k
theorem k_of {s w : Nat} (B : MB m h) (hb : 48 + 6 * s + w < 127) (k : Q (.inl (some (.int (S.1 1 (48 + 6 * s + w))))) (mst m S h)) : C g (d + 1) m_X4_of [.ref m, .int (nI s), .int (nI w)] (mst m S h) Q := by
  refine c_X4_of_0 ?_
  simp (disch := omega) only [w_X4_of_0, nI_add, hnx_mst, hw_mst, hkd_mst, hln_mst, hF_mst, hA_mst, setF_mst, setA_mst, setG_mst, sArr_get, sArr_ne, sArr_f, sArr_w, sF_get, sF_ne, sF_a, sF_w, sArr_sArr, sF_sArr, sF_sF, B.kd, B.g1, B.g2, B.g3, B.g4, B.g5, B.g6, B.g7, B.g8, B.g9, B.k1, B.k2, B.k3, B.k4, B.k5, B.k6, B.k7, B.k8, B.k9, B.l1, B.l2, B.l3, B.l4, B.l5, B.l6, B.l7, B.l8, B.l9, MB.gw, ixP, ixT, ixM, ixA, vp_iff, clp, clpl, Nat.reduceDiv, Nat.reduceMod, Nat.reduceEqDiff, Nat.reduceLT, Nat.reduceLeDiff, Nat.reduceAdd, Nat.reduceMul, Nat.reduceSub, true_and, and_true, if_true, if_false, false_and, and_false, ne_eq, not_true_eq_false, not_false_eq_true, forall_eq, and_self, true_or, or_true, false_or, or_false]
  exact ⟨hb, k⟩
theorem k_sets {s w : Nat} {v : Int32} (B : MB m h) (hb : 48 + 6 * s + w < 127) (k : Q (.inl none) (mst m (sArr 1 (updA (S.1 1) (48 + 6 * s + w) v) S) h)) : C g (d + 1) m_X4_sets [.ref m, .int (nI s), .int (nI w), .int v] (mst m S h) Q := by
  refine c_X4_sets_0 ?_
  simp (disch := omega) only [w_X4_sets_0, nI_add, hnx_mst, hw_mst, hkd_mst, hln_mst, hF_mst, hA_mst, setF_mst, setA_mst, setG_mst, sArr_get, sArr_ne, sArr_f, sArr_w, sF_get, sF_ne, sF_a, sF_w, sArr_sArr, sF_sArr, sF_sF, B.kd, B.g1, B.g2, B.g3, B.g4, B.g5, B.g6, B.g7, B.g8, B.g9, B.k1, B.k2, B.k3, B.k4, B.k5, B.k6, B.k7, B.k8, B.k9, B.l1, B.l2, B.l3, B.l4, B.l5, B.l6, B.l7, B.l8, B.l9, MB.gw, ixP, ixT, ixM, ixA, vp_iff, clp, clpl, Nat.reduceDiv, Nat.reduceMod, Nat.reduceEqDiff, Nat.reduceLT, Nat.reduceLeDiff, Nat.reduceAdd, Nat.reduceMul, Nat.reduceSub, true_and, and_true, if_true, if_false, false_and, and_false, ne_eq, not_true_eq_false, not_false_eq_true, forall_eq, and_self, true_or, or_true, false_or, or_false]
  exact ⟨hb, k⟩
theorem k_hat {t : Nat} (B : MB m h) (hb : t < 3) (k : Q (.inl (some (.int (S.1 1 (39 + 3 * t))))) (mst m S h)) : C g (d + 1) m_X4_hat [.ref m, .int (nI t)] (mst m S h) Q := by
  refine c_X4_hat_0 ?_
  simp (disch := omega) only [w_X4_hat_0, hnx_mst, hw_mst, hkd_mst, hln_mst, hF_mst, hA_mst, setF_mst, setA_mst, setG_mst, sArr_get, sArr_ne, sArr_f, sArr_w, sF_get, sF_ne, sF_a, sF_w, sArr_sArr, sF_sArr, sF_sF, B.kd, B.g1, B.g2, B.g3, B.g4, B.g5, B.g6, B.g7, B.g8, B.g9, B.k1, B.k2, B.k3, B.k4, B.k5, B.k6, B.k7, B.k8, B.k9, B.l1, B.l2, B.l3, B.l4, B.l5, B.l6, B.l7, B.l8, B.l9, MB.gw, ixP, ixT, ixM, ixA, vp_iff, clp, clpl, Nat.reduceDiv, Nat.reduceMod, Nat.reduceEqDiff, Nat.reduceLT, Nat.reduceLeDiff, Nat.reduceAdd, Nat.reduceMul, Nat.reduceSub, true_and, and_true, if_true, if_false, false_and, and_false, ne_eq, not_true_eq_false, not_false_eq_true, forall_eq, and_self, true_or, or_true, false_or, or_false]
  exact ⟨by omega, k⟩
end M1
