/-! ===== THE MODEL OBJECT: its state in a heap ===== -/
set_option maxRecDepth 100000
/-- the model's arrays by number (1 now, 2 tried, 3 thought, 4 kept, 5 saved, 6 line, 7 text, 8 told, 9 why), its int fields by their global number, its word -/
abbrev MSt : Type := (Nat → Nat → Int32) × (Nat → Int32) × Nat
/-- the heap h with state S of the model object m laid over it -/
def mst (m : Nat) (S : MSt) (h : PH) : PH := (h.1, h.2.1, h.2.2.1, (fun f x => if x = m then S.2.1 f else hF h f x), (fun f x => if x = m ∧ f = 528 then S.2.2 else hG h f x), (fun x i => if m < x ∧ x ≤ m + 9 then S.1 (x - m) i else hA h x i), hB h, hL h, hD h)
def updA (F : Nat → Int32) (i : Nat) (v : Int32) : Nat → Int32 := fun j => if j = i then v else F j
def sArr (k : Nat) (F : Nat → Int32) (S : MSt) : MSt := ((fun j => if j = k then F else S.1 j), S.2)
def sF (f : Nat) (v : Int32) (S : MSt) : MSt := (S.1, (fun j => if j = f then v else S.2.1 j), S.2.2)
def sW (r : Nat) (S : MSt) : MSt := (S.1, S.2.1, r)
theorem hnx_mst (m : Nat) (S : MSt) (h : PH) : hnx (mst m S h) = hnx h := rfl
theorem hw_mst (m : Nat) (S : MSt) (h : PH) : hw (mst m S h) = hw h := rfl
theorem hkd_mst (m : Nat) (S : MSt) (h : PH) (x : Nat) : hkd (mst m S h) x = hkd h x := rfl
theorem hln_mst (m : Nat) (S : MSt) (h : PH) (x : Nat) : hln (mst m S h) x = hln h x := rfl
theorem hF_mst (m : Nat) (S : MSt) (h : PH) (f : Nat) : hF (mst m S h) f m = S.2.1 f := by
  show (if m = m then _ else _) = _
  rw [if_pos rfl]
theorem hG_mst (m : Nat) (S : MSt) (h : PH) (f x : Nat) : hG (mst m S h) f x = if x = m ∧ f = 528 then S.2.2 else hG h f x := rfl
theorem hA_mst (m : Nat) (S : MSt) (h : PH) (k i : Nat) (hk : 0 < k) (hk9 : k ≤ 9) : hA (mst m S h) (m + k) i = S.1 k i := by
  show (if m < m + k ∧ m + k ≤ m + 9 then _ else _) = _
  rw [if_pos (by omega), Nat.add_sub_cancel_left]
theorem ph_eq {a1 : Nat × Nat} {a2 a3 : Nat → Nat} {a4 b4 : Nat → Nat → Int32} {a5 b5 : Nat → Nat → Nat} {a6 b6 : Nat → Nat → Int32} {a7 : Nat → Nat → Nat} {a8 : Nat → Nat → Int64} {a9 : Nat → Nat → UInt64} (h4 : a4 = b4) (h5 : a5 = b5) (h6 : a6 = b6) : ((a1, a2, a3, a4, a5, a6, a7, a8, a9) : PH) = (a1, a2, a3, b4, b5, b6, a7, a8, a9) := by
  subst h4; subst h5; subst h6; rfl
theorem setF_mst (m : Nat) (S : MSt) (h : PH) (f : Nat) (v : Int32) : setF f m v (mst m S h) = mst m (sF f v S) h := by
  refine ph_eq ?_ rfl rfl
  funext y x
  show (if y = f ∧ x = m then v else if x = m then S.2.1 y else hF h y x) = if x = m then (if y = f then v else S.2.1 y) else hF h y x
  by_cases h1 : x = m <;> by_cases h2 : y = f <;> simp [h1, h2]
theorem setG_mst (m : Nat) (S : MSt) (h : PH) (r : Nat) : setG 528 m r (mst m S h) = mst m (sW r S) h := by
  refine ph_eq rfl ?_ rfl
  funext y x
  show (if y = 528 ∧ x = m then r else if x = m ∧ y = 528 then S.2.2 else hG h y x) = if x = m ∧ y = 528 then r else hG h y x
  by_cases h1 : x = m <;> by_cases h2 : y = 528 <;> simp [h1, h2]
theorem setA_mst (m : Nat) (S : MSt) (h : PH) (k i : Nat) (v : Int32) (hk : 0 < k) (hk9 : k ≤ 9) : setA (m + k) i v (mst m S h) = mst m (sArr k (updA (S.1 k) i v) S) h := by
  refine ph_eq rfl rfl ?_
  funext x y
  show (if x = m + k ∧ y = i then v else if m < x ∧ x ≤ m + 9 then S.1 (x - m) y else hA h x y) = if m < x ∧ x ≤ m + 9 then (if x - m = k then updA (S.1 k) i v else S.1 (x - m)) y else hA h x y
  unfold updA
  by_cases h1 : x = m + k
  · subst h1
    have h0 : m < m + k ∧ m + k ≤ m + 9 := by omega
    by_cases h2 : y = i <;> simp [h0, h2, Nat.add_sub_cancel_left]
  · by_cases h3 : m < x ∧ x ≤ m + 9
    · have h4 : ¬ x - m = k := by omega
      simp [h1, h3, h4]
    · simp [h1, h3]
theorem sArr_get (k : Nat) (F : Nat → Int32) (S : MSt) : (sArr k F S).1 k = F := by
  show (if k = k then F else _) = F
  rw [if_pos rfl]
theorem sArr_ne (k j : Nat) (F : Nat → Int32) (S : MSt) (hj : ¬ j = k) : (sArr k F S).1 j = S.1 j := by
  show (if j = k then F else _) = _
  rw [if_neg hj]
theorem sArr_f (k : Nat) (F : Nat → Int32) (S : MSt) (f : Nat) : (sArr k F S).2.1 f = S.2.1 f := rfl
theorem sArr_w (k : Nat) (F : Nat → Int32) (S : MSt) : (sArr k F S).2.2 = S.2.2 := rfl
theorem sF_get (f : Nat) (v : Int32) (S : MSt) : (sF f v S).2.1 f = v := by
  show (if f = f then v else _) = v
  rw [if_pos rfl]
theorem sF_ne (f j : Nat) (v : Int32) (S : MSt) (hj : ¬ j = f) : (sF f v S).2.1 j = S.2.1 j := by
  show (if j = f then v else _) = _
  rw [if_neg hj]
theorem sF_a (f : Nat) (v : Int32) (S : MSt) (k : Nat) : (sF f v S).1 k = S.1 k := rfl
theorem sF_w (f : Nat) (v : Int32) (S : MSt) : (sF f v S).2.2 = S.2.2 := rfl
theorem sW_a (r : Nat) (S : MSt) (k : Nat) : (sW r S).1 k = S.1 k := rfl
theorem sW_f (r : Nat) (S : MSt) (f : Nat) : (sW r S).2.1 f = S.2.1 f := rfl
theorem sW_w (r : Nat) (S : MSt) : (sW r S).2.2 = r := rfl
theorem updA_get (F : Nat → Int32) (i : Nat) (v : Int32) : updA F i v i = v := by
  show (if i = i then v else _) = v
  rw [if_pos rfl]
theorem updA_ne (F : Nat → Int32) (i j : Nat) (v : Int32) (hj : ¬ j = i) : updA F i v j = F j := by
  show (if j = i then v else _) = _
  rw [if_neg hj]
theorem sArr_sArr (k : Nat) (F G : Nat → Int32) (S : MSt) : sArr k F (sArr k G S) = sArr k F S := by
  unfold sArr
  simp only [Prod.mk.injEq, and_true]
  funext j
  by_cases h : j = k <;> simp [h]
theorem sArr_self (k : Nat) (S : MSt) : sArr k (S.1 k) S = S := by
  obtain ⟨a, b⟩ := S
  unfold sArr
  simp only [Prod.mk.injEq, and_true]
  funext j
  by_cases h : j = k <;> simp [h]
theorem sF_sArr (f k : Nat) (v : Int32) (F : Nat → Int32) (S : MSt) : sF f v (sArr k F S) = sArr k F (sF f v S) := rfl
theorem sW_sArr (r k : Nat) (F : Nat → Int32) (S : MSt) : sW r (sArr k F S) = sArr k F (sW r S) := rfl
theorem sF_sF (f : Nat) (v w : Int32) (S : MSt) : sF f v (sF f w S) = sF f v S := by
  unfold sF
  simp only [Prod.mk.injEq, and_true, true_and]
  funext j
  by_cases h : j = f <;> simp [h]
/-- what of the heap under the model object doesn't change -/
def MB (m : Nat) (h : PH) : Prop := hkd h m = 12 ∧
  (hG h 521 m = m + 1 ∧ hkd h (m + 1) = 100 ∧ hln h (m + 1) = 127) ∧ (hG h 522 m = m + 2 ∧ hkd h (m + 2) = 100 ∧ hln h (m + 2) = 127) ∧ (hG h 523 m = m + 3 ∧ hkd h (m + 3) = 100 ∧ hln h (m + 3) = 127) ∧
  (hG h 524 m = m + 4 ∧ hkd h (m + 4) = 100 ∧ hln h (m + 4) = 1016) ∧ (hG h 525 m = m + 5 ∧ hkd h (m + 5) = 100 ∧ hln h (m + 5) = 127) ∧ (hG h 526 m = m + 6 ∧ hkd h (m + 6) = 200 ∧ hln h (m + 6) = 120) ∧
  (hG h 527 m = m + 7 ∧ hkd h (m + 7) = 200 ∧ hln h (m + 7) = 50) ∧ (hG h 529 m = m + 8 ∧ hkd h (m + 8) = 100 ∧ hln h (m + 8) = 3) ∧ (hG h 530 m = m + 9 ∧ hkd h (m + 9) = 100 ∧ hln h (m + 9) = 6)
theorem MB.kd {m : Nat} {h : PH} (B : MB m h) : hkd h m = 12 := B.1
theorem MB.g1 {m : Nat} {h : PH} (B : MB m h) (S : MSt) : hG (mst m S h) 521 m = m + 1 := by rw [hG_mst, if_neg (by omega)]; exact B.2.1.1
theorem MB.g2 {m : Nat} {h : PH} (B : MB m h) (S : MSt) : hG (mst m S h) 522 m = m + 2 := by rw [hG_mst, if_neg (by omega)]; exact B.2.2.1.1
theorem MB.g3 {m : Nat} {h : PH} (B : MB m h) (S : MSt) : hG (mst m S h) 523 m = m + 3 := by rw [hG_mst, if_neg (by omega)]; exact B.2.2.2.1.1
theorem MB.g4 {m : Nat} {h : PH} (B : MB m h) (S : MSt) : hG (mst m S h) 524 m = m + 4 := by rw [hG_mst, if_neg (by omega)]; exact B.2.2.2.2.1.1
theorem MB.g5 {m : Nat} {h : PH} (B : MB m h) (S : MSt) : hG (mst m S h) 525 m = m + 5 := by rw [hG_mst, if_neg (by omega)]; exact B.2.2.2.2.2.1.1
theorem MB.g6 {m : Nat} {h : PH} (B : MB m h) (S : MSt) : hG (mst m S h) 526 m = m + 6 := by rw [hG_mst, if_neg (by omega)]; exact B.2.2.2.2.2.2.1.1
theorem MB.g7 {m : Nat} {h : PH} (B : MB m h) (S : MSt) : hG (mst m S h) 527 m = m + 7 := by rw [hG_mst, if_neg (by omega)]; exact B.2.2.2.2.2.2.2.1.1
theorem MB.g8 {m : Nat} {h : PH} (B : MB m h) (S : MSt) : hG (mst m S h) 529 m = m + 8 := by rw [hG_mst, if_neg (by omega)]; exact B.2.2.2.2.2.2.2.2.1.1
theorem MB.g9 {m : Nat} {h : PH} (B : MB m h) (S : MSt) : hG (mst m S h) 530 m = m + 9 := by rw [hG_mst, if_neg (by omega)]; exact B.2.2.2.2.2.2.2.2.2.1
theorem MB.gw {m : Nat} {h : PH} (S : MSt) : hG (mst m S h) 528 m = S.2.2 := by rw [hG_mst, if_pos ⟨rfl, rfl⟩]
theorem MB.k1 {m : Nat} {h : PH} (B : MB m h) : hkd h (m + 1) = 100 := B.2.1.2.1
theorem MB.k2 {m : Nat} {h : PH} (B : MB m h) : hkd h (m + 2) = 100 := B.2.2.1.2.1
theorem MB.k3 {m : Nat} {h : PH} (B : MB m h) : hkd h (m + 3) = 100 := B.2.2.2.1.2.1
theorem MB.k4 {m : Nat} {h : PH} (B : MB m h) : hkd h (m + 4) = 100 := B.2.2.2.2.1.2.1
theorem MB.k5 {m : Nat} {h : PH} (B : MB m h) : hkd h (m + 5) = 100 := B.2.2.2.2.2.1.2.1
theorem MB.k6 {m : Nat} {h : PH} (B : MB m h) : hkd h (m + 6) = 200 := B.2.2.2.2.2.2.1.2.1
theorem MB.k7 {m : Nat} {h : PH} (B : MB m h) : hkd h (m + 7) = 200 := B.2.2.2.2.2.2.2.1.2.1
theorem MB.k8 {m : Nat} {h : PH} (B : MB m h) : hkd h (m + 8) = 100 := B.2.2.2.2.2.2.2.2.1.2.1
theorem MB.k9 {m : Nat} {h : PH} (B : MB m h) : hkd h (m + 9) = 100 := B.2.2.2.2.2.2.2.2.2.2.1
theorem MB.l1 {m : Nat} {h : PH} (B : MB m h) : hln h (m + 1) = 127 := B.2.1.2.2
theorem MB.l2 {m : Nat} {h : PH} (B : MB m h) : hln h (m + 2) = 127 := B.2.2.1.2.2
theorem MB.l3 {m : Nat} {h : PH} (B : MB m h) : hln h (m + 3) = 127 := B.2.2.2.1.2.2
theorem MB.l4 {m : Nat} {h : PH} (B : MB m h) : hln h (m + 4) = 1016 := B.2.2.2.2.1.2.2
theorem MB.l5 {m : Nat} {h : PH} (B : MB m h) : hln h (m + 5) = 127 := B.2.2.2.2.2.1.2.2
theorem MB.l6 {m : Nat} {h : PH} (B : MB m h) : hln h (m + 6) = 120 := B.2.2.2.2.2.2.1.2.2
theorem MB.l7 {m : Nat} {h : PH} (B : MB m h) : hln h (m + 7) = 50 := B.2.2.2.2.2.2.2.1.2.2
theorem MB.l8 {m : Nat} {h : PH} (B : MB m h) : hln h (m + 8) = 3 := B.2.2.2.2.2.2.2.2.1.2.2
theorem MB.l9 {m : Nat} {h : PH} (B : MB m h) : hln h (m + 9) = 6 := B.2.2.2.2.2.2.2.2.2.2.2
theorem nI_lit (n : Nat) : (OfNat.ofNat n : Int32) = nI n := rfl
theorem nI_mul (a b : Nat) : nI a * nI b = nI (a * b) := (Int32.ofNat_mul a b).symm
theorem ixP (p : Nat) : (3 : Int32) + (3 : Int32) * nI p = nI (3 + 3 * p) := by rw [nI_lit 3, nI_mul, nI_add]
theorem ixT (t : Nat) : (39 : Int32) + (3 : Int32) * nI t = nI (39 + 3 * t) := by rw [nI_lit 39, nI_lit 3, nI_mul, nI_add]
theorem ixM (s : Nat) : (48 : Int32) + (6 : Int32) * nI s = nI (48 + 6 * s) := by rw [nI_lit 48, nI_lit 6, nI_mul, nI_add]
theorem ixA (a n : Nat) : nI a + (OfNat.ofNat n : Int32) = nI (a + n) := by rw [nI_lit n, nI_add]
theorem vp_nI {a n : Nat} (h : a < n) (hn : n ≤ 2147483647) : vp_in (nI a) n := nI_in h (by omega)
theorem vp_iff {a n : Nat} (ha : a < 2147483648) : vp_in (nI a) n ↔ a < n := by
  unfold vp_in
  rw [nI_clamp (by omega)]
  have := nI_pos (n := a) (by omega)
  constructor
  · intro h
    exact Nat.not_le.mp (fun q => h (Or.inr q))
  · intro h q
    rcases q with q | q
    · exact this q
    · omega
theorem clp {n : Nat} (h : n < 2147483648) : (nI n).toNatClampNeg = n := nI_clamp (by omega)
theorem clpl (n : Nat) (h : n < 2147483648) : (OfNat.ofNat n : Int32).toNatClampNeg = n := clp h
theorem leLN {n k : Nat} (hn : n < 2147483648) (hk : k < 2147483648) : ((OfNat.ofNat n : Int32) ≤ nI k) ↔ n ≤ k := nI_leI (by omega) (by omega)
theorem leNL {n k : Nat} (hn : n < 2147483648) (hk : k < 2147483648) : (nI k ≤ (OfNat.ofNat n : Int32)) ↔ k ≤ n := nI_leI (by omega) (by omega)
theorem ltLN {n k : Nat} (hn : n < 2147483648) (hk : k < 2147483648) : ((OfNat.ofNat n : Int32) < nI k) ↔ n < k := nI_ltI (by omega) (by omega)
theorem ltNL {n k : Nat} (hn : n < 2147483648) (hk : k < 2147483648) : (nI k < (OfNat.ofNat n : Int32)) ↔ k < n := nI_ltI (by omega) (by omega)
theorem eqNL {n k : Nat} (hn : n < 2147483648) (hk : k < 2147483648) : (nI k = (OfNat.ofNat n : Int32)) ↔ k = n := nI_eq (by omega) (by omega)
theorem leNN {n k : Nat} (hn : n < 2147483648) (hk : k < 2147483648) : (nI n ≤ nI k) ↔ n ≤ k := nI_leI (by omega) (by omega)
theorem ltNN {n k : Nat} (hn : n < 2147483648) (hk : k < 2147483648) : (nI n < nI k) ↔ n < k := nI_ltI (by omega) (by omega)
theorem eqNN {n k : Nat} (hn : n < 2147483648) (hk : k < 2147483648) : (nI n = nI k) ↔ n = k := nI_eq (by omega) (by omega)
theorem vpL0 {L : Nat} : vp_in (0 : Int32) L ↔ 0 < L := vp_iff (a := 0) (by omega)
theorem clL0 : (0 : Int32).toNatClampNeg = 0 := clp (n := 0) (by omega)
theorem ixA0 (a : Nat) : nI a + (0 : Int32) = nI (a + 0) := ixA a 0
theorem ixB0 (a : Nat) : (0 : Int32) + nI a = nI (0 + a) := nI_add 0 a
theorem leLN0 {k : Nat} (hk : k < 2147483648) : ((0 : Int32) ≤ nI k) ↔ 0 ≤ k := leLN (n := 0) (by omega) hk
theorem leNL0 {k : Nat} (hk : k < 2147483648) : (nI k ≤ (0 : Int32)) ↔ k ≤ 0 := leNL (n := 0) (by omega) hk
theorem ltLN0 {k : Nat} (hk : k < 2147483648) : ((0 : Int32) < nI k) ↔ 0 < k := ltLN (n := 0) (by omega) hk
theorem ltNL0 {k : Nat} (hk : k < 2147483648) : (nI k < (0 : Int32)) ↔ k < 0 := ltNL (n := 0) (by omega) hk
theorem eqNL0 {k : Nat} (hk : k < 2147483648) : (nI k = (0 : Int32)) ↔ k = 0 := eqNL (n := 0) (by omega) hk
theorem eqLN0 {k : Nat} (hk : k < 2147483648) : ((0 : Int32) = nI k) ↔ 0 = k := ⟨fun h => ((eqNL (n := 0) (by omega) hk).mp h.symm).symm, fun h => ((eqNL (n := 0) (by omega) hk).mpr h.symm).symm⟩
theorem vpL1 {L : Nat} : vp_in (1 : Int32) L ↔ 1 < L := vp_iff (a := 1) (by omega)
theorem clL1 : (1 : Int32).toNatClampNeg = 1 := clp (n := 1) (by omega)
theorem ixA1 (a : Nat) : nI a + (1 : Int32) = nI (a + 1) := ixA a 1
theorem ixB1 (a : Nat) : (1 : Int32) + nI a = nI (1 + a) := nI_add 1 a
theorem leLN1 {k : Nat} (hk : k < 2147483648) : ((1 : Int32) ≤ nI k) ↔ 1 ≤ k := leLN (n := 1) (by omega) hk
theorem leNL1 {k : Nat} (hk : k < 2147483648) : (nI k ≤ (1 : Int32)) ↔ k ≤ 1 := leNL (n := 1) (by omega) hk
theorem ltLN1 {k : Nat} (hk : k < 2147483648) : ((1 : Int32) < nI k) ↔ 1 < k := ltLN (n := 1) (by omega) hk
theorem ltNL1 {k : Nat} (hk : k < 2147483648) : (nI k < (1 : Int32)) ↔ k < 1 := ltNL (n := 1) (by omega) hk
theorem eqNL1 {k : Nat} (hk : k < 2147483648) : (nI k = (1 : Int32)) ↔ k = 1 := eqNL (n := 1) (by omega) hk
theorem eqLN1 {k : Nat} (hk : k < 2147483648) : ((1 : Int32) = nI k) ↔ 1 = k := ⟨fun h => ((eqNL (n := 1) (by omega) hk).mp h.symm).symm, fun h => ((eqNL (n := 1) (by omega) hk).mpr h.symm).symm⟩
theorem vpL2 {L : Nat} : vp_in (2 : Int32) L ↔ 2 < L := vp_iff (a := 2) (by omega)
theorem clL2 : (2 : Int32).toNatClampNeg = 2 := clp (n := 2) (by omega)
theorem ixA2 (a : Nat) : nI a + (2 : Int32) = nI (a + 2) := ixA a 2
theorem ixB2 (a : Nat) : (2 : Int32) + nI a = nI (2 + a) := nI_add 2 a
theorem leLN2 {k : Nat} (hk : k < 2147483648) : ((2 : Int32) ≤ nI k) ↔ 2 ≤ k := leLN (n := 2) (by omega) hk
theorem leNL2 {k : Nat} (hk : k < 2147483648) : (nI k ≤ (2 : Int32)) ↔ k ≤ 2 := leNL (n := 2) (by omega) hk
theorem ltLN2 {k : Nat} (hk : k < 2147483648) : ((2 : Int32) < nI k) ↔ 2 < k := ltLN (n := 2) (by omega) hk
theorem ltNL2 {k : Nat} (hk : k < 2147483648) : (nI k < (2 : Int32)) ↔ k < 2 := ltNL (n := 2) (by omega) hk
theorem eqNL2 {k : Nat} (hk : k < 2147483648) : (nI k = (2 : Int32)) ↔ k = 2 := eqNL (n := 2) (by omega) hk
theorem eqLN2 {k : Nat} (hk : k < 2147483648) : ((2 : Int32) = nI k) ↔ 2 = k := ⟨fun h => ((eqNL (n := 2) (by omega) hk).mp h.symm).symm, fun h => ((eqNL (n := 2) (by omega) hk).mpr h.symm).symm⟩
theorem vpL3 {L : Nat} : vp_in (3 : Int32) L ↔ 3 < L := vp_iff (a := 3) (by omega)
theorem clL3 : (3 : Int32).toNatClampNeg = 3 := clp (n := 3) (by omega)
theorem ixA3 (a : Nat) : nI a + (3 : Int32) = nI (a + 3) := ixA a 3
theorem ixB3 (a : Nat) : (3 : Int32) + nI a = nI (3 + a) := nI_add 3 a
theorem leLN3 {k : Nat} (hk : k < 2147483648) : ((3 : Int32) ≤ nI k) ↔ 3 ≤ k := leLN (n := 3) (by omega) hk
theorem leNL3 {k : Nat} (hk : k < 2147483648) : (nI k ≤ (3 : Int32)) ↔ k ≤ 3 := leNL (n := 3) (by omega) hk
theorem ltLN3 {k : Nat} (hk : k < 2147483648) : ((3 : Int32) < nI k) ↔ 3 < k := ltLN (n := 3) (by omega) hk
theorem ltNL3 {k : Nat} (hk : k < 2147483648) : (nI k < (3 : Int32)) ↔ k < 3 := ltNL (n := 3) (by omega) hk
theorem eqNL3 {k : Nat} (hk : k < 2147483648) : (nI k = (3 : Int32)) ↔ k = 3 := eqNL (n := 3) (by omega) hk
theorem eqLN3 {k : Nat} (hk : k < 2147483648) : ((3 : Int32) = nI k) ↔ 3 = k := ⟨fun h => ((eqNL (n := 3) (by omega) hk).mp h.symm).symm, fun h => ((eqNL (n := 3) (by omega) hk).mpr h.symm).symm⟩
theorem vpL4 {L : Nat} : vp_in (4 : Int32) L ↔ 4 < L := vp_iff (a := 4) (by omega)
theorem clL4 : (4 : Int32).toNatClampNeg = 4 := clp (n := 4) (by omega)
theorem ixA4 (a : Nat) : nI a + (4 : Int32) = nI (a + 4) := ixA a 4
theorem ixB4 (a : Nat) : (4 : Int32) + nI a = nI (4 + a) := nI_add 4 a
theorem leLN4 {k : Nat} (hk : k < 2147483648) : ((4 : Int32) ≤ nI k) ↔ 4 ≤ k := leLN (n := 4) (by omega) hk
theorem leNL4 {k : Nat} (hk : k < 2147483648) : (nI k ≤ (4 : Int32)) ↔ k ≤ 4 := leNL (n := 4) (by omega) hk
theorem ltLN4 {k : Nat} (hk : k < 2147483648) : ((4 : Int32) < nI k) ↔ 4 < k := ltLN (n := 4) (by omega) hk
theorem ltNL4 {k : Nat} (hk : k < 2147483648) : (nI k < (4 : Int32)) ↔ k < 4 := ltNL (n := 4) (by omega) hk
theorem eqNL4 {k : Nat} (hk : k < 2147483648) : (nI k = (4 : Int32)) ↔ k = 4 := eqNL (n := 4) (by omega) hk
theorem eqLN4 {k : Nat} (hk : k < 2147483648) : ((4 : Int32) = nI k) ↔ 4 = k := ⟨fun h => ((eqNL (n := 4) (by omega) hk).mp h.symm).symm, fun h => ((eqNL (n := 4) (by omega) hk).mpr h.symm).symm⟩
theorem vpL5 {L : Nat} : vp_in (5 : Int32) L ↔ 5 < L := vp_iff (a := 5) (by omega)
theorem clL5 : (5 : Int32).toNatClampNeg = 5 := clp (n := 5) (by omega)
theorem ixA5 (a : Nat) : nI a + (5 : Int32) = nI (a + 5) := ixA a 5
theorem ixB5 (a : Nat) : (5 : Int32) + nI a = nI (5 + a) := nI_add 5 a
theorem leLN5 {k : Nat} (hk : k < 2147483648) : ((5 : Int32) ≤ nI k) ↔ 5 ≤ k := leLN (n := 5) (by omega) hk
theorem leNL5 {k : Nat} (hk : k < 2147483648) : (nI k ≤ (5 : Int32)) ↔ k ≤ 5 := leNL (n := 5) (by omega) hk
theorem ltLN5 {k : Nat} (hk : k < 2147483648) : ((5 : Int32) < nI k) ↔ 5 < k := ltLN (n := 5) (by omega) hk
theorem ltNL5 {k : Nat} (hk : k < 2147483648) : (nI k < (5 : Int32)) ↔ k < 5 := ltNL (n := 5) (by omega) hk
theorem eqNL5 {k : Nat} (hk : k < 2147483648) : (nI k = (5 : Int32)) ↔ k = 5 := eqNL (n := 5) (by omega) hk
theorem eqLN5 {k : Nat} (hk : k < 2147483648) : ((5 : Int32) = nI k) ↔ 5 = k := ⟨fun h => ((eqNL (n := 5) (by omega) hk).mp h.symm).symm, fun h => ((eqNL (n := 5) (by omega) hk).mpr h.symm).symm⟩
theorem vpL6 {L : Nat} : vp_in (6 : Int32) L ↔ 6 < L := vp_iff (a := 6) (by omega)
theorem clL6 : (6 : Int32).toNatClampNeg = 6 := clp (n := 6) (by omega)
theorem ixA6 (a : Nat) : nI a + (6 : Int32) = nI (a + 6) := ixA a 6
theorem ixB6 (a : Nat) : (6 : Int32) + nI a = nI (6 + a) := nI_add 6 a
theorem leLN6 {k : Nat} (hk : k < 2147483648) : ((6 : Int32) ≤ nI k) ↔ 6 ≤ k := leLN (n := 6) (by omega) hk
theorem leNL6 {k : Nat} (hk : k < 2147483648) : (nI k ≤ (6 : Int32)) ↔ k ≤ 6 := leNL (n := 6) (by omega) hk
theorem ltLN6 {k : Nat} (hk : k < 2147483648) : ((6 : Int32) < nI k) ↔ 6 < k := ltLN (n := 6) (by omega) hk
theorem ltNL6 {k : Nat} (hk : k < 2147483648) : (nI k < (6 : Int32)) ↔ k < 6 := ltNL (n := 6) (by omega) hk
theorem eqNL6 {k : Nat} (hk : k < 2147483648) : (nI k = (6 : Int32)) ↔ k = 6 := eqNL (n := 6) (by omega) hk
theorem eqLN6 {k : Nat} (hk : k < 2147483648) : ((6 : Int32) = nI k) ↔ 6 = k := ⟨fun h => ((eqNL (n := 6) (by omega) hk).mp h.symm).symm, fun h => ((eqNL (n := 6) (by omega) hk).mpr h.symm).symm⟩
theorem vpL7 {L : Nat} : vp_in (7 : Int32) L ↔ 7 < L := vp_iff (a := 7) (by omega)
theorem clL7 : (7 : Int32).toNatClampNeg = 7 := clp (n := 7) (by omega)
theorem ixA7 (a : Nat) : nI a + (7 : Int32) = nI (a + 7) := ixA a 7
theorem ixB7 (a : Nat) : (7 : Int32) + nI a = nI (7 + a) := nI_add 7 a
theorem leLN7 {k : Nat} (hk : k < 2147483648) : ((7 : Int32) ≤ nI k) ↔ 7 ≤ k := leLN (n := 7) (by omega) hk
theorem leNL7 {k : Nat} (hk : k < 2147483648) : (nI k ≤ (7 : Int32)) ↔ k ≤ 7 := leNL (n := 7) (by omega) hk
theorem ltLN7 {k : Nat} (hk : k < 2147483648) : ((7 : Int32) < nI k) ↔ 7 < k := ltLN (n := 7) (by omega) hk
theorem ltNL7 {k : Nat} (hk : k < 2147483648) : (nI k < (7 : Int32)) ↔ k < 7 := ltNL (n := 7) (by omega) hk
theorem eqNL7 {k : Nat} (hk : k < 2147483648) : (nI k = (7 : Int32)) ↔ k = 7 := eqNL (n := 7) (by omega) hk
theorem eqLN7 {k : Nat} (hk : k < 2147483648) : ((7 : Int32) = nI k) ↔ 7 = k := ⟨fun h => ((eqNL (n := 7) (by omega) hk).mp h.symm).symm, fun h => ((eqNL (n := 7) (by omega) hk).mpr h.symm).symm⟩
theorem vpL8 {L : Nat} : vp_in (8 : Int32) L ↔ 8 < L := vp_iff (a := 8) (by omega)
theorem clL8 : (8 : Int32).toNatClampNeg = 8 := clp (n := 8) (by omega)
theorem ixA8 (a : Nat) : nI a + (8 : Int32) = nI (a + 8) := ixA a 8
theorem ixB8 (a : Nat) : (8 : Int32) + nI a = nI (8 + a) := nI_add 8 a
theorem leLN8 {k : Nat} (hk : k < 2147483648) : ((8 : Int32) ≤ nI k) ↔ 8 ≤ k := leLN (n := 8) (by omega) hk
theorem leNL8 {k : Nat} (hk : k < 2147483648) : (nI k ≤ (8 : Int32)) ↔ k ≤ 8 := leNL (n := 8) (by omega) hk
theorem ltLN8 {k : Nat} (hk : k < 2147483648) : ((8 : Int32) < nI k) ↔ 8 < k := ltLN (n := 8) (by omega) hk
theorem ltNL8 {k : Nat} (hk : k < 2147483648) : (nI k < (8 : Int32)) ↔ k < 8 := ltNL (n := 8) (by omega) hk
theorem eqNL8 {k : Nat} (hk : k < 2147483648) : (nI k = (8 : Int32)) ↔ k = 8 := eqNL (n := 8) (by omega) hk
theorem eqLN8 {k : Nat} (hk : k < 2147483648) : ((8 : Int32) = nI k) ↔ 8 = k := ⟨fun h => ((eqNL (n := 8) (by omega) hk).mp h.symm).symm, fun h => ((eqNL (n := 8) (by omega) hk).mpr h.symm).symm⟩
theorem vpL9 {L : Nat} : vp_in (9 : Int32) L ↔ 9 < L := vp_iff (a := 9) (by omega)
theorem clL9 : (9 : Int32).toNatClampNeg = 9 := clp (n := 9) (by omega)
theorem ixA9 (a : Nat) : nI a + (9 : Int32) = nI (a + 9) := ixA a 9
theorem ixB9 (a : Nat) : (9 : Int32) + nI a = nI (9 + a) := nI_add 9 a
theorem leLN9 {k : Nat} (hk : k < 2147483648) : ((9 : Int32) ≤ nI k) ↔ 9 ≤ k := leLN (n := 9) (by omega) hk
theorem leNL9 {k : Nat} (hk : k < 2147483648) : (nI k ≤ (9 : Int32)) ↔ k ≤ 9 := leNL (n := 9) (by omega) hk
theorem ltLN9 {k : Nat} (hk : k < 2147483648) : ((9 : Int32) < nI k) ↔ 9 < k := ltLN (n := 9) (by omega) hk
theorem ltNL9 {k : Nat} (hk : k < 2147483648) : (nI k < (9 : Int32)) ↔ k < 9 := ltNL (n := 9) (by omega) hk
theorem eqNL9 {k : Nat} (hk : k < 2147483648) : (nI k = (9 : Int32)) ↔ k = 9 := eqNL (n := 9) (by omega) hk
theorem eqLN9 {k : Nat} (hk : k < 2147483648) : ((9 : Int32) = nI k) ↔ 9 = k := ⟨fun h => ((eqNL (n := 9) (by omega) hk).mp h.symm).symm, fun h => ((eqNL (n := 9) (by omega) hk).mpr h.symm).symm⟩
theorem vpL10 {L : Nat} : vp_in (10 : Int32) L ↔ 10 < L := vp_iff (a := 10) (by omega)
theorem clL10 : (10 : Int32).toNatClampNeg = 10 := clp (n := 10) (by omega)
theorem ixA10 (a : Nat) : nI a + (10 : Int32) = nI (a + 10) := ixA a 10
theorem ixB10 (a : Nat) : (10 : Int32) + nI a = nI (10 + a) := nI_add 10 a
theorem leLN10 {k : Nat} (hk : k < 2147483648) : ((10 : Int32) ≤ nI k) ↔ 10 ≤ k := leLN (n := 10) (by omega) hk
theorem leNL10 {k : Nat} (hk : k < 2147483648) : (nI k ≤ (10 : Int32)) ↔ k ≤ 10 := leNL (n := 10) (by omega) hk
theorem ltLN10 {k : Nat} (hk : k < 2147483648) : ((10 : Int32) < nI k) ↔ 10 < k := ltLN (n := 10) (by omega) hk
theorem ltNL10 {k : Nat} (hk : k < 2147483648) : (nI k < (10 : Int32)) ↔ k < 10 := ltNL (n := 10) (by omega) hk
theorem eqNL10 {k : Nat} (hk : k < 2147483648) : (nI k = (10 : Int32)) ↔ k = 10 := eqNL (n := 10) (by omega) hk
theorem eqLN10 {k : Nat} (hk : k < 2147483648) : ((10 : Int32) = nI k) ↔ 10 = k := ⟨fun h => ((eqNL (n := 10) (by omega) hk).mp h.symm).symm, fun h => ((eqNL (n := 10) (by omega) hk).mpr h.symm).symm⟩
theorem vpL11 {L : Nat} : vp_in (11 : Int32) L ↔ 11 < L := vp_iff (a := 11) (by omega)
theorem clL11 : (11 : Int32).toNatClampNeg = 11 := clp (n := 11) (by omega)
theorem ixA11 (a : Nat) : nI a + (11 : Int32) = nI (a + 11) := ixA a 11
theorem ixB11 (a : Nat) : (11 : Int32) + nI a = nI (11 + a) := nI_add 11 a
theorem leLN11 {k : Nat} (hk : k < 2147483648) : ((11 : Int32) ≤ nI k) ↔ 11 ≤ k := leLN (n := 11) (by omega) hk
theorem leNL11 {k : Nat} (hk : k < 2147483648) : (nI k ≤ (11 : Int32)) ↔ k ≤ 11 := leNL (n := 11) (by omega) hk
theorem ltLN11 {k : Nat} (hk : k < 2147483648) : ((11 : Int32) < nI k) ↔ 11 < k := ltLN (n := 11) (by omega) hk
theorem ltNL11 {k : Nat} (hk : k < 2147483648) : (nI k < (11 : Int32)) ↔ k < 11 := ltNL (n := 11) (by omega) hk
theorem eqNL11 {k : Nat} (hk : k < 2147483648) : (nI k = (11 : Int32)) ↔ k = 11 := eqNL (n := 11) (by omega) hk
theorem eqLN11 {k : Nat} (hk : k < 2147483648) : ((11 : Int32) = nI k) ↔ 11 = k := ⟨fun h => ((eqNL (n := 11) (by omega) hk).mp h.symm).symm, fun h => ((eqNL (n := 11) (by omega) hk).mpr h.symm).symm⟩
theorem vpL12 {L : Nat} : vp_in (12 : Int32) L ↔ 12 < L := vp_iff (a := 12) (by omega)
theorem clL12 : (12 : Int32).toNatClampNeg = 12 := clp (n := 12) (by omega)
theorem ixA12 (a : Nat) : nI a + (12 : Int32) = nI (a + 12) := ixA a 12
theorem ixB12 (a : Nat) : (12 : Int32) + nI a = nI (12 + a) := nI_add 12 a
theorem leLN12 {k : Nat} (hk : k < 2147483648) : ((12 : Int32) ≤ nI k) ↔ 12 ≤ k := leLN (n := 12) (by omega) hk
theorem leNL12 {k : Nat} (hk : k < 2147483648) : (nI k ≤ (12 : Int32)) ↔ k ≤ 12 := leNL (n := 12) (by omega) hk
theorem ltLN12 {k : Nat} (hk : k < 2147483648) : ((12 : Int32) < nI k) ↔ 12 < k := ltLN (n := 12) (by omega) hk
theorem ltNL12 {k : Nat} (hk : k < 2147483648) : (nI k < (12 : Int32)) ↔ k < 12 := ltNL (n := 12) (by omega) hk
theorem eqNL12 {k : Nat} (hk : k < 2147483648) : (nI k = (12 : Int32)) ↔ k = 12 := eqNL (n := 12) (by omega) hk
theorem eqLN12 {k : Nat} (hk : k < 2147483648) : ((12 : Int32) = nI k) ↔ 12 = k := ⟨fun h => ((eqNL (n := 12) (by omega) hk).mp h.symm).symm, fun h => ((eqNL (n := 12) (by omega) hk).mpr h.symm).symm⟩
theorem vpL13 {L : Nat} : vp_in (13 : Int32) L ↔ 13 < L := vp_iff (a := 13) (by omega)
theorem clL13 : (13 : Int32).toNatClampNeg = 13 := clp (n := 13) (by omega)
theorem ixA13 (a : Nat) : nI a + (13 : Int32) = nI (a + 13) := ixA a 13
theorem ixB13 (a : Nat) : (13 : Int32) + nI a = nI (13 + a) := nI_add 13 a
theorem leLN13 {k : Nat} (hk : k < 2147483648) : ((13 : Int32) ≤ nI k) ↔ 13 ≤ k := leLN (n := 13) (by omega) hk
theorem leNL13 {k : Nat} (hk : k < 2147483648) : (nI k ≤ (13 : Int32)) ↔ k ≤ 13 := leNL (n := 13) (by omega) hk
theorem ltLN13 {k : Nat} (hk : k < 2147483648) : ((13 : Int32) < nI k) ↔ 13 < k := ltLN (n := 13) (by omega) hk
theorem ltNL13 {k : Nat} (hk : k < 2147483648) : (nI k < (13 : Int32)) ↔ k < 13 := ltNL (n := 13) (by omega) hk
theorem eqNL13 {k : Nat} (hk : k < 2147483648) : (nI k = (13 : Int32)) ↔ k = 13 := eqNL (n := 13) (by omega) hk
theorem eqLN13 {k : Nat} (hk : k < 2147483648) : ((13 : Int32) = nI k) ↔ 13 = k := ⟨fun h => ((eqNL (n := 13) (by omega) hk).mp h.symm).symm, fun h => ((eqNL (n := 13) (by omega) hk).mpr h.symm).symm⟩
theorem vpL14 {L : Nat} : vp_in (14 : Int32) L ↔ 14 < L := vp_iff (a := 14) (by omega)
theorem clL14 : (14 : Int32).toNatClampNeg = 14 := clp (n := 14) (by omega)
theorem ixA14 (a : Nat) : nI a + (14 : Int32) = nI (a + 14) := ixA a 14
theorem ixB14 (a : Nat) : (14 : Int32) + nI a = nI (14 + a) := nI_add 14 a
theorem leLN14 {k : Nat} (hk : k < 2147483648) : ((14 : Int32) ≤ nI k) ↔ 14 ≤ k := leLN (n := 14) (by omega) hk
theorem leNL14 {k : Nat} (hk : k < 2147483648) : (nI k ≤ (14 : Int32)) ↔ k ≤ 14 := leNL (n := 14) (by omega) hk
theorem ltLN14 {k : Nat} (hk : k < 2147483648) : ((14 : Int32) < nI k) ↔ 14 < k := ltLN (n := 14) (by omega) hk
theorem ltNL14 {k : Nat} (hk : k < 2147483648) : (nI k < (14 : Int32)) ↔ k < 14 := ltNL (n := 14) (by omega) hk
theorem eqNL14 {k : Nat} (hk : k < 2147483648) : (nI k = (14 : Int32)) ↔ k = 14 := eqNL (n := 14) (by omega) hk
theorem eqLN14 {k : Nat} (hk : k < 2147483648) : ((14 : Int32) = nI k) ↔ 14 = k := ⟨fun h => ((eqNL (n := 14) (by omega) hk).mp h.symm).symm, fun h => ((eqNL (n := 14) (by omega) hk).mpr h.symm).symm⟩
theorem vpL15 {L : Nat} : vp_in (15 : Int32) L ↔ 15 < L := vp_iff (a := 15) (by omega)
theorem clL15 : (15 : Int32).toNatClampNeg = 15 := clp (n := 15) (by omega)
theorem ixA15 (a : Nat) : nI a + (15 : Int32) = nI (a + 15) := ixA a 15
theorem ixB15 (a : Nat) : (15 : Int32) + nI a = nI (15 + a) := nI_add 15 a
theorem leLN15 {k : Nat} (hk : k < 2147483648) : ((15 : Int32) ≤ nI k) ↔ 15 ≤ k := leLN (n := 15) (by omega) hk
theorem leNL15 {k : Nat} (hk : k < 2147483648) : (nI k ≤ (15 : Int32)) ↔ k ≤ 15 := leNL (n := 15) (by omega) hk
theorem ltLN15 {k : Nat} (hk : k < 2147483648) : ((15 : Int32) < nI k) ↔ 15 < k := ltLN (n := 15) (by omega) hk
theorem ltNL15 {k : Nat} (hk : k < 2147483648) : (nI k < (15 : Int32)) ↔ k < 15 := ltNL (n := 15) (by omega) hk
theorem eqNL15 {k : Nat} (hk : k < 2147483648) : (nI k = (15 : Int32)) ↔ k = 15 := eqNL (n := 15) (by omega) hk
theorem eqLN15 {k : Nat} (hk : k < 2147483648) : ((15 : Int32) = nI k) ↔ 15 = k := ⟨fun h => ((eqNL (n := 15) (by omega) hk).mp h.symm).symm, fun h => ((eqNL (n := 15) (by omega) hk).mpr h.symm).symm⟩
theorem vpL23 {L : Nat} : vp_in (23 : Int32) L ↔ 23 < L := vp_iff (a := 23) (by omega)
theorem clL23 : (23 : Int32).toNatClampNeg = 23 := clp (n := 23) (by omega)
theorem ixA23 (a : Nat) : nI a + (23 : Int32) = nI (a + 23) := ixA a 23
theorem ixB23 (a : Nat) : (23 : Int32) + nI a = nI (23 + a) := nI_add 23 a
theorem leLN23 {k : Nat} (hk : k < 2147483648) : ((23 : Int32) ≤ nI k) ↔ 23 ≤ k := leLN (n := 23) (by omega) hk
theorem leNL23 {k : Nat} (hk : k < 2147483648) : (nI k ≤ (23 : Int32)) ↔ k ≤ 23 := leNL (n := 23) (by omega) hk
theorem ltLN23 {k : Nat} (hk : k < 2147483648) : ((23 : Int32) < nI k) ↔ 23 < k := ltLN (n := 23) (by omega) hk
theorem ltNL23 {k : Nat} (hk : k < 2147483648) : (nI k < (23 : Int32)) ↔ k < 23 := ltNL (n := 23) (by omega) hk
theorem eqNL23 {k : Nat} (hk : k < 2147483648) : (nI k = (23 : Int32)) ↔ k = 23 := eqNL (n := 23) (by omega) hk
theorem eqLN23 {k : Nat} (hk : k < 2147483648) : ((23 : Int32) = nI k) ↔ 23 = k := ⟨fun h => ((eqNL (n := 23) (by omega) hk).mp h.symm).symm, fun h => ((eqNL (n := 23) (by omega) hk).mpr h.symm).symm⟩
theorem vpL24 {L : Nat} : vp_in (24 : Int32) L ↔ 24 < L := vp_iff (a := 24) (by omega)
theorem clL24 : (24 : Int32).toNatClampNeg = 24 := clp (n := 24) (by omega)
theorem ixA24 (a : Nat) : nI a + (24 : Int32) = nI (a + 24) := ixA a 24
theorem ixB24 (a : Nat) : (24 : Int32) + nI a = nI (24 + a) := nI_add 24 a
theorem leLN24 {k : Nat} (hk : k < 2147483648) : ((24 : Int32) ≤ nI k) ↔ 24 ≤ k := leLN (n := 24) (by omega) hk
theorem leNL24 {k : Nat} (hk : k < 2147483648) : (nI k ≤ (24 : Int32)) ↔ k ≤ 24 := leNL (n := 24) (by omega) hk
theorem ltLN24 {k : Nat} (hk : k < 2147483648) : ((24 : Int32) < nI k) ↔ 24 < k := ltLN (n := 24) (by omega) hk
theorem ltNL24 {k : Nat} (hk : k < 2147483648) : (nI k < (24 : Int32)) ↔ k < 24 := ltNL (n := 24) (by omega) hk
theorem eqNL24 {k : Nat} (hk : k < 2147483648) : (nI k = (24 : Int32)) ↔ k = 24 := eqNL (n := 24) (by omega) hk
theorem eqLN24 {k : Nat} (hk : k < 2147483648) : ((24 : Int32) = nI k) ↔ 24 = k := ⟨fun h => ((eqNL (n := 24) (by omega) hk).mp h.symm).symm, fun h => ((eqNL (n := 24) (by omega) hk).mpr h.symm).symm⟩
theorem vpL29 {L : Nat} : vp_in (29 : Int32) L ↔ 29 < L := vp_iff (a := 29) (by omega)
theorem clL29 : (29 : Int32).toNatClampNeg = 29 := clp (n := 29) (by omega)
theorem ixA29 (a : Nat) : nI a + (29 : Int32) = nI (a + 29) := ixA a 29
theorem ixB29 (a : Nat) : (29 : Int32) + nI a = nI (29 + a) := nI_add 29 a
theorem leLN29 {k : Nat} (hk : k < 2147483648) : ((29 : Int32) ≤ nI k) ↔ 29 ≤ k := leLN (n := 29) (by omega) hk
theorem leNL29 {k : Nat} (hk : k < 2147483648) : (nI k ≤ (29 : Int32)) ↔ k ≤ 29 := leNL (n := 29) (by omega) hk
theorem ltLN29 {k : Nat} (hk : k < 2147483648) : ((29 : Int32) < nI k) ↔ 29 < k := ltLN (n := 29) (by omega) hk
theorem ltNL29 {k : Nat} (hk : k < 2147483648) : (nI k < (29 : Int32)) ↔ k < 29 := ltNL (n := 29) (by omega) hk
theorem eqNL29 {k : Nat} (hk : k < 2147483648) : (nI k = (29 : Int32)) ↔ k = 29 := eqNL (n := 29) (by omega) hk
theorem eqLN29 {k : Nat} (hk : k < 2147483648) : ((29 : Int32) = nI k) ↔ 29 = k := ⟨fun h => ((eqNL (n := 29) (by omega) hk).mp h.symm).symm, fun h => ((eqNL (n := 29) (by omega) hk).mpr h.symm).symm⟩
theorem vpL39 {L : Nat} : vp_in (39 : Int32) L ↔ 39 < L := vp_iff (a := 39) (by omega)
theorem clL39 : (39 : Int32).toNatClampNeg = 39 := clp (n := 39) (by omega)
theorem ixA39 (a : Nat) : nI a + (39 : Int32) = nI (a + 39) := ixA a 39
theorem ixB39 (a : Nat) : (39 : Int32) + nI a = nI (39 + a) := nI_add 39 a
theorem leLN39 {k : Nat} (hk : k < 2147483648) : ((39 : Int32) ≤ nI k) ↔ 39 ≤ k := leLN (n := 39) (by omega) hk
theorem leNL39 {k : Nat} (hk : k < 2147483648) : (nI k ≤ (39 : Int32)) ↔ k ≤ 39 := leNL (n := 39) (by omega) hk
theorem ltLN39 {k : Nat} (hk : k < 2147483648) : ((39 : Int32) < nI k) ↔ 39 < k := ltLN (n := 39) (by omega) hk
theorem ltNL39 {k : Nat} (hk : k < 2147483648) : (nI k < (39 : Int32)) ↔ k < 39 := ltNL (n := 39) (by omega) hk
theorem eqNL39 {k : Nat} (hk : k < 2147483648) : (nI k = (39 : Int32)) ↔ k = 39 := eqNL (n := 39) (by omega) hk
theorem eqLN39 {k : Nat} (hk : k < 2147483648) : ((39 : Int32) = nI k) ↔ 39 = k := ⟨fun h => ((eqNL (n := 39) (by omega) hk).mp h.symm).symm, fun h => ((eqNL (n := 39) (by omega) hk).mpr h.symm).symm⟩
theorem vpL48 {L : Nat} : vp_in (48 : Int32) L ↔ 48 < L := vp_iff (a := 48) (by omega)
theorem clL48 : (48 : Int32).toNatClampNeg = 48 := clp (n := 48) (by omega)
theorem ixA48 (a : Nat) : nI a + (48 : Int32) = nI (a + 48) := ixA a 48
theorem ixB48 (a : Nat) : (48 : Int32) + nI a = nI (48 + a) := nI_add 48 a
theorem leLN48 {k : Nat} (hk : k < 2147483648) : ((48 : Int32) ≤ nI k) ↔ 48 ≤ k := leLN (n := 48) (by omega) hk
theorem leNL48 {k : Nat} (hk : k < 2147483648) : (nI k ≤ (48 : Int32)) ↔ k ≤ 48 := leNL (n := 48) (by omega) hk
theorem ltLN48 {k : Nat} (hk : k < 2147483648) : ((48 : Int32) < nI k) ↔ 48 < k := ltLN (n := 48) (by omega) hk
theorem ltNL48 {k : Nat} (hk : k < 2147483648) : (nI k < (48 : Int32)) ↔ k < 48 := ltNL (n := 48) (by omega) hk
theorem eqNL48 {k : Nat} (hk : k < 2147483648) : (nI k = (48 : Int32)) ↔ k = 48 := eqNL (n := 48) (by omega) hk
theorem eqLN48 {k : Nat} (hk : k < 2147483648) : ((48 : Int32) = nI k) ↔ 48 = k := ⟨fun h => ((eqNL (n := 48) (by omega) hk).mp h.symm).symm, fun h => ((eqNL (n := 48) (by omega) hk).mpr h.symm).symm⟩
theorem vpL49 {L : Nat} : vp_in (49 : Int32) L ↔ 49 < L := vp_iff (a := 49) (by omega)
theorem clL49 : (49 : Int32).toNatClampNeg = 49 := clp (n := 49) (by omega)
theorem ixA49 (a : Nat) : nI a + (49 : Int32) = nI (a + 49) := ixA a 49
theorem ixB49 (a : Nat) : (49 : Int32) + nI a = nI (49 + a) := nI_add 49 a
theorem leLN49 {k : Nat} (hk : k < 2147483648) : ((49 : Int32) ≤ nI k) ↔ 49 ≤ k := leLN (n := 49) (by omega) hk
theorem leNL49 {k : Nat} (hk : k < 2147483648) : (nI k ≤ (49 : Int32)) ↔ k ≤ 49 := leNL (n := 49) (by omega) hk
theorem ltLN49 {k : Nat} (hk : k < 2147483648) : ((49 : Int32) < nI k) ↔ 49 < k := ltLN (n := 49) (by omega) hk
theorem ltNL49 {k : Nat} (hk : k < 2147483648) : (nI k < (49 : Int32)) ↔ k < 49 := ltNL (n := 49) (by omega) hk
theorem eqNL49 {k : Nat} (hk : k < 2147483648) : (nI k = (49 : Int32)) ↔ k = 49 := eqNL (n := 49) (by omega) hk
theorem eqLN49 {k : Nat} (hk : k < 2147483648) : ((49 : Int32) = nI k) ↔ 49 = k := ⟨fun h => ((eqNL (n := 49) (by omega) hk).mp h.symm).symm, fun h => ((eqNL (n := 49) (by omega) hk).mpr h.symm).symm⟩
theorem vpL50 {L : Nat} : vp_in (50 : Int32) L ↔ 50 < L := vp_iff (a := 50) (by omega)
theorem clL50 : (50 : Int32).toNatClampNeg = 50 := clp (n := 50) (by omega)
theorem ixA50 (a : Nat) : nI a + (50 : Int32) = nI (a + 50) := ixA a 50
theorem ixB50 (a : Nat) : (50 : Int32) + nI a = nI (50 + a) := nI_add 50 a
theorem leLN50 {k : Nat} (hk : k < 2147483648) : ((50 : Int32) ≤ nI k) ↔ 50 ≤ k := leLN (n := 50) (by omega) hk
theorem leNL50 {k : Nat} (hk : k < 2147483648) : (nI k ≤ (50 : Int32)) ↔ k ≤ 50 := leNL (n := 50) (by omega) hk
theorem ltLN50 {k : Nat} (hk : k < 2147483648) : ((50 : Int32) < nI k) ↔ 50 < k := ltLN (n := 50) (by omega) hk
theorem ltNL50 {k : Nat} (hk : k < 2147483648) : (nI k < (50 : Int32)) ↔ k < 50 := ltNL (n := 50) (by omega) hk
theorem eqNL50 {k : Nat} (hk : k < 2147483648) : (nI k = (50 : Int32)) ↔ k = 50 := eqNL (n := 50) (by omega) hk
theorem eqLN50 {k : Nat} (hk : k < 2147483648) : ((50 : Int32) = nI k) ↔ 50 = k := ⟨fun h => ((eqNL (n := 50) (by omega) hk).mp h.symm).symm, fun h => ((eqNL (n := 50) (by omega) hk).mpr h.symm).symm⟩
theorem vpL60 {L : Nat} : vp_in (60 : Int32) L ↔ 60 < L := vp_iff (a := 60) (by omega)
theorem clL60 : (60 : Int32).toNatClampNeg = 60 := clp (n := 60) (by omega)
theorem ixA60 (a : Nat) : nI a + (60 : Int32) = nI (a + 60) := ixA a 60
theorem ixB60 (a : Nat) : (60 : Int32) + nI a = nI (60 + a) := nI_add 60 a
theorem leLN60 {k : Nat} (hk : k < 2147483648) : ((60 : Int32) ≤ nI k) ↔ 60 ≤ k := leLN (n := 60) (by omega) hk
theorem leNL60 {k : Nat} (hk : k < 2147483648) : (nI k ≤ (60 : Int32)) ↔ k ≤ 60 := leNL (n := 60) (by omega) hk
theorem ltLN60 {k : Nat} (hk : k < 2147483648) : ((60 : Int32) < nI k) ↔ 60 < k := ltLN (n := 60) (by omega) hk
theorem ltNL60 {k : Nat} (hk : k < 2147483648) : (nI k < (60 : Int32)) ↔ k < 60 := ltNL (n := 60) (by omega) hk
theorem eqNL60 {k : Nat} (hk : k < 2147483648) : (nI k = (60 : Int32)) ↔ k = 60 := eqNL (n := 60) (by omega) hk
theorem eqLN60 {k : Nat} (hk : k < 2147483648) : ((60 : Int32) = nI k) ↔ 60 = k := ⟨fun h => ((eqNL (n := 60) (by omega) hk).mp h.symm).symm, fun h => ((eqNL (n := 60) (by omega) hk).mpr h.symm).symm⟩
theorem vpL102 {L : Nat} : vp_in (102 : Int32) L ↔ 102 < L := vp_iff (a := 102) (by omega)
theorem clL102 : (102 : Int32).toNatClampNeg = 102 := clp (n := 102) (by omega)
theorem ixA102 (a : Nat) : nI a + (102 : Int32) = nI (a + 102) := ixA a 102
theorem ixB102 (a : Nat) : (102 : Int32) + nI a = nI (102 + a) := nI_add 102 a
theorem leLN102 {k : Nat} (hk : k < 2147483648) : ((102 : Int32) ≤ nI k) ↔ 102 ≤ k := leLN (n := 102) (by omega) hk
theorem leNL102 {k : Nat} (hk : k < 2147483648) : (nI k ≤ (102 : Int32)) ↔ k ≤ 102 := leNL (n := 102) (by omega) hk
theorem ltLN102 {k : Nat} (hk : k < 2147483648) : ((102 : Int32) < nI k) ↔ 102 < k := ltLN (n := 102) (by omega) hk
theorem ltNL102 {k : Nat} (hk : k < 2147483648) : (nI k < (102 : Int32)) ↔ k < 102 := ltNL (n := 102) (by omega) hk
theorem eqNL102 {k : Nat} (hk : k < 2147483648) : (nI k = (102 : Int32)) ↔ k = 102 := eqNL (n := 102) (by omega) hk
theorem eqLN102 {k : Nat} (hk : k < 2147483648) : ((102 : Int32) = nI k) ↔ 102 = k := ⟨fun h => ((eqNL (n := 102) (by omega) hk).mp h.symm).symm, fun h => ((eqNL (n := 102) (by omega) hk).mpr h.symm).symm⟩
theorem vpL103 {L : Nat} : vp_in (103 : Int32) L ↔ 103 < L := vp_iff (a := 103) (by omega)
theorem clL103 : (103 : Int32).toNatClampNeg = 103 := clp (n := 103) (by omega)
theorem ixA103 (a : Nat) : nI a + (103 : Int32) = nI (a + 103) := ixA a 103
theorem ixB103 (a : Nat) : (103 : Int32) + nI a = nI (103 + a) := nI_add 103 a
theorem leLN103 {k : Nat} (hk : k < 2147483648) : ((103 : Int32) ≤ nI k) ↔ 103 ≤ k := leLN (n := 103) (by omega) hk
theorem leNL103 {k : Nat} (hk : k < 2147483648) : (nI k ≤ (103 : Int32)) ↔ k ≤ 103 := leNL (n := 103) (by omega) hk
theorem ltLN103 {k : Nat} (hk : k < 2147483648) : ((103 : Int32) < nI k) ↔ 103 < k := ltLN (n := 103) (by omega) hk
theorem ltNL103 {k : Nat} (hk : k < 2147483648) : (nI k < (103 : Int32)) ↔ k < 103 := ltNL (n := 103) (by omega) hk
theorem eqNL103 {k : Nat} (hk : k < 2147483648) : (nI k = (103 : Int32)) ↔ k = 103 := eqNL (n := 103) (by omega) hk
theorem eqLN103 {k : Nat} (hk : k < 2147483648) : ((103 : Int32) = nI k) ↔ 103 = k := ⟨fun h => ((eqNL (n := 103) (by omega) hk).mp h.symm).symm, fun h => ((eqNL (n := 103) (by omega) hk).mpr h.symm).symm⟩
theorem vpL104 {L : Nat} : vp_in (104 : Int32) L ↔ 104 < L := vp_iff (a := 104) (by omega)
theorem clL104 : (104 : Int32).toNatClampNeg = 104 := clp (n := 104) (by omega)
theorem ixA104 (a : Nat) : nI a + (104 : Int32) = nI (a + 104) := ixA a 104
theorem ixB104 (a : Nat) : (104 : Int32) + nI a = nI (104 + a) := nI_add 104 a
theorem leLN104 {k : Nat} (hk : k < 2147483648) : ((104 : Int32) ≤ nI k) ↔ 104 ≤ k := leLN (n := 104) (by omega) hk
theorem leNL104 {k : Nat} (hk : k < 2147483648) : (nI k ≤ (104 : Int32)) ↔ k ≤ 104 := leNL (n := 104) (by omega) hk
theorem ltLN104 {k : Nat} (hk : k < 2147483648) : ((104 : Int32) < nI k) ↔ 104 < k := ltLN (n := 104) (by omega) hk
theorem ltNL104 {k : Nat} (hk : k < 2147483648) : (nI k < (104 : Int32)) ↔ k < 104 := ltNL (n := 104) (by omega) hk
theorem eqNL104 {k : Nat} (hk : k < 2147483648) : (nI k = (104 : Int32)) ↔ k = 104 := eqNL (n := 104) (by omega) hk
theorem eqLN104 {k : Nat} (hk : k < 2147483648) : ((104 : Int32) = nI k) ↔ 104 = k := ⟨fun h => ((eqNL (n := 104) (by omega) hk).mp h.symm).symm, fun h => ((eqNL (n := 104) (by omega) hk).mpr h.symm).symm⟩
theorem vpL105 {L : Nat} : vp_in (105 : Int32) L ↔ 105 < L := vp_iff (a := 105) (by omega)
theorem clL105 : (105 : Int32).toNatClampNeg = 105 := clp (n := 105) (by omega)
theorem ixA105 (a : Nat) : nI a + (105 : Int32) = nI (a + 105) := ixA a 105
theorem ixB105 (a : Nat) : (105 : Int32) + nI a = nI (105 + a) := nI_add 105 a
theorem leLN105 {k : Nat} (hk : k < 2147483648) : ((105 : Int32) ≤ nI k) ↔ 105 ≤ k := leLN (n := 105) (by omega) hk
theorem leNL105 {k : Nat} (hk : k < 2147483648) : (nI k ≤ (105 : Int32)) ↔ k ≤ 105 := leNL (n := 105) (by omega) hk
theorem ltLN105 {k : Nat} (hk : k < 2147483648) : ((105 : Int32) < nI k) ↔ 105 < k := ltLN (n := 105) (by omega) hk
theorem ltNL105 {k : Nat} (hk : k < 2147483648) : (nI k < (105 : Int32)) ↔ k < 105 := ltNL (n := 105) (by omega) hk
theorem eqNL105 {k : Nat} (hk : k < 2147483648) : (nI k = (105 : Int32)) ↔ k = 105 := eqNL (n := 105) (by omega) hk
theorem eqLN105 {k : Nat} (hk : k < 2147483648) : ((105 : Int32) = nI k) ↔ 105 = k := ⟨fun h => ((eqNL (n := 105) (by omega) hk).mp h.symm).symm, fun h => ((eqNL (n := 105) (by omega) hk).mpr h.symm).symm⟩
theorem vpL106 {L : Nat} : vp_in (106 : Int32) L ↔ 106 < L := vp_iff (a := 106) (by omega)
theorem clL106 : (106 : Int32).toNatClampNeg = 106 := clp (n := 106) (by omega)
theorem ixA106 (a : Nat) : nI a + (106 : Int32) = nI (a + 106) := ixA a 106
theorem ixB106 (a : Nat) : (106 : Int32) + nI a = nI (106 + a) := nI_add 106 a
theorem leLN106 {k : Nat} (hk : k < 2147483648) : ((106 : Int32) ≤ nI k) ↔ 106 ≤ k := leLN (n := 106) (by omega) hk
theorem leNL106 {k : Nat} (hk : k < 2147483648) : (nI k ≤ (106 : Int32)) ↔ k ≤ 106 := leNL (n := 106) (by omega) hk
theorem ltLN106 {k : Nat} (hk : k < 2147483648) : ((106 : Int32) < nI k) ↔ 106 < k := ltLN (n := 106) (by omega) hk
theorem ltNL106 {k : Nat} (hk : k < 2147483648) : (nI k < (106 : Int32)) ↔ k < 106 := ltNL (n := 106) (by omega) hk
theorem eqNL106 {k : Nat} (hk : k < 2147483648) : (nI k = (106 : Int32)) ↔ k = 106 := eqNL (n := 106) (by omega) hk
theorem eqLN106 {k : Nat} (hk : k < 2147483648) : ((106 : Int32) = nI k) ↔ 106 = k := ⟨fun h => ((eqNL (n := 106) (by omega) hk).mp h.symm).symm, fun h => ((eqNL (n := 106) (by omega) hk).mpr h.symm).symm⟩
theorem vpL120 {L : Nat} : vp_in (120 : Int32) L ↔ 120 < L := vp_iff (a := 120) (by omega)
theorem clL120 : (120 : Int32).toNatClampNeg = 120 := clp (n := 120) (by omega)
theorem ixA120 (a : Nat) : nI a + (120 : Int32) = nI (a + 120) := ixA a 120
theorem ixB120 (a : Nat) : (120 : Int32) + nI a = nI (120 + a) := nI_add 120 a
theorem leLN120 {k : Nat} (hk : k < 2147483648) : ((120 : Int32) ≤ nI k) ↔ 120 ≤ k := leLN (n := 120) (by omega) hk
theorem leNL120 {k : Nat} (hk : k < 2147483648) : (nI k ≤ (120 : Int32)) ↔ k ≤ 120 := leNL (n := 120) (by omega) hk
theorem ltLN120 {k : Nat} (hk : k < 2147483648) : ((120 : Int32) < nI k) ↔ 120 < k := ltLN (n := 120) (by omega) hk
theorem ltNL120 {k : Nat} (hk : k < 2147483648) : (nI k < (120 : Int32)) ↔ k < 120 := ltNL (n := 120) (by omega) hk
theorem eqNL120 {k : Nat} (hk : k < 2147483648) : (nI k = (120 : Int32)) ↔ k = 120 := eqNL (n := 120) (by omega) hk
theorem eqLN120 {k : Nat} (hk : k < 2147483648) : ((120 : Int32) = nI k) ↔ 120 = k := ⟨fun h => ((eqNL (n := 120) (by omega) hk).mp h.symm).symm, fun h => ((eqNL (n := 120) (by omega) hk).mpr h.symm).symm⟩
theorem vpL126 {L : Nat} : vp_in (126 : Int32) L ↔ 126 < L := vp_iff (a := 126) (by omega)
theorem clL126 : (126 : Int32).toNatClampNeg = 126 := clp (n := 126) (by omega)
theorem ixA126 (a : Nat) : nI a + (126 : Int32) = nI (a + 126) := ixA a 126
theorem ixB126 (a : Nat) : (126 : Int32) + nI a = nI (126 + a) := nI_add 126 a
theorem leLN126 {k : Nat} (hk : k < 2147483648) : ((126 : Int32) ≤ nI k) ↔ 126 ≤ k := leLN (n := 126) (by omega) hk
theorem leNL126 {k : Nat} (hk : k < 2147483648) : (nI k ≤ (126 : Int32)) ↔ k ≤ 126 := leNL (n := 126) (by omega) hk
theorem ltLN126 {k : Nat} (hk : k < 2147483648) : ((126 : Int32) < nI k) ↔ 126 < k := ltLN (n := 126) (by omega) hk
theorem ltNL126 {k : Nat} (hk : k < 2147483648) : (nI k < (126 : Int32)) ↔ k < 126 := ltNL (n := 126) (by omega) hk
theorem eqNL126 {k : Nat} (hk : k < 2147483648) : (nI k = (126 : Int32)) ↔ k = 126 := eqNL (n := 126) (by omega) hk
theorem eqLN126 {k : Nat} (hk : k < 2147483648) : ((126 : Int32) = nI k) ↔ 126 = k := ⟨fun h => ((eqNL (n := 126) (by omega) hk).mp h.symm).symm, fun h => ((eqNL (n := 126) (by omega) hk).mpr h.symm).symm⟩
theorem vpL127 {L : Nat} : vp_in (127 : Int32) L ↔ 127 < L := vp_iff (a := 127) (by omega)
theorem clL127 : (127 : Int32).toNatClampNeg = 127 := clp (n := 127) (by omega)
theorem ixA127 (a : Nat) : nI a + (127 : Int32) = nI (a + 127) := ixA a 127
theorem ixB127 (a : Nat) : (127 : Int32) + nI a = nI (127 + a) := nI_add 127 a
theorem leLN127 {k : Nat} (hk : k < 2147483648) : ((127 : Int32) ≤ nI k) ↔ 127 ≤ k := leLN (n := 127) (by omega) hk
theorem leNL127 {k : Nat} (hk : k < 2147483648) : (nI k ≤ (127 : Int32)) ↔ k ≤ 127 := leNL (n := 127) (by omega) hk
theorem ltLN127 {k : Nat} (hk : k < 2147483648) : ((127 : Int32) < nI k) ↔ 127 < k := ltLN (n := 127) (by omega) hk
theorem ltNL127 {k : Nat} (hk : k < 2147483648) : (nI k < (127 : Int32)) ↔ k < 127 := ltNL (n := 127) (by omega) hk
theorem eqNL127 {k : Nat} (hk : k < 2147483648) : (nI k = (127 : Int32)) ↔ k = 127 := eqNL (n := 127) (by omega) hk
theorem eqLN127 {k : Nat} (hk : k < 2147483648) : ((127 : Int32) = nI k) ↔ 127 = k := ⟨fun h => ((eqNL (n := 127) (by omega) hk).mp h.symm).symm, fun h => ((eqNL (n := 127) (by omega) hk).mpr h.symm).symm⟩
theorem vpL889 {L : Nat} : vp_in (889 : Int32) L ↔ 889 < L := vp_iff (a := 889) (by omega)
theorem clL889 : (889 : Int32).toNatClampNeg = 889 := clp (n := 889) (by omega)
theorem ixA889 (a : Nat) : nI a + (889 : Int32) = nI (a + 889) := ixA a 889
theorem ixB889 (a : Nat) : (889 : Int32) + nI a = nI (889 + a) := nI_add 889 a
theorem leLN889 {k : Nat} (hk : k < 2147483648) : ((889 : Int32) ≤ nI k) ↔ 889 ≤ k := leLN (n := 889) (by omega) hk
theorem leNL889 {k : Nat} (hk : k < 2147483648) : (nI k ≤ (889 : Int32)) ↔ k ≤ 889 := leNL (n := 889) (by omega) hk
theorem ltLN889 {k : Nat} (hk : k < 2147483648) : ((889 : Int32) < nI k) ↔ 889 < k := ltLN (n := 889) (by omega) hk
theorem ltNL889 {k : Nat} (hk : k < 2147483648) : (nI k < (889 : Int32)) ↔ k < 889 := ltNL (n := 889) (by omega) hk
theorem eqNL889 {k : Nat} (hk : k < 2147483648) : (nI k = (889 : Int32)) ↔ k = 889 := eqNL (n := 889) (by omega) hk
theorem eqLN889 {k : Nat} (hk : k < 2147483648) : ((889 : Int32) = nI k) ↔ 889 = k := ⟨fun h => ((eqNL (n := 889) (by omega) hk).mp h.symm).symm, fun h => ((eqNL (n := 889) (by omega) hk).mpr h.symm).symm⟩
theorem vpL1000000 {L : Nat} : vp_in (1000000 : Int32) L ↔ 1000000 < L := vp_iff (a := 1000000) (by omega)
theorem clL1000000 : (1000000 : Int32).toNatClampNeg = 1000000 := clp (n := 1000000) (by omega)
theorem ixA1000000 (a : Nat) : nI a + (1000000 : Int32) = nI (a + 1000000) := ixA a 1000000
theorem ixB1000000 (a : Nat) : (1000000 : Int32) + nI a = nI (1000000 + a) := nI_add 1000000 a
theorem leLN1000000 {k : Nat} (hk : k < 2147483648) : ((1000000 : Int32) ≤ nI k) ↔ 1000000 ≤ k := leLN (n := 1000000) (by omega) hk
theorem leNL1000000 {k : Nat} (hk : k < 2147483648) : (nI k ≤ (1000000 : Int32)) ↔ k ≤ 1000000 := leNL (n := 1000000) (by omega) hk
theorem ltLN1000000 {k : Nat} (hk : k < 2147483648) : ((1000000 : Int32) < nI k) ↔ 1000000 < k := ltLN (n := 1000000) (by omega) hk
theorem ltNL1000000 {k : Nat} (hk : k < 2147483648) : (nI k < (1000000 : Int32)) ↔ k < 1000000 := ltNL (n := 1000000) (by omega) hk
theorem eqNL1000000 {k : Nat} (hk : k < 2147483648) : (nI k = (1000000 : Int32)) ↔ k = 1000000 := eqNL (n := 1000000) (by omega) hk
theorem eqLN1000000 {k : Nat} (hk : k < 2147483648) : ((1000000 : Int32) = nI k) ↔ 1000000 = k := ⟨fun h => ((eqNL (n := 1000000) (by omega) hk).mp h.symm).symm, fun h => ((eqNL (n := 1000000) (by omega) hk).mpr h.symm).symm⟩
theorem nz01 {p : Prop} {i : Decidable p} : narrow .boolean (.int (if p then 1 else 0)) = .int (if p then 1 else 0) := by
  split <;> rfl
theorem b1_eq {p : Prop} {i : Decidable p} : ((if p then (1 : Int32) else 0) = 0) ↔ ¬ p := by
  split
  · exact ⟨fun h => absurd h (by decide), fun h => absurd (by assumption) h⟩
  · exact ⟨fun _ => by assumption, fun _ => rfl⟩
/-- the first n of F, then G -/
def cp (n : Nat) (F G : Nat → Int32) : Nat → Int32 := fun j => if j < n then F j else G j
theorem cp0 (F G : Nat → Int32) : cp 0 F G = G := by
  funext j
  show (if j < 0 then _ else _) = _
  rw [if_neg (Nat.not_lt_zero j)]
theorem cpS (n : Nat) (F G : Nat → Int32) : updA (cp n F G) n (F n) = cp (n + 1) F G := by
  funext j
  show (if j = n then F n else if j < n then F j else G j) = if j < n + 1 then F j else G j
  by_cases h : j = n
  · subst h
    rw [if_pos rfl, if_pos (by omega)]
  · rw [if_neg h]
    by_cases h2 : j < n
    · rw [if_pos h2, if_pos (by omega)]
    · rw [if_neg h2, if_neg (by omega)]
/-- n of F laid at o into K -/
def cpO (o n : Nat) (F K : Nat → Int32) : Nat → Int32 := fun j => if o ≤ j ∧ j < o + n then F (j - o) else K j
theorem cpO0 (o : Nat) (F K : Nat → Int32) : cpO o 0 F K = K := by
  funext j
  show (if o ≤ j ∧ j < o + 0 then _ else _) = _
  rw [if_neg (by omega)]
theorem cpOS (o n : Nat) (F K : Nat → Int32) : updA (cpO o n F K) (o + n) (F n) = cpO o (n + 1) F K := by
  funext j
  show (if j = o + n then F n else if o ≤ j ∧ j < o + n then F (j - o) else K j) = if o ≤ j ∧ j < o + (n + 1) then F (j - o) else K j
  by_cases h : j = o + n
  · subst h
    rw [if_pos rfl, if_pos (by omega), Nat.add_sub_cancel_left]
  · rw [if_neg h]
    by_cases h2 : o ≤ j ∧ j < o + n
    · rw [if_pos h2, if_pos (by omega)]
    · rw [if_neg h2, if_neg (by omega)]
/-- the first n of what lies o further on in K -/
def shK (o n : Nat) (K : Nat → Int32) : Nat → Int32 := fun j => if j < n then K (o + j) else K j
theorem shK0 (o : Nat) (K : Nat → Int32) : shK o 0 K = K := by
  funext j
  show (if j < 0 then _ else _) = _
  rw [if_neg (Nat.not_lt_zero j)]
theorem shK_ge (o n j : Nat) (K : Nat → Int32) (h : n ≤ j) : shK o n K j = K j := by
  show (if j < n then _ else _) = _
  rw [if_neg (by omega)]
theorem shKS (o n : Nat) (K : Nat → Int32) : updA (shK o n K) n (K (o + n)) = shK o (n + 1) K := by
  funext j
  show (if j = n then K (o + n) else if j < n then K (o + j) else K j) = if j < n + 1 then K (o + j) else K j
  by_cases h : j = n
  · subst h
    rw [if_pos rfl, if_pos (by omega)]
  · rw [if_neg h]
    by_cases h2 : j < n
    · rw [if_pos h2, if_pos (by omega)]
    · rw [if_neg h2, if_neg (by omega)]
section OC
variable {W : Int32 → PH → Prop} {WR : Nat → PH → Prop} {WV : PH → Prop} {X : Nat → PH → Prop} {h : PH}
theorem oI_i {v : Int32} (k : W v h) : oI W X (.inl (some (.int v))) h := k
theorem oI_x {r : Nat} (k : X r h) : oI W X (.inr r) h := k
theorem oR_r {v : Nat} (k : WR v h) : oR WR X (.inl (some (.ref v))) h := k
theorem oR_x {r : Nat} (k : X r h) : oR WR X (.inr r) h := k
theorem oV_v (k : WV h) : oV WV X (.inl none) h := k
theorem oV_x {r : Nat} (k : X r h) : oV WV X (.inr r) h := k
end OC
