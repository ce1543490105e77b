/-! ===== THE MODEL OBJECT: its state in a heap ===== -/
set_option maxRecDepth 100000
/-- the model's arrays by number (1 now, 2 tried, 3 thought, 4 kept, 5 saved, 6 line, 7 text, 8 told, 9 why), its int fields by their global number, its word -/
abbrev MSt : Type := (Nat → Nat → Int32) × (Nat → Int32) × Nat
/-- the heap h with state S of the model object m laid over it -/
def mst (m : Nat) (S : MSt) (h : PH) : PH := (h.1, h.2.1, h.2.2.1, (fun f x => if x = m then S.2.1 f else hF h f x), (fun f x => if x = m ∧ f = 528 then S.2.2 else hG h f x), (fun x i => if m < x ∧ x ≤ m + 9 then S.1 (x - m) i else hA h x i), hB h, hL h, hD h)
def updA (F : Nat → Int32) (i : Nat) (v : Int32) : Nat → Int32 := fun j => if j = i then v else F j
def sArr (k : Nat) (F : Nat → Int32) (S : MSt) : MSt := ((fun j => if j = k then F else S.1 j), S.2)
def sF (f : Nat) (v : Int32) (S : MSt) : MSt := (S.1, (fun j => if j = f then v else S.2.1 j), S.2.2)
def sW (r : Nat) (S : MSt) : MSt := (S.1, S.2.1, r)
theorem hnx_mst (m : Nat) (S : MSt) (h : PH) : hnx (mst m S h) = hnx h := rfl
theorem hw_mst (m : Nat) (S : MSt) (h : PH) : hw (mst m S h) = hw h := rfl
theorem hkd_mst (m : Nat) (S : MSt) (h : PH) (x : Nat) : hkd (mst m S h) x = hkd h x := rfl
theorem hln_mst (m : Nat) (S : MSt) (h : PH) (x : Nat) : hln (mst m S h) x = hln h x := rfl
theorem hF_mst (m : Nat) (S : MSt) (h : PH) (f : Nat) : hF (mst m S h) f m = S.2.1 f := by
  show (if m = m then _ else _) = _
  rw [if_pos rfl]
theorem hG_mst (m : Nat) (S : MSt) (h : PH) (f x : Nat) : hG (mst m S h) f x = if x = m ∧ f = 528 then S.2.2 else hG h f x := rfl
theorem hA_mst (m : Nat) (S : MSt) (h : PH) (k i : Nat) (hk : 0 < k) (hk9 : k ≤ 9) : hA (mst m S h) (m + k) i = S.1 k i := by
  show (if m < m + k ∧ m + k ≤ m + 9 then _ else _) = _
  rw [if_pos (by omega), Nat.add_sub_cancel_left]
theorem ph_eq {a1 : Nat × Nat} {a2 a3 : Nat → Nat} {a4 b4 : Nat → Nat → Int32} {a5 b5 : Nat → Nat → Nat} {a6 b6 : Nat → Nat → Int32} {a7 : Nat → Nat → Nat} {a8 : Nat → Nat → Int64} {a9 : Nat → Nat → UInt64} (h4 : a4 = b4) (h5 : a5 = b5) (h6 : a6 = b6) : ((a1, a2, a3, a4, a5, a6, a7, a8, a9) : PH) = (a1, a2, a3, b4, b5, b6, a7, a8, a9) := by
  subst h4; subst h5; subst h6; rfl
theorem setF_mst (m : Nat) (S : MSt) (h : PH) (f : Nat) (v : Int32) : setF f m v (mst m S h) = mst m (sF f v S) h := by
  refine ph_eq ?_ rfl rfl
  funext y x
  show (if y = f ∧ x = m then v else if x = m then S.2.1 y else hF h y x) = if x = m then (if y = f then v else S.2.1 y) else hF h y x
  by_cases h1 : x = m <;> by_cases h2 : y = f <;> simp [h1, h2]
theorem setG_mst (m : Nat) (S : MSt) (h : PH) (r : Nat) : setG 528 m r (mst m S h) = mst m (sW r S) h := by
  refine ph_eq rfl ?_ rfl
  funext y x
  show (if y = 528 ∧ x = m then r else if x = m ∧ y = 528 then S.2.2 else hG h y x) = if x = m ∧ y = 528 then r else hG h y x
  by_cases h1 : x = m <;> by_cases h2 : y = 528 <;> simp [h1, h2]
theorem setA_mst (m : Nat) (S : MSt) (h : PH) (k i : Nat) (v : Int32) (hk : 0 < k) (hk9 : k ≤ 9) : setA (m + k) i v (mst m S h) = mst m (sArr k (updA (S.1 k) i v) S) h := by
  refine ph_eq rfl rfl ?_
  funext x y
  show (if x = m + k ∧ y = i then v else if m < x ∧ x ≤ m + 9 then S.1 (x - m) y else hA h x y) = if m < x ∧ x ≤ m + 9 then (if x - m = k then updA (S.1 k) i v else S.1 (x - m)) y else hA h x y
  unfold updA
  by_cases h1 : x = m + k
  · subst h1
    have h0 : m < m + k ∧ m + k ≤ m + 9 := by omega
    by_cases h2 : y = i <;> simp [h0, h2, Nat.add_sub_cancel_left]
  · by_cases h3 : m < x ∧ x ≤ m + 9
    · have h4 : ¬ x - m = k := by omega
      simp [h1, h3, h4]
    · simp [h1, h3]
theorem sArr_get (k : Nat) (F : Nat → Int32) (S : MSt) : (sArr k F S).1 k = F := by
  show (if k = k then F else _) = F
  rw [if_pos rfl]
theorem sArr_ne (k j : Nat) (F : Nat → Int32) (S : MSt) (hj : ¬ j = k) : (sArr k F S).1 j = S.1 j := by
  show (if j = k then F else _) = _
  rw [if_neg hj]
theorem sArr_f (k : Nat) (F : Nat → Int32) (S : MSt) (f : Nat) : (sArr k F S).2.1 f = S.2.1 f := rfl
theorem sArr_w (k : Nat) (F : Nat → Int32) (S : MSt) : (sArr k F S).2.2 = S.2.2 := rfl
theorem sF_get (f : Nat) (v : Int32) (S : MSt) : (sF f v S).2.1 f = v := by
  show (if f = f then v else _) = v
  rw [if_pos rfl]
theorem sF_ne (f j : Nat) (v : Int32) (S : MSt) (hj : ¬ j = f) : (sF f v S).2.1 j = S.2.1 j := by
  show (if j = f then v else _) = _
  rw [if_neg hj]
theorem sF_a (f : Nat) (v : Int32) (S : MSt) (k : Nat) : (sF f v S).1 k = S.1 k := rfl
theorem sF_w (f : Nat) (v : Int32) (S : MSt) : (sF f v S).2.2 = S.2.2 := rfl
theorem sW_a (r : Nat) (S : MSt) (k : Nat) : (sW r S).1 k = S.1 k := rfl
theorem sW_f (r : Nat) (S : MSt) (f : Nat) : (sW r S).2.1 f = S.2.1 f := rfl
theorem sW_w (r : Nat) (S : MSt) : (sW r S).2.2 = r := rfl
theorem updA_get (F : Nat → Int32) (i : Nat) (v : Int32) : updA F i v i = v := by
  show (if i = i then v else _) = v
  rw [if_pos rfl]
theorem updA_ne (F : Nat → Int32) (i j : Nat) (v : Int32) (hj : ¬ j = i) : updA F i v j = F j := by
  show (if j = i then v else _) = _
  rw [if_neg hj]
theorem sArr_sArr (k : Nat) (F G : Nat → Int32) (S : MSt) : sArr k F (sArr k G S) = sArr k F S := by
  unfold sArr
  simp only [Prod.mk.injEq, and_true]
  funext j
  by_cases h : j = k <;> simp [h]
theorem sArr_self (k : Nat) (S : MSt) : sArr k (S.1 k) S = S := by
  obtain ⟨a, b⟩ := S
  unfold sArr
  simp only [Prod.mk.injEq, and_true]
  funext j
  by_cases h : j = k <;> simp [h]
theorem sF_sArr (f k : Nat) (v : Int32) (F : Nat → Int32) (S : MSt) : sF f v (sArr k F S) = sArr k F (sF f v S) := rfl
theorem sW_sArr (r k : Nat) (F : Nat → Int32) (S : MSt) : sW r (sArr k F S) = sArr k F (sW r S) := rfl
theorem sF_sF (f : Nat) (v w : Int32) (S : MSt) : sF f v (sF f w S) = sF f v S := by
  unfold sF
  simp only [Prod.mk.injEq, and_true, true_and]
  funext j
  by_cases h : j = f <;> simp [h]
/-- what of the heap under the model object doesn't change -/
def MB (m : Nat) (h : PH) : Prop := hkd h m = 12 ∧
  (hG h 521 m = m + 1 ∧ hkd h (m + 1) = 100 ∧ hln h (m + 1) = 127) ∧ (hG h 522 m = m + 2 ∧ hkd h (m + 2) = 100 ∧ hln h (m + 2) = 127) ∧ (hG h 523 m = m + 3 ∧ hkd h (m + 3) = 100 ∧ hln h (m + 3) = 127) ∧
  (hG h 524 m = m + 4 ∧ hkd h (m + 4) = 100 ∧ hln h (m + 4) = 1016) ∧ (hG h 525 m = m + 5 ∧ hkd h (m + 5) = 100 ∧ hln h (m + 5) = 127) ∧ (hG h 526 m = m + 6 ∧ hkd h (m + 6) = 200 ∧ hln h (m + 6) = 120) ∧
  (hG h 527 m = m + 7 ∧ hkd h (m + 7) = 200 ∧ hln h (m + 7) = 50) ∧ (hG h 529 m = m + 8 ∧ hkd h (m + 8) = 100 ∧ hln h (m + 8) = 3) ∧ (hG h 530 m = m + 9 ∧ hkd h (m + 9) = 100 ∧ hln h (m + 9) = 6)
theorem MB.kd {m : Nat} {h : PH} (B : MB m h) : hkd h m = 12 := B.1
theorem MB.g1 {m : Nat} {h : PH} (B : MB m h) (S : MSt) : hG (mst m S h) 521 m = m + 1 := by rw [hG_mst, if_neg (by omega)]; exact B.2.1.1
theorem MB.g2 {m : Nat} {h : PH} (B : MB m h) (S : MSt) : hG (mst m S h) 522 m = m + 2 := by rw [hG_mst, if_neg (by omega)]; exact B.2.2.1.1
theorem MB.g3 {m : Nat} {h : PH} (B : MB m h) (S : MSt) : hG (mst m S h) 523 m = m + 3 := by rw [hG_mst, if_neg (by omega)]; exact B.2.2.2.1.1
theorem MB.g4 {m : Nat} {h : PH} (B : MB m h) (S : MSt) : hG (mst m S h) 524 m = m + 4 := by rw [hG_mst, if_neg (by omega)]; exact B.2.2.2.2.1.1
theorem MB.g5 {m : Nat} {h : PH} (B : MB m h) (S : MSt) : hG (mst m S h) 525 m = m + 5 := by rw [hG_mst, if_neg (by omega)]; exact B.2.2.2.2.2.1.1
theorem MB.g6 {m : Nat} {h : PH} (B : MB m h) (S : MSt) : hG (mst m S h) 526 m = m + 6 := by rw [hG_mst, if_neg (by omega)]; exact B.2.2.2.2.2.2.1.1
theorem MB.g7 {m : Nat} {h : PH} (B : MB m h) (S : MSt) : hG (mst m S h) 527 m = m + 7 := by rw [hG_mst, if_neg (by omega)]; exact B.2.2.2.2.2.2.2.1.1
theorem MB.g8 {m : Nat} {h : PH} (B : MB m h) (S : MSt) : hG (mst m S h) 529 m = m + 8 := by rw [hG_mst, if_neg (by omega)]; exact B.2.2.2.2.2.2.2.2.1.1
theorem MB.g9 {m : Nat} {h : PH} (B : MB m h) (S : MSt) : hG (mst m S h) 530 m = m + 9 := by rw [hG_mst, if_neg (by omega)]; exact B.2.2.2.2.2.2.2.2.2.1
theorem MB.gw {m : Nat} {h : PH} (S : MSt) : hG (mst m S h) 528 m = S.2.2 := by rw [hG_mst, if_pos ⟨rfl, rfl⟩]
theorem MB.k1 {m : Nat} {h : PH} (B : MB m h) : hkd h (m + 1) = 100 := B.2.1.2.1
theorem MB.k2 {m : Nat} {h : PH} (B : MB m h) : hkd h (m + 2) = 100 := B.2.2.1.2.1
theorem MB.k3 {m : Nat} {h : PH} (B : MB m h) : hkd h (m + 3) = 100 := B.2.2.2.1.2.1
theorem MB.k4 {m : Nat} {h : PH} (B : MB m h) : hkd h (m + 4) = 100 := B.2.2.2.2.1.2.1
theorem MB.k5 {m : Nat} {h : PH} (B : MB m h) : hkd h (m + 5) = 100 := B.2.2.2.2.2.1.2.1
theorem MB.k6 {m : Nat} {h : PH} (B : MB m h) : hkd h (m + 6) = 200 := B.2.2.2.2.2.2.1.2.1
theorem MB.k7 {m : Nat} {h : PH} (B : MB m h) : hkd h (m + 7) = 200 := B.2.2.2.2.2.2.2.1.2.1
theorem MB.k8 {m : Nat} {h : PH} (B : MB m h) : hkd h (m + 8) = 100 := B.2.2.2.2.2.2.2.2.1.2.1
theorem MB.k9 {m : Nat} {h : PH} (B : MB m h) : hkd h (m + 9) = 100 := B.2.2.2.2.2.2.2.2.2.2.1
theorem MB.l1 {m : Nat} {h : PH} (B : MB m h) : hln h (m + 1) = 127 := B.2.1.2.2
theorem MB.l2 {m : Nat} {h : PH} (B : MB m h) : hln h (m + 2) = 127 := B.2.2.1.2.2
theorem MB.l3 {m : Nat} {h : PH} (B : MB m h) : hln h (m + 3) = 127 := B.2.2.2.1.2.2
theorem MB.l4 {m : Nat} {h : PH} (B : MB m h) : hln h (m + 4) = 1016 := B.2.2.2.2.1.2.2
theorem MB.l5 {m : Nat} {h : PH} (B : MB m h) : hln h (m + 5) = 127 := B.2.2.2.2.2.1.2.2
theorem MB.l6 {m : Nat} {h : PH} (B : MB m h) : hln h (m + 6) = 120 := B.2.2.2.2.2.2.1.2.2
theorem MB.l7 {m : Nat} {h : PH} (B : MB m h) : hln h (m + 7) = 50 := B.2.2.2.2.2.2.2.1.2.2
theorem MB.l8 {m : Nat} {h : PH} (B : MB m h) : hln h (m + 8) = 3 := B.2.2.2.2.2.2.2.2.1.2.2
theorem MB.l9 {m : Nat} {h : PH} (B : MB m h) : hln h (m + 9) = 6 := B.2.2.2.2.2.2.2.2.2.2.2
theorem nI_lit (n : Nat) : (OfNat.ofNat n : Int32) = nI n := rfl
theorem nI_mul (a b : Nat) : nI a * nI b = nI (a * b) := (Int32.ofNat_mul a b).symm
theorem ixP (p : Nat) : (3 : Int32) + (3 : Int32) * nI p = nI (3 + 3 * p) := by rw [nI_lit 3, nI_mul, nI_add]
theorem ixT (t : Nat) : (39 : Int32) + (3 : Int32) * nI t = nI (39 + 3 * t) := by rw [nI_lit 39, nI_lit 3, nI_mul, nI_add]
theorem ixM (s : Nat) : (48 : Int32) + (6 : Int32) * nI s = nI (48 + 6 * s) := by rw [nI_lit 48, nI_lit 6, nI_mul, nI_add]
theorem ixA (a n : Nat) : nI a + (OfNat.ofNat n : Int32) = nI (a + n) := by rw [nI_lit n, nI_add]
theorem vp_nI {a n : Nat} (h : a < n) (hn : n ≤ 2147483647) : vp_in (nI a) n := nI_in h (by omega)
theorem vp_iff {a n : Nat} (ha : a < 2147483648) : vp_in (nI a) n ↔ a < n := by
  unfold vp_in
  rw [nI_clamp (by omega)]
  have := nI_pos (n := a) (by omega)
  constructor
  · intro h
    exact Nat.not_le.mp (fun q => h (Or.inr q))
  · intro h q
    rcases q with q | q
    · exact this q
    · omega
theorem clp {n : Nat} (h : n < 2147483648) : (nI n).toNatClampNeg = n := nI_clamp (by omega)
theorem clpl (n : Nat) (h : n < 2147483648) : (OfNat.ofNat n : Int32).toNatClampNeg = n := clp h
section OC
variable {W : Int32 → PH → Prop} {WR : Nat → PH → Prop} {WV : PH → Prop} {X : Nat → PH → Prop} {h : PH}
theorem oI_i {v : Int32} (k : W v h) : oI W X (.inl (some (.int v))) h := k
theorem oI_x {r : Nat} (k : X r h) : oI W X (.inr r) h := k
theorem oR_r {v : Nat} (k : WR v h) : oR WR X (.inl (some (.ref v))) h := k
theorem oR_x {r : Nat} (k : X r h) : oR WR X (.inr r) h := k
theorem oV_v (k : WV h) : oV WV X (.inl none) h := k
theorem oV_x {r : Nat} (k : X r h) : oV WV X (.inr r) h := k
end OC
