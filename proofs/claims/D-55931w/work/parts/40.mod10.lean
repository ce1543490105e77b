/-! ===== the model: the calls for works ===== -/
set_option maxRecDepth 100000
def api1 (S : MSt) : MSt := sArr 2 (cp 127 (S.1 1) (S.1 2)) (sF 33 0 S)
def apiR (o : OR) : Int32 := match o with
  | .inl q => q.2
  | .inr _ => 0
def apiS (o : OR) (rf : Int32) (u : Nat) (S : MSt) : MSt := match o with
  | .inl q => keepsS u (orS (.inl q) (api1 S))
  | .inr (.inl r) => sF 33 rf (orS (.inr (.inl r)) (api1 S))
  | .inr (.inr k) => sF 33 k (api1 S)
def orP (o : OR) : Prop := ∀ k, o = .inr (.inr k) → 0 < k
theorem comesO_P (A : Nat → Int32) (t p ms : Int32) : orP (comesO A t p ms) := by
  intro k h
  unfold comesO at h
  repeat (split at h)
  all_goals (first | (cases h; decide) | cases h)
theorem runsO_P (A : Nat → Int32) (s pl : Int32) : orP (runsO A s pl) := by
  intro k h
  unfold runsO at h
  repeat (split at h)
  all_goals (first | (cases h; decide) | cases h)
theorem givesO_P (A : Nat → Int32) (s o : Int32) : orP (givesO A s o) := by
  intro k h
  unfold givesO at h
  repeat (split at h)
  all_goals (first | (cases h; decide) | cases h)
theorem picksO_P (A : Nat → Int32) (s : Int32) : orP (picksO A s) := by
  intro k h
  unfold picksO picks1 at h
  split at h
  · by_cases h1 : A (48 + 6 * s.toNatClampNeg + 2) = 0
    · rw [if_pos h1] at h
      cases h
    · rw [if_neg h1] at h
      split at h <;> cases h
  · cases h
theorem warmsO_P (A : Nat → Int32) (p dg : Int32) : orP (warmsO A p dg) := by
  intro k h
  unfold warmsO at h
  repeat (split at h)
  all_goals (first | (cases h; decide) | cases h)
theorem passO_P (A : Nat → Int32) (hs : Int32) : orP (passO A hs) := by
  intro k h
  unfold passO at h
  repeat (split at h)
  all_goals (first | (cases h; decide) | cases h)
section M10
variable {g : PG} {d m : Nat} {S : MSt} {h : PH} {Q : Out → PH → Prop}
theorem k_api {o : OR} {rf : Int32} {u : Nat} (B : MB m h) (hu : u ≤ 8) (eu : S.2.1 27 = nI u) (ho : orP o) (k : Q (.inl (some (.int (apiR o)))) (mst m (apiS o rf u S) h)) : C g (d + 2) m_X4_ends [.ref m, .int (orC o), .int rf] (mst m (orS o (api1 S)) h) Q := by
  match o, ho, k with
  | .inl q, _, k =>
    refine k_ends (u := u) B hu ?_ (fun _ => ?_) (fun q => absurd rfl q)
    · exact eu
    · have e : (orS (.inl q) (api1 S)).2.1 32 = q.2 := sF_get 32 q.2 _
      rw [e]
      exact k
  | .inr (.inl r), _, k =>
    refine k_ends (u := u) B hu ?_ (fun q => absurd (show (-1 : Int32) = 0 from q) (by decide)) (fun _ => ?_)
    · exact eu
    · rw [if_neg (show ¬ (0 : Int32) ≤ orC (.inr (.inl r)) from (by decide : ¬ (0 : Int32) ≤ (-1 : Int32)))]
      exact k
  | .inr (.inr c), ho, k =>
    have hc := ho c rfl
    refine k_ends (u := u) B hu ?_ (fun q => ?_) (fun _ => ?_)
    · exact eu
    · have q : c = 0 := q
      rw [q] at hc
      exact absurd hc (by decide)
    · rw [if_pos (show (0 : Int32) ≤ orC (.inr (.inr c)) from Int32.le_of_lt hc)]
      exact k
theorem k_come {t p ms : Int32} {u : Nat} (B : MB m h) (T : TP (S.1 1)) (hu : u ≤ 8) (eu : S.2.1 27 = nI u) (k : Q (.inl (some (.int (apiR (comesO (S.1 1) t p ms))))) (mst m (apiS (comesO (S.1 1) t p ms) 3 u S) h)) : C g (d + 4) m_X4_come [.ref m, .int t, .int p, .int ms] (mst m S h) Q := by
  obtain ⟨n, hn, en, -⟩ := T
  exact c_X4_come_0 ⟨B.kd, k_tries B (oV_v (k_comes (n := n) B hn en (oI_i (k_api (S := S) B hu eu (comesO_P _ _ _ _) (oI_i k)))))⟩
theorem k_run {s pl : Int32} {u : Nat} (B : MB m h) (T : TP (S.1 1)) (hu : u ≤ 8) (eu : S.2.1 27 = nI u) (k : Q (.inl (some (.int (apiR (runsO (S.1 1) s pl))))) (mst m (apiS (runsO (S.1 1) s pl) 2 u S) h)) : C g (d + 6) m_X4_run [.ref m, .int s, .int pl] (mst m S h) Q :=
  c_X4_run_0 ⟨B.kd, k_tries B (oV_v (k_runs B T (oI_i (k_api (S := S) B hu eu (runsO_P _ _ _) (oI_i k)))))⟩
theorem k_pass {s o : Int32} {u : Nat} (B : MB m h) (T : TP (S.1 1)) (hu : u ≤ 8) (eu : S.2.1 27 = nI u) (k : Q (.inl (some (.int (apiR (givesO (S.1 1) s o))))) (mst m (apiS (givesO (S.1 1) s o) 1 u S) h)) : C g (d + 4) m_X4_pass [.ref m, .int s, .int o] (mst m S h) Q :=
  c_X4_pass_0 ⟨B.kd, k_tries B (oV_v (k_gives B T (oI_i (k_api (S := S) B hu eu (givesO_P _ _ _) (oI_i k)))))⟩
theorem k_pick {s : Int32} {u : Nat} (B : MB m h) (T : TP (S.1 1)) (hu : u ≤ 8) (eu : S.2.1 27 = nI u) (k : Q (.inl (some (.int (apiR (picksO (S.1 1) s))))) (mst m (apiS (picksO (S.1 1) s) 1 u S) h)) : C g (d + 5) m_X4_pick [.ref m, .int s] (mst m S h) Q :=
  c_X4_pick_0 ⟨B.kd, k_tries B (oV_v (k_picks B T (oI_i (k_api (S := S) B hu eu (picksO_P _ _) (oI_i k)))))⟩
theorem k_warm {p dg : Int32} {u : Nat} (B : MB m h) (hu : u ≤ 8) (eu : S.2.1 27 = nI u) (k : Q (.inl (some (.int (apiR (warmsO (S.1 1) p dg))))) (mst m (apiS (warmsO (S.1 1) p dg) 3 u S) h)) : C g (d + 4) m_X4_warm [.ref m, .int p, .int dg] (mst m S h) Q :=
  c_X4_warm_0 ⟨B.kd, k_tries B (oV_v (k_warms B (oI_i (k_api (S := S) B hu eu (warmsO_P _ _ _) (oI_i k)))))⟩
theorem k_hour {hs : Int32} {u : Nat} (B : MB m h) (T : TP (S.1 1)) (hu : u ≤ 8) (eu : S.2.1 27 = nI u) (k : Q (.inl (some (.int (apiR (passO (S.1 1) hs))))) (mst m (apiS (passO (S.1 1) hs) 1 u S) h)) : C g (d + 6) m_X4_hour [.ref m, .int hs] (mst m S h) Q :=
  c_X4_hour_0 ⟨B.kd, k_tries B (oV_v (k_passes B T (oI_i (k_api (S := S) B hu eu (passO_P _ _) (oI_i k)))))⟩
end M10
