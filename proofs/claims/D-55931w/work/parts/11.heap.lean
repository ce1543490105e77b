/-! ===== RULES: fields, arrays, new things ===== -/
set_option maxRecDepth 100000
/-- the field entry idx of class own's file is field k of class ci, of number f -/
def FRk (own : String) (idx ci k f : Nat) : Prop := ∃ (C : String) (T : u_T) (N : Nat) (ref : String), cl_[ci]? = some (C, T, N) ∧ k < N ∧ (fids ci)[k]? = some f ∧
  (Cond.fieldLink own idx ref (T k).2.1 (T k).2.2.1 ∈ lw_all ∨ ∃ host, Cond.fieldLinkNest own idx ref (T k).2.1 (T k).2.2.1 host ∈ lw_tbl) ∧ (ref = (T k).1 ∨ Cond.sameField ref (T k).1 (T k).2.1 (T k).2.2.1 ∈ lw_all)
/-- .. and a final one or not; a final one is written in its own class's constructor -/
def FWk (own nm : String) (idx ci k f : Nat) : Prop := FRk own idx ci k f ∧ ∃ (C : String) (T : u_T) (N : Nat), cl_[ci]? = some (C, T, N) ∧ ((T k).2.2.2 = false ∨ ((T k).2.2.2 = true ∧ nm = "<init>" ∧ (T k).1 = own ∧ Cond.fieldLink own idx own (T k).2.1 (T k).2.2.1 ∈ lw_all))
theorem Sim.upd {g : PG} {h h' : PH} {H H' : Heap} (hS : Sim g h H) {r : Nat} (hr : hkd h r ≠ 0) (hn : hkd h r % 100 < 50) (e2 : H'.size = H.size) (e3 : ∀ q : Nat, q ≠ r - 1 → H'[q]? = H[q]?) (kd : ∀ x, hkd h' x = hkd h x) (nx : hnx h' = hnx h) (wf : WF h')
    (same : ∀ x, x ≠ r → ent g h' x = ent g h x) (hat : va_at (gC g, gI g) cl_ (r - 1, ent g h' r) H') (mon : hkd h r = 7 → ∃ cell : Cell, H'[r - 1]? = some cell ∧ cell.monitor = {}) : Sim g h' H' := by
  obtain ⟨a1, a2, a3, a4, a5⟩ := hS
  have hlt := (a5 r hr).2.1 hn
  refine ⟨by rw [e2, nx]; exact a1, by rw [e2]; exact a2, fun q hq => ?_, wf, fun x hx => ?_⟩
  · rw [e3 q (by omega)]; exact a3 q hq
  · rw [kd] at hx
    by_cases hxr : x = r
    · subst hxr
      exact ⟨hat, by rw [kd]; exact (a5 x hx).2.1, by rw [kd]; exact mon⟩
    · obtain ⟨b1, b2, b3⟩ := a5 x hx
      have hxp := a4.pos hx
      have hrp := a4.pos hr
      have hne : x - 1 ≠ r - 1 := by omega
      refine ⟨?_, by rw [kd]; exact b2, by rw [kd, e3 _ hne]; exact b3⟩
      rw [same x hxr]
      exact b1.kept (e3 _ hne)
theorem ent_obj {g : PG} {h : PH} {r : Nat} (hl : hkd h r < 100) : ent g h r = .inr (kci (hkd h r), (fids (kci (hkd h r))).map (fun f => fval h f r)) := by rw [ent, if_pos hl]
theorem ent_arr {g : PG} {h : PH} {r : Nat} (hl : 100 ≤ hkd h r) : ent g h r = .inl (gAc g (hkd h r / 100), arrOf h r (hkd h r / 100)) := by rw [ent, if_neg (Nat.not_lt.mpr hl)]
theorem nd_idx {l : List Nat} (hn : l.Nodup) {i j x : Nat} (hi : l[i]? = some x) (hj : l[j]? = some x) : i = j := by
  obtain ⟨h1, e1⟩ := List.getElem?_eq_some_iff.mp hi
  obtain ⟨h2, e2⟩ := List.getElem?_eq_some_iff.mp hj
  have hp := List.pairwise_iff_getElem.mp hn
  rcases Nat.lt_trichotomy i j with q | q | q
  · exact absurd (e1.trans e2.symm) (hp i j h1 h2 q)
  · exact q
  · exact absurd (e2.trans e1.symm) (hp j i h2 h1 q)
/-- the list of an object's fields, one of them changed -/
theorem map_upd {l : List Nat} (hn : l.Nodup) {k f : Nat} (hk : l[k]? = some f) {F F' : Nat → Value} (hf : ∀ x, x ≠ f → F' x = F x) : l.map F' = (l.map F).set k (F' f) := by
  apply List.ext_getElem?
  intro j
  by_cases hj : j = k
  · subst hj
    have hlt := (List.getElem?_eq_some_iff.mp hk).1
    rw [List.getElem?_map, hk, List.getElem?_set_self (by simpa using hlt)]
    rfl
  · rw [List.getElem?_set_ne (Ne.symm hj), List.getElem?_map, List.getElem?_map]
    cases hx : l[j]? with
    | none => rfl
    | some x =>
      have : x ≠ f := fun q => hj (nd_idx hn (by rw [← q]; exact hx) hk)
      simp [hf x this]
section HEAPR
variable {g : PG} {d : Nat} {t : MT} {pc : Nat} {ls st : List Value} {h : PH} {Q : Out → PH → Prop}
section MACH
variable {p : Program} {e : Env} {R : Room} {s : State} {m : MethodId} {args : Array Value} {below : List Frame} {meth : Method} {c : Code} {H : Heap} {locs : List Loc} {cells slots : Nat} {Qm : State → Prop} {lsA : Array Slot} {rest : List Value}
theorem m_get {idx ci k f r : Nat} (X : Ctx g t p s m meth c args) (hfr : FRk (tO t) idx ci k f) (hS : Sim g h H) (hk0 : hkd h r ≠ 0) (hk1 : hkd h r < 100) (hk2 : kci (hkd h r) = ci) (D : decode (tB t) pc = .ok (.getfield idx, 3))
    (kk : W p (gL g) e R s m args below meth c H locs cells slots Qm (F0 m (pc + 3) lsA (fval h f r :: rest))) : W p (gL g) e R s m args below meth c H locs cells slots Qm (F0 m pc lsA (mvr r :: rest)) := by
  obtain ⟨C, T, N, ref, hc, hkN, hf, hl, hsame⟩ := hfr
  obtain ⟨hx, hb, -, -, -, hown, hts, hG, -, -⟩ := X
  obtain ⟨hr0, q, hq, cell, q1, q2, q3, q4⟩ := hS.obj hk0 hk1
  rw [hk2] at hq q2 q4
  cases hc.symm.trans hq
  obtain ⟨hSl, hfc, kC, hkC, hkind⟩ := hG.2.1.1 ci _ hc
  obtain ⟨cf, kf, fi, f9, hi, hsl⟩ := hSl k hkN
  have hin := cl_in ci _ hc
  have hst := (u_facts hfc hkC (u_lays hts hin hkN) hi).1
  have hi' : s.fieldFound? ref (T k).2.1 (T k).2.2.1 = some (cf, kf, fi, f9) := by
    rcases hsame with e1 | e1
    · rw [e1]; exact hi
    · exact u_same (hts _ e1) _ hi
  have hv : cell.slots[f9.slot]? = some (fval h f r) := by
    rw [hsl, q4 k hkN]
    simp [vp_V, hf]
  rw [mvr_pos hr0]
  rcases hl with hl | ⟨host, hl⟩
  · exact W.getf hx hb hown (hts _ hl) hi' hst q1 (by rw [q3]; exact fun h => by cases h) hv rfl rfl D kk
  · exact va_Wgetf hx hb hown (va_Nw.use rfl (hG.ext hl rfl)) hi' hst q1 (by rw [q3]; exact fun h => by cases h) hv rfl rfl D kk
theorem m_put {idx ci k f r : Nat} {h' : PH} {v : Value} (X : Ctx g t p s m meth c args) (hfw : FWk (tO t) (tY t).name idx ci k f) (hS : Sim g h H) (hk0 : hkd h r ≠ 0) (hk1 : hkd h r < 50) (hk2 : hkd h r = ci) (D : decode (tB t) pc = .ok (.putfield idx, 3))
    (hn : narrow (clty ci k) v = v) (hfit : fits (clty ci k) v = true) (kd : ∀ x, hkd h' x = hkd h x) (nx : hnx h' = hnx h) (wf : WF h') (hv : fval h' f r = v) (ho : ∀ x, x ≠ f → fval h' x r = fval h x r) (same : ∀ x, x ≠ r → ent g h' x = ent g h x)
    (kk : ∀ (H' : Heap) (locs' : List Loc), Sim g h' H' → (∀ q ∈ locs', q ∈ locs ∨ q.base = r - 1) → W p (gL g) e R s m args below meth c H' locs' cells slots Qm (F0 m (pc + 3) lsA rest)) : W p (gL g) e R s m args below meth c H locs cells slots Qm (F0 m pc lsA (v :: mvr r :: rest)) := by
  obtain ⟨⟨C, T, N, ref, hc, hkN, hf, hl, hsame⟩, C2, T2, N2, hc2, hfin⟩ := hfw
  cases hc.symm.trans hc2
  obtain ⟨hx, hb, -, -, -, hown, hts, hG, -, hmn⟩ := X
  have hk3 : hkd h r < 100 := by omega
  have hkc : kci (hkd h r) = ci := by rw [kci, if_pos hk1]; exact hk2
  have hS0 := hS
  obtain ⟨hr0, q, hq, cell, q1, q2, q3, q4⟩ := hS.obj hk0 hk3
  rw [hkc] at hq q2 q4
  cases hc.symm.trans hq
  obtain ⟨hSl, hfc, kC, hkC, hkind⟩ := hG.2.1.1 ci _ hc
  obtain ⟨cf, kf, fi, f9, hi, hsl⟩ := hSl k hkN
  have hin := cl_in ci _ hc
  have hst := (u_facts hfc hkC (u_lays hts hin hkN) hi).1
  have hi' : s.fieldFound? ref (T k).2.1 (T k).2.2.1 = some (cf, kf, fi, f9) := by
    rcases hsame with e1 | e1
    · rw [e1]; exact hi
    · exact u_same (hts _ e1) _ hi
  have hap := va_apart (own := C) (D := (gC g, gI g)) (tys := gTys g) (ci := ci) hts hin (clty ci) (cl_ty ci _ hc) (cl_nm ci _ hc) hG.2.1 hc
  have hlt : f9.slot < cell.slots.size := by rw [hsl]; exact k2_hasslot (q4 k hkN)
  have hnd : (fids ci).Nodup := fids_nd ci (by rw [show (37 : Nat) = cl_.length from rfl]; exact (List.getElem?_eq_some_iff.mp hc).1)
  have hfl : (fids ci).length = N := fids_len ci _ hc
  have key : ∀ H' : Heap, H'[r - 1]? = some (cell.setSlot f9.slot v) → H'.size = H.size → (∀ q : Nat, q ≠ r - 1 → H'[q]? = H[q]?) → Sim g h' H' := by
    intro H' e1 e2 e3
    rw [hsl] at e1
    refine hS0.upd hk0 (by omega) e2 e3 kd nx wf same ?_ (fun h7 => ⟨_, e1, ?_⟩)
    · rw [ent_obj (by rw [kd]; exact hk3), kd, hkc, map_upd hnd hf ho, hv]
      exact ⟨_, hc, t_OB.to (V := updV (vp_V ((fids ci).map (fun f => fval h f r))) k v) ⟨_, e1, q2, q3, t_set q4 hap hkN v⟩ (fun j _ => vp_updV_set (by rw [List.length_map, hfl]; exact hkN) v j)⟩
    · obtain ⟨c7, z1, z2⟩ := (hS0.2.2.2.2 r hk0).2.2 h7
      cases q1.symm.trans z1
      exact z2
  rw [mvr_pos hr0]
  have hL : ∀ q ∈ locs ++ [(⟨r - 1, f9.slot⟩ : Loc)], q ∈ locs ∨ q.base = r - 1 := by
    intro q hq
    rcases List.mem_append.mp hq with z | z
    · exact Or.inl z
    · rw [List.mem_singleton.mp z]; exact Or.inr rfl
  rcases hfin with hfin | ⟨hfin, hin2, hdecl, hl3⟩
  · have hlay := hts _ (hin _ (u_in_lay hkN))
    unfold u_lay at hlay
    rw [if_neg (by rw [hfin]; decide)] at hlay
    have h6 := u_store hfc hkC hkind hlay hi (cl_ty ci _ hc k hkN) hn hfit
    rcases hl with hl | ⟨host, hl⟩
    · exact W.putK hx hb (f := f9) ⟨hown, hts _ hl, ⟨_, _, _, hi'⟩, hst⟩ (by rw [q2]; exact h6) q1 q3 hlt rfl rfl D fun H' e1 e2 e3 => kk H' _ (key H' e1 e2 e3) hL
    · exact va_WputK hx hb (f := f9) hown (va_Nw.use rfl (hG.ext hl rfl)) hi' hst (by rw [q2]; exact h6) q1 q3 hlt rfl rfl D fun H' e1 e2 e3 => kk H' _ (key H' e1 e2 e3) hL
  · have hlay := hts _ (hin _ (u_in_lay hkN))
    unfold u_lay at hlay
    rw [if_pos hfin] at hlay
    have hcf : m.cls = cf := by
      obtain ⟨_, _, c', _, _, _, -, -, hf', -, -, -, hown2, -⟩ := Cond.laysFinal_spec hlay
      have e1 : c' = cf := by have := hi.symm.trans hf'; simp at this; exact this.1.symm
      rw [hdecl] at hown2
      rw [← e1]; exact Option.some.inj (hown.symm.trans hown2)
    have h6 := u_fits hfc hkC hkind (Or.inr hlay) hi (cl_ty ci _ hc k hkN) hn hfit
    exact W.putFinK hx hb hown (hts _ hl3) (by rw [← hdecl]; exact hi) hst hcf (by rw [hmn]; exact hin2) (by rw [q2]; exact h6) q1 q3 hlt rfl rfl D fun H' e1 e2 e3 => kk H' _ (key H' e1 e2 e3) hL
end MACH
theorem r_getF {idx ci k f r : Nat} (hfr : FRk (tO t) idx ci k f) (hlt : f < 500) (D : decode (tB t) pc = .ok (.getfield idx, 3)) (hk : hkd h r = ci) (h0 : 0 < ci ∧ ci < 50) (n : R g d t (pc + 3) ls (.int (hF h f r) :: st) h Q) : R g d t pc ls (.ref r :: st) h Q := by
  intro w
  obtain ⟨o, h', a, b, c, n⟩ := n w
  refine ⟨o, h', a, b, c, fun _ _ _ _ _ _ _ _ _ _ _ _ _ _ _ _ X hr hS hl hf => ?_⟩
  refine m_get X hfr hS (by omega) (by omega) (by rw [hk, kci, if_pos h0.2]) D ?_
  rw [fval, if_pos hlt]
  exact n X hr hS hl hf
theorem r_getG {idx ci k f r : Nat} (hfr : FRk (tO t) idx ci k f) (hlt : 500 ≤ f) (D : decode (tB t) pc = .ok (.getfield idx, 3)) (hk : hkd h r = ci) (h0 : 0 < ci ∧ ci < 50) (n : R g d t (pc + 3) ls (.ref (hG h f r) :: st) h Q) : R g d t pc ls (.ref r :: st) h Q := by
  intro w
  obtain ⟨o, h', a, b, c, n⟩ := n w
  refine ⟨o, h', a, b, c, fun _ _ _ _ _ _ _ _ _ _ _ _ _ _ _ _ X hr hS hl hf => ?_⟩
  refine m_get X hfr hS (by omega) (by omega) (by rw [hk, kci, if_pos h0.2]) D ?_
  rw [fval, if_neg (by omega)]
  exact n X hr hS hl hf
/-- .. of an object that may be a constant -/
theorem r_getFo {idx ci k f r : Nat} (hfr : FRk (tO t) idx ci k f) (hlt : f < 500) (D : decode (tB t) pc = .ok (.getfield idx, 3)) (h0 : 0 < ci ∧ ci < 50) (hk : hkd h r = ci ∨ hkd h r = ci + 50) (n : R g d t (pc + 3) ls (.int (hF h f r) :: st) h Q) : R g d t pc ls (.ref r :: st) h Q := by
  intro w
  obtain ⟨o, h', a, b, c, n⟩ := n w
  refine ⟨o, h', a, b, c, fun _ _ _ _ _ _ _ _ _ _ _ _ _ _ _ _ X hr hS hl hf => ?_⟩
  refine m_get X hfr hS (by omega) (by omega) (by unfold kci; split <;> omega) D ?_
  rw [fval, if_pos hlt]
  exact n X hr hS hl hf
theorem r_getGo {idx ci k f r : Nat} (hfr : FRk (tO t) idx ci k f) (hlt : 500 ≤ f) (D : decode (tB t) pc = .ok (.getfield idx, 3)) (h0 : 0 < ci ∧ ci < 50) (hk : hkd h r = ci ∨ hkd h r = ci + 50) (n : R g d t (pc + 3) ls (.ref (hG h f r) :: st) h Q) : R g d t pc ls (.ref r :: st) h Q := by
  intro w
  obtain ⟨o, h', a, b, c, n⟩ := n w
  refine ⟨o, h', a, b, c, fun _ _ _ _ _ _ _ _ _ _ _ _ _ _ _ _ X hr hS hl hf => ?_⟩
  refine m_get X hfr hS (by omega) (by omega) (by unfold kci; split <;> omega) D ?_
  rw [fval, if_neg (by omega)]
  exact n X hr hS hl hf
theorem ent_setF {f r x : Nat} {v : Int32} (hx : x ≠ r) : ent g (setF f r v h) x = ent g h x := by
  unfold ent
  rw [hkd_setF]
  split
  · congr 2
    apply List.map_congr_left
    intro y _
    unfold fval
    rw [hF_setF, if_neg (fun q : y = f ∧ x = r => hx q.2)]
    rfl
  · rfl
theorem ent_setG {f r v x : Nat} (hx : x ≠ r) : ent g (setG f r v h) x = ent g h x := by
  unfold ent
  rw [hkd_setG]
  split
  · congr 2
    apply List.map_congr_left
    intro y _
    unfold fval
    rw [hG_setG, if_neg (fun q : y = f ∧ x = r => hx q.2)]
    rfl
  · rfl
theorem r_putF {idx ci k f r : Nat} {v : Int32} (hfw : FWk (tO t) (tY t).name idx ci k f) (hlt : f < 500) (D : decode (tB t) pc = .ok (.putfield idx, 3)) (hk : hkd h r = ci) (h0 : 0 < ci ∧ ci < 50) (hn : narrow (clty ci k) (.int v) = .int v) (hfit : fits (clty ci k) (.int v) = true) (n : R g d t (pc + 3) ls st (setF f r v h) Q) : R g d t pc ls (.int v :: .ref r :: st) h Q := by
  intro w
  have hk0 : hkd h r ≠ 0 := by omega
  have w1 := w.setF f r v hk0
  obtain ⟨o, h', a, b, c, n⟩ := n w1
  refine ⟨o, h', a, b, (Ext.setF f r v (by omega)).tr c, fun _ _ _ _ _ _ _ _ _ _ _ _ _ _ _ _ X hr hS hl hf => ?_⟩
  refine m_put (h' := setF f r v h) (v := .int v) X hfw hS hk0 (by omega) hk D hn hfit (fun _ => rfl) rfl w1 (by rw [fval, if_pos hlt, hF_setF, if_pos ⟨rfl, rfl⟩]) (fun x hx => ?_) (fun x hx => ent_setF hx) (fun H' L' hS' hL' => n X hr hS' hl (fun q hq => ?_))
  · unfold fval
    rw [hF_setF, if_neg (fun q : x = f ∧ r = r => hx q.1)]
    rfl
  · rcases hL' q hq with z | z
    · exact hf q z
    · rw [z]
      have := (hS.2.2.2.2 r hk0).2.1 (by omega)
      show (gH g).size ≤ r - 1
      omega
theorem r_putG {idx ci k f r v : Nat} (hfw : FWk (tO t) (tY t).name idx ci k f) (hlt : 500 ≤ f) (D : decode (tB t) pc = .ok (.putfield idx, 3)) (hk : hkd h r = ci) (h0 : 0 < ci ∧ ci < 50) (hrt : isRT (some (clty ci k)) = true) (n : R g d t (pc + 3) ls st (setG f r v h) Q) : R g d t pc ls (.ref v :: .ref r :: st) h Q := by
  intro w
  have hk0 : hkd h r ≠ 0 := by omega
  have w1 := w.setG f r v hk0
  obtain ⟨o, h', a, b, c, n⟩ := n w1
  refine ⟨o, h', a, b, (Ext.setG f r v (by omega)).tr c, fun _ _ _ _ _ _ _ _ _ _ _ _ _ _ _ _ X hr hS hl hf => ?_⟩
  have hnf : narrow (clty ci k) (mvr v) = mvr v ∧ fits (clty ci k) (mvr v) = true := by
    generalize clty ci k = ty at hrt
    cases ty <;> first | (cases hrt; done) | (cases v <;> exact ⟨rfl, rfl⟩)
  refine m_put (h' := setG f r v h) (v := mvr v) X hfw hS hk0 (by omega) hk D hnf.1 hnf.2 (fun _ => rfl) rfl w1 (by rw [fval, if_neg (by omega), hG_setG, if_pos ⟨rfl, rfl⟩]) (fun x hx => ?_) (fun x hx => ent_setG hx) (fun H' L' hS' hL' => n X hr hS' hl (fun q hq => ?_))
  · unfold fval
    rw [hG_setG, if_neg (fun q : x = f ∧ r = r => hx q.1)]
    rfl
  · rcases hL' q hq with z | z
    · exact hf q z
    · rw [z]
      have := (hS.2.2.2.2 r hk0).2.1 (by omega)
      show (gH g).size ≤ r - 1
      omega
end HEAPR
