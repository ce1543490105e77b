/-! ===== RULES: stores of references, lengths, new things, casts ===== -/
set_option maxRecDepth 100000
section NEWR
variable {g : PG} {d : Nat} {t : MT} {pc : Nat} {ls st : List Value} {h : PH} {Q : Out → PH → Prop}
theorem updV_ref (F : Nat → Nat) (k v : Nat) (G : Nat → Nat) (hG : ∀ j, G j = if j = k then v else F j) : updV (fun j => va_rf (arrO (F j))) k (mvr v) = fun j => va_rf (arrO (G j)) := by
  funext j
  rw [hG]
  unfold updV
  split
  · rw [va_rf_arrO]
  · rfl
theorem ent_setB {r j v x : Nat} (hx : x ≠ r) : ent g (setB r j v h) x = ent g h x :=
  ent_arr_ne rfl rfl (fun _ => rfl) (fun _ => rfl) (fun _ => rfl) (fun y => by rw [hB_setB, if_neg (fun q => hx q.1)]) (fun _ => rfl) (fun _ => rfl)
theorem sim_setB {r m j v : Nat} {H H' : Heap} (hS : Sim g h H) (hm : 6 ≤ m ∧ m ≤ 8) (hk : hkd h r / 100 = m) (hw0 : hkd h r % 100 < 50) (w1 : WF (setB r j v h)) (e1 : H'[r - 1]? = some ((vp_cell (gAc g m) (arrOf h r m)).setSlot j (mvr v))) (e2 : H'.size = H.size) (e3 : ∀ q : Nat, q ≠ r - 1 → H'[q]? = H[q]?) : Sim g (setB r j v h) H' := by
  refine hS.ast hk (by omega) hw0 e1 e2 e3 (fun _ => rfl) rfl w1 (fun x hx => ent_setB hx) ?_
  rw [arrOf_ref h r hm, arrOf_ref (setB r j v h) r hm]
  show (arrV (gAc g m) (hln h r) (fun j => va_rf (arrO (hB h r j)))).setSlot j (mvr v) = arrV (gAc g m) (hln h r) (fun j' => va_rf (arrO (hB (setB r j v h) r j')))
  rw [arrV_store, updV_ref (fun j => hB h r j) j v (fun j' => hB (setB r j v h) r j') (fun j' => by rw [hB_setB]; simp)]
theorem r_aastN {r m : Nat} {i : Int32} (D : decode (tB t) pc = .ok (.aastore, 1)) (hm : 6 ≤ m ∧ m ≤ 8) (hk : hkd h r / 100 = m) (hw0 : hkd h r % 100 < 50) (hin : vp_in i (hln h r)) (n : R g d t (pc + 1) ls st (setB r i.toNatClampNeg 0 h) Q) : R g d t pc ls (.ref 0 :: .int i :: .ref r :: st) h Q := by
  intro w
  have hk0 : hkd h r ≠ 0 := fun q => by rw [q] at hk; omega
  have w1 := w.setB r i.toNatClampNeg 0 hk0
  obtain ⟨o, h', a, b, c, n⟩ := n w1
  refine ⟨o, h', a, b, (Ext.setB r i.toNatClampNeg 0 hw0).tr c, fun _ _ _ _ _ _ _ _ _ _ _ _ _ _ _ _ X hr hS hl hf => ?_⟩
  obtain ⟨hp, -, -, hc⟩ := hS.arr hk (by omega)
  obtain ⟨C, hC⟩ := aty_ref hm.1
  have hA := (X.2.2.2.2.2.2.2.1.arr (n := m) (by omega)).1
  rw [hC] at hA
  have hc2 := hc
  rw [arrOf_ref h r hm] at hc2
  show W _ _ _ _ _ _ _ _ _ _ _ _ _ _ _ (F0 _ _ _ (.null :: .int i :: mvr r :: st.map mv))
  rw [mvr_pos hp]
  refine va_WaastN (C := C) X.1 X.2.1 hc2 (hA _ (fun j => va_rf (arrO (hB h r j)))) (fun q => by cases q) (by show ¬ (i < 0 ∨ (arrV _ _ _).slots.size ≤ _); rw [arrV_size]; exact hin) rfl rfl D (fun H' e1 e2 e3 => ?_)
  exact n X hr (sim_setB hS hm hk hw0 w1 (by rw [arrOf_ref h r hm]; exact e1) e2 e3) hl (gOld_of hS hk0 hw0 hf)
theorem castable_as {C1 C2 : String} {s : State} (hc : (Cond.castable C1 C2 ∈ lw_tbl ∧ GK g s) ∨ C1 = C2 ∧ ∃ cC, ClassAt s C1 cC) {c1 c2 : ClassId} (h1 : s.vm.findClass C1 = some c1) (h2 : s.vm.findClass C2 = some c2) : s.vm.assignable c1 c2 = true := by
  rcases hc with ⟨hc, hG⟩ | ⟨rfl, cC, hc⟩
  · obtain ⟨a, b, e1, e2, e3⟩ := Cond.castable_spec (va_Nw.use rfl (hG.ext hc rfl) : (Cond.castable C1 C2).before #[] s = true)
    cases h1.symm.trans e1
    cases h2.symm.trans e2
    exact e3
  · cases h1.symm.trans h2
    cases hc.1.symm.trans h1
    exact va_assign hc
theorem GK.cls {s : State} (hG : GK g s) {k : Nat} {q : vw_C} (hq : cl_[kci k]? = some q) : ∃ cC, ClassAt s (kcl k) cC := by
  have h4 := (hG.2.1.1 _ q hq).2
  refine ⟨gC g (kci k), ?_⟩
  rw [kcl, hq]; exact h4
theorem m_asg {s : State} {H : Heap} (hG : GK g s) (hS : Sim g h H) {v kv : Nat} {C : String} (hkv : hkd h v = kv) (hkv0 : 0 < kv ∧ kv < 100) (hcast : Cond.castable (kcl kv) C ∈ lw_tbl ∨ kcl kv = C) {comp : ClassId} (hf : s.vm.findClass C = some comp) : 0 < v ∧ ∃ cv : Cell, H[v - 1]? = some cv ∧ cv.vm = .none ∧ (∃ k, s.vm.classes[cv.cls]? = some k) ∧ s.vm.assignable cv.cls comp = true := by
  obtain ⟨hvp, q, hq, -⟩ := hS.obj (r := v) (by omega) (by omega)
  obtain ⟨cv, z1, z2, z3⟩ := hS.cell hG (r := v) (by omega) (by omega)
  obtain ⟨kv9, hkv9, -⟩ := Vm.findClass_spec z3
  rw [hkv] at z3 hq
  refine ⟨hvp, cv, z1, z2, ⟨_, hkv9⟩, castable_as (g := g) ?_ z3 hf⟩
  rcases hcast with q1 | q1
  · exact Or.inl ⟨q1, hG⟩
  · exact Or.inr ⟨q1, hG.cls hq⟩
theorem r_aast {r m v kv : Nat} {C : String} {i : Int32} (D : decode (tB t) pc = .ok (.aastore, 1)) (hm : 6 ≤ m ∧ m ≤ 8) (hC : aty m = .object C) (hk : hkd h r / 100 = m) (hw0 : hkd h r % 100 < 50) (hin : vp_in i (hln h r)) (hkv : hkd h v = kv) (hkv0 : 0 < kv ∧ kv < 100) (hcast : Cond.castable (kcl kv) C ∈ lw_tbl ∨ kcl kv = C) (n : R g d t (pc + 1) ls st (setB r i.toNatClampNeg v h) Q) : R g d t pc ls (.ref v :: .int i :: .ref r :: st) h Q := by
  intro w
  have hk0 : hkd h r ≠ 0 := fun q => by rw [q] at hk; omega
  have w1 := w.setB r i.toNatClampNeg v hk0
  obtain ⟨o, h', a, b, c, n⟩ := n w1
  refine ⟨o, h', a, b, (Ext.setB r i.toNatClampNeg v hw0).tr c, fun _ _ _ _ _ _ _ _ _ _ _ _ _ _ _ _ X hr hS hl hf => ?_⟩
  have hG := X.2.2.2.2.2.2.2.1
  obtain ⟨hp, -, -, hc⟩ := hS.arr hk (by omega)
  have hA := hG.arr (n := m) (by omega)
  rw [hC] at hA
  obtain ⟨hA, kA, comp, f1, f2, f3, f4⟩ := hA
  have hc2 := hc
  rw [arrOf_ref h r hm] at hc2
  obtain ⟨hvp, cv, z1, z2, ⟨kv9, z3⟩, z4⟩ := m_asg hG hS hkv hkv0 hcast f3
  obtain ⟨kc9, hkc9, -⟩ := Vm.findClass_spec f3
  show W _ _ _ _ _ _ _ _ _ _ _ _ _ _ _ (F0 _ _ _ (mvr v :: .int i :: mvr r :: st.map mv))
  rw [mvr_pos hp, mvr_pos hvp]
  refine W.aast X.1 X.2.1 hc2 (fun q z => by cases z) (fun q => by cases q) f1 f2 rfl hkc9 ?_ z1 (fun q z => by rw [z2] at z; cases z) z3 z4 rfl rfl D (fun H' e1 e2 e3 => ?_)
  · have h9 : ¬ (i < 0 ∨ hln h r ≤ i.toNatClampNeg) := hin
    refine ⟨fun q => h9 (Or.inl q), ?_⟩
    show _ < (arrV _ _ _).slots.size
    rw [arrV_size]
    exact Nat.not_le.mp (fun q => h9 (Or.inr q))
  · exact n X hr (sim_setB hS hm hk hw0 w1 (by rw [arrOf_ref h r hm, mvr_pos hvp]; exact e1) e2 e3) hl (gOld_of hS hk0 hw0 hf)
theorem vp_cell_any (cA : ClassId) (a : vp_A) : ∃ z, vp_cell cA a = arrV cA a.1 z := by
  obtain ⟨n, x⟩ := a
  rcases x with f | f | f | f | f
  · exact ⟨fun j => .int (f j), rfl⟩
  · exact ⟨fun j => .long (f j), rfl⟩
  · exact ⟨fun j => .float (f j), rfl⟩
  · exact ⟨fun j => .double (f j), rfl⟩
  · exact ⟨fun j => va_rf (f j), rfl⟩
theorem r_alen {r m : Nat} (D : decode (tB t) pc = .ok (.arraylength, 1)) (hm : 0 < m ∧ m ≤ 8) (hk : hkd h r / 100 = m) (n : R g d t (pc + 1) ls (.int (nI (hln h r)) :: st) h Q) : R g d t pc ls (.ref r :: st) h Q := by
  intro w
  obtain ⟨o, h', a, b, c, n⟩ := n w
  refine ⟨o, h', a, b, c, fun _ _ _ _ _ _ _ _ _ _ _ _ _ _ _ _ X hr hS hl hf => ?_⟩
  obtain ⟨hp, -, -, hc⟩ := hS.arr hk hm.1
  have hA := (X.2.2.2.2.2.2.2.1.arr hm).1
  have hcell : ∃ z, vp_cell (gAc g m) (arrOf h r m) = arrV (gAc g m) (hln h r) z := vp_cell_any _ _
  obtain ⟨z, hz⟩ := hcell
  rw [hz] at hc
  rw [List.map_cons, mv_ref, mvr_pos hp]
  exact W.alen (n := nI (hln h r)) X.1 X.2.1 hc (hA _ z) (by rw [arrV_size] <;> rfl) rfl rfl D (n X hr hS hl hf)
/-- what a new thing leaves -/
theorem Sim.mk {H H' : Heap} {kk n ww : Nat} (hS : Sim g h H) (hk : 0 < kk) (hk7 : kk = 7 → ∃ cell : Cell, H'[H.size]? = some cell ∧ cell.monitor = {}) (z1 : H'.size = H.size + 1) (o1 : ∀ q : Nat, q < H.size → H'[q]? = H[q]?) (hat : va_at (gC g, gI g) cl_ (H.size, ent g (hnew kk n ww h) (hnx h)) H') : Sim g (hnew kk n ww h) H' := by
  obtain ⟨a1, a2, a3, a4, a5⟩ := hS
  refine ⟨by rw [z1, hnx_hnew]; omega, by omega, fun q hq => by rw [o1 q (by omega)]; exact a3 q hq, a4.hnew kk n ww, fun x hx => ?_⟩
  by_cases hxn : x = hnx h
  · subst hxn
    refine ⟨?_, fun _ => by omega, fun h7 => ?_⟩
    · rw [show hnx h - 1 = H.size by omega]; exact hat
    · rw [hkd_hnew, if_pos rfl] at h7
      rw [show hnx h - 1 = H.size by omega]; exact hk7 h7
  · rw [hkd_hnew, if_neg hxn] at hx
    obtain ⟨b1, b2, b3⟩ := a5 x hx
    have hlt := a4.lt hx
    have hp := a4.pos hx
    have e0 : H'[x - 1]? = H[x - 1]? := o1 _ (by omega)
    have e9 : ent g (hnew kk n ww h) x = ent g h x := ent_arr_ne (by rw [hkd_hnew, if_neg hxn]) (by rw [hln_hnew, if_neg hxn]) (fun _ => rfl) (fun _ => rfl) (fun _ => rfl) (fun _ => rfl) (fun _ => rfl) (fun _ => rfl)
    refine ⟨?_, by rw [hkd_hnew, if_neg hxn]; exact b2, by rw [hkd_hnew, if_neg hxn, e0]; exact b3⟩
    rw [e9]
    exact b1.kept e0
theorem r_new {idx ci n : Nat} {C : String} {T : u_T} (D : decode (tB t) pc = .ok (.new idx, 3)) (hq : cl_[ci]? = some (C, T, n)) (hci : 0 < ci ∧ ci < 50) (hl0 : Cond.classLink (tO t) idx C ∈ lw_all) (hins : Cond.instantiable C n ∈ lw_all) (hini : Cond.initialized C ∈ lw_all) (k : R g d t (pc + 3) ls (.ref (hnx h) :: st) (hnew ci 0 (n + 1) h) Q) : R g d t pc ls st h Q := by
  intro w
  have w1 := w.hnew ci 0 (n + 1)
  obtain ⟨o, h', a, b, c, k⟩ := k w1
  refine ⟨o, h', a, b, (Ext.hnew w ci 0 (n + 1)).tr c, fun p e RR s m args below meth cc H locs cells slots mc ms lsA X hr hS hl hf => ?_⟩
  have hGK := X.2.2.2.2.2.2.2.1
  have hts := X.2.2.2.2.2.2.1
  have hKn := hGK.2.1.1 ci _ hq
  have hwle : hw h + (n + 1) ≤ hw h' := c.2.1
  have hr0 := hr
  obtain ⟨r1, r2, r3, r4, r5, r6⟩ := hr
  refine W.newcK X.1 X.2.1 X.2.2.2.2.2.1 (hts _ hl0) (hts _ hins) (hts _ hini) rfl D (by omega) (by omega) hKn.2.1 rfl fun H1 kC hkC e1 z1 o1 => ?_
  have hS1 : Sim g (hnew ci 0 (n + 1) h) H1 := by
    refine hS.mk hci.1 (fun _ => ⟨_, e1, rfl⟩) z1 o1 ?_
    have hkd0 : hkd (hnew ci 0 (n + 1) h) (hnx h) = ci := kd_self h ci 0 (n + 1)
    have hkc : kci ci = ci := by rw [kci, if_pos hci.2]
    rw [ent_obj (by rw [hkd0]; omega), hkd0, hkc]
    refine ⟨_, hq, (u_born (clty ci) hts (cl_in ci _ hq) hKn hkC e1 (cl_ty ci _ hq)).to (fun j hj => ?_)⟩
    have hfl := fids_len ci _ hq
    obtain ⟨f, hf9⟩ : ∃ f, (fids ci)[j]? = some f := ⟨_, List.getElem?_eq_getElem (by rw [hfl]; exact hj)⟩
    have hz := (w.2.2 (hnx h) (Nat.le_refl _)).2.2.1 f
    have hd := cl_def ci _ hq j f hj hf9
    rw [hd]
    simp only [vp_V, List.getD_eq_getElem?_getD, List.getElem?_map, hf9, Option.map_some, Option.getD_some, fval]
    split
    · rw [show hF (hnew ci 0 (n + 1) h) f (hnx h) = hF h f (hnx h) from rfl, hz.1]
    · rw [show hG (hnew ci 0 (n + 1) h) f (hnx h) = hG h f (hnx h) from rfl, hz.2]; rfl
  have e9 : Value.ref H.size = mv (.ref (hnx h)) := by
    rw [mv_ref, mvr_pos w.1, show hnx h - 1 = H.size by have := hS.1; omega]
  refine W.widen (k := cells + (n + 1)) (n := slots + (n + 1)) (by omega) (by omega) ?_
  show W _ _ _ _ _ _ _ _ _ _ _ _ _ _ _ (F0 m (pc + 3) lsA (Value.ref H.size :: List.map mv st))
  rw [e9]
  refine k X ⟨r1, r2, ?_, ?_, r5, r6⟩ hS1 hl hf
  · show cells + (n + 1) + (hw h' - (hw h + (n + 1))) ≤ mc
    omega
  · show slots + (n + 1) + (hw h' - (hw h + (n + 1))) ≤ ms
    omega
end NEWR
