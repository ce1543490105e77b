/-! ===== RULES: new arrays, casts, Object.<init>, Math ===== -/
set_option maxRecDepth 100000
section MISCR
variable {g : PG} {d : Nat} {t : MT} {pc : Nat} {ls st : List Value} {h : PH} {Q : Out → PH → Prop}
theorem kk_hund {kk m : Nat} (hkk : kk / 100 = m) (hm : 0 < m) : 100 ≤ kk := by omega
theorem Sim.mkA {H H' : Heap} {kk n m ww : Nat} {z : Value} (hS : Sim g h H) (hm : 0 < m) (hkk : kk / 100 = m) (z1 : H'.size = H.size + 1) (o1 : ∀ q : Nat, q < H.size → H'[q]? = H[q]?) (e1 : H'[H.size]? = some (arrV (gAc g m) n (fun _ => z)))
    (hz : vp_cell (gAc g m) (arrOf (hnew kk n ww h) (hnx h) m) = arrV (gAc g m) n (fun _ => z)) : Sim g (hnew kk n ww h) H' := by
  have h100 := kk_hund hkk hm
  refine hS.mk (by omega) (fun q => by omega) z1 o1 ?_
  have hkd0 : hkd (hnew kk n ww h) (hnx h) = kk := kd_self h kk n ww
  rw [ent_arr (by rw [hkd0]; exact h100), hkd0, hkk]
  show H'[H.size]? = some (vp_cell _ _)
  rw [hz]
  exact e1
theorem aty_cell {m n kk ww : Nat} (w : WF h) (hm : 0 < m ∧ m ≤ 8) : vp_cell (gAc g m) (arrOf (hnew kk n ww h) (hnx h) m) = arrV (gAc g m) n (fun _ => defaultValue (aty m)) := by
  have hz := (w.2.2 (hnx h) (Nat.le_refl _)).2.2.2
  have hl : hln (hnew kk n ww h) (hnx h) = n := ln_self h kk n ww
  have eA : (fun i => hA (hnew kk n ww h) (hnx h) i) = fun _ => 0 := funext (fun i => (hz i).1)
  have eL : (fun i => hL (hnew kk n ww h) (hnx h) i) = fun _ => 0 := funext (fun i => (hz i).2.2.1)
  have eD : (fun i => hD (hnew kk n ww h) (hnx h) i) = fun _ => 0 := funext (fun i => (hz i).2.2.2)
  have eB : (fun i => arrO (hB (hnew kk n ww h) (hnx h) i)) = fun _ => none := funext (fun i => by rw [show hB (hnew kk n ww h) (hnx h) i = hB h (hnx h) i from rfl, (hz i).2.1]; rfl)
  unfold arrOf
  rw [hl, eA, eL, eD, eB]
  match m, hm with
  | 1, _ => rfl
  | 2, _ => rfl
  | 3, _ => rfl
  | 4, _ => rfl
  | 5, _ => rfl
  | 6, _ => rfl
  | 7, _ => rfl
  | 8, _ => rfl
  | 0, hm => exact absurd hm.1 (by decide)
  | k + 9, hm => exact absurd hm.2 (by omega)
theorem r_newa {atype : ArrayType} {m kk n : Nat} {x : Int32} (D : decode (tB t) pc = .ok (.newarray atype, 2)) (hty : newarray.typeOf atype = aty m) (hm : 0 < m ∧ m ≤ 5) (hkk : kk / 100 = m) (harr : Cond.arrayClass (newarray.typeOf atype) ∈ lw_all) (hx0 : ¬ x < 0) (hx : x.toNatClampNeg = n) (hb0 : n * componentBytes (newarray.typeOf atype) ≤ 536870912) (k : R g d t (pc + 2) ls (.ref (hnx h) :: st) (hnew kk n (n + 1) h) Q) : R g d t pc ls (.int x :: st) h Q := by
  intro w
  obtain ⟨o, h', a, b, c, k⟩ := k (w.hnew kk n (n + 1))
  refine ⟨o, h', a, b, (Ext.hnew w kk n (n + 1)).tr c, fun p e RR s m9 args below meth cc H locs cells slots mc ms lsA X hr hS hl hf => ?_⟩
  have hGK := X.2.2.2.2.2.2.2.1
  have hwle : hw h + (n + 1) ≤ hw h' := c.2.1
  obtain ⟨r1, r2, r3, r4, r5, r6⟩ := hr
  refine va_newaK X.1 X.2.1 (X.2.2.2.2.2.2.1 _ harr) rfl D rfl hx0 hx hb0 (by omega) (by omega) rfl fun H1 cA e1 z1 o1 hAr hNm => ?_
  have hcA : cA = gAc g m := by
    have hRA := (hGK.arr (n := m) (by omega)).2
    rw [← hty] at hRA
    have h9 : s.vm.findClass ("[" ++ (newarray.typeOf atype).toString) = some (gAc g m) := by
      generalize newarray.typeOf atype = ty at hRA hty
      match m, hm with
      | 1, _ => subst hty; exact hRA
      | 2, _ => subst hty; exact hRA
      | 3, _ => subst hty; exact hRA
      | 4, _ => subst hty; exact hRA
      | 5, _ => subst hty; exact hRA
      | 0, hm => exact absurd hm.1 (by decide)
      | k + 6, hm => exact absurd hm.2 (by omega)
    exact Option.some.inj (hNm.symm.trans h9)
  subst hcA
  rw [hty] at e1
  have hS1 : Sim g (hnew kk n (n + 1) h) H1 := hS.mkA hm.1 hkk z1 o1 e1 (aty_cell w (by omega))
  have e9 : Value.ref H.size = mv (.ref (hnx h)) := by
    rw [mv_ref, mvr_pos w.1, show hnx h - 1 = H.size by have := hS.1; omega]
  refine W.widen (k := cells + (n + 1)) (n := slots + (n + 1)) (by omega) (by omega) ?_
  show W _ _ _ _ _ _ _ _ _ _ _ _ _ _ _ (F0 m9 (pc + 2) lsA (Value.ref H.size :: List.map mv st))
  rw [e9]
  refine k X ⟨r1, r2, ?_, ?_, r5, r6⟩ hS1 hl hf
  · show cells + (n + 1) + (hw h' - (hw h + (n + 1))) ≤ mc
    omega
  · show slots + (n + 1) + (hw h' - (hw h + (n + 1))) ≤ ms
    omega
theorem r_anew {idx m kk n : Nat} {C : String} {x : Int32} (D : decode (tB t) pc = .ok (.anewarray idx, 3)) (hC : aty m = .object C) (hm : 6 ≤ m ∧ m ≤ 8) (hkk : kk / 100 = m) (hl0 : Cond.classLink (tO t) idx C ∈ lw_all) (hov : Cond.arrayOver (.object C) ∈ lw_tbl) (hx0 : ¬ x < 0) (hx : x.toNatClampNeg = n) (hb0 : n * 4 ≤ 536870912) (k : R g d t (pc + 3) ls (.ref (hnx h) :: st) (hnew kk n (n + 1) h) Q) : R g d t pc ls (.int x :: st) h Q := by
  intro w
  obtain ⟨o, h', a, b, c, k⟩ := k (w.hnew kk n (n + 1))
  refine ⟨o, h', a, b, (Ext.hnew w kk n (n + 1)).tr c, fun p e RR s m9 args below meth cc H locs cells slots mc ms lsA X hr hS hl hf => ?_⟩
  have hGK := X.2.2.2.2.2.2.2.1
  have hwle : hw h + (n + 1) ≤ hw h' := c.2.1
  obtain ⟨r1, r2, r3, r4, r5, r6⟩ := hr
  subst hx
  refine W.anew X.1 X.2.1 X.2.2.2.2.2.1 (X.2.2.2.2.2.2.1 _ hl0) (show (Cond.arrayOver (.object C)).before args s = true from hGK.ext hov rfl) rfl D rfl hx0 hb0 (by omega) (by omega) fun cA kA comp f1 f2 f3 f4 => ?_
  generalize hH1 : H.push ({ cls := cA, slots := Array.replicate x.toNatClampNeg .null, vm := .none } : Cell) = H1
  have z1 : H1.size = H.size + 1 := by rw [← hH1, Array.size_push]
  have e1 : H1[H.size]? = some (arrV cA x.toNatClampNeg (fun _ => .null)) := by rw [← hH1, Array.getElem?_push_size, ← arrV_new]
  have o1 : ∀ q : Nat, q < H.size → H1[q]? = H[q]? := fun q hq => by rw [← hH1, Array.getElem?_push, if_neg (Nat.ne_of_lt hq)]
  have hcA : cA = gAc g m := by
    have hRA := (hGK.arr (n := m) (by omega)).2
    rw [hC] at hRA
    obtain ⟨_, _, _, _, _, h4⟩ := hRA
    exact Option.some.inj (f1.symm.trans h4)
  subst hcA
  have hz := aty_cell (g := g) (kk := kk) (n := x.toNatClampNeg) (ww := x.toNatClampNeg + 1) w (show 0 < m ∧ m ≤ 8 by omega)
  rw [hC] at hz
  have hS1 : Sim g (hnew kk x.toNatClampNeg (x.toNatClampNeg + 1) h) H1 := hS.mkA (by omega) hkk z1 o1 e1 hz
  have e9 : Value.ref H.size = mv (.ref (hnx h)) := by
    rw [mv_ref, mvr_pos w.1, show hnx h - 1 = H.size by have := hS.1; omega]
  refine W.widen (k := cells + (x.toNatClampNeg + 1)) (n := slots + (x.toNatClampNeg + 1)) (by omega) (by omega) ?_
  show W _ _ _ _ _ _ _ _ _ _ _ _ _ _ _ (F0 m9 (pc + 3) lsA (Value.ref H.size :: List.map mv st))
  rw [e9]
  refine k X ⟨r1, r2, ?_, ?_, r5, r6⟩ hS1 hl hf
  · show cells + (x.toNatClampNeg + 1) + (hw h' - (hw h + (x.toNatClampNeg + 1))) ≤ mc
    omega
  · show slots + (x.toNatClampNeg + 1) + (hw h' - (hw h + (x.toNatClampNeg + 1))) ≤ ms
    omega
/-- checkcast: null, or a kind that the class takes -/
theorem r_castN {idx : Nat} (D : decode (tB t) pc = .ok (.checkcast idx, 3)) (k : R g d t (pc + 3) ls (.ref 0 :: st) h Q) : R g d t pc ls (.ref 0 :: st) h Q := by
  intro w
  obtain ⟨o, h', a, b, c, k⟩ := k w
  exact ⟨o, h', a, b, c, fun _ _ _ _ _ _ _ _ _ _ _ _ _ _ _ _ X hr hS hl hf => lv_castN X.1 X.2.1 D (k X hr hS hl hf)⟩
theorem r_castK {idx kv x : Nat} {C : String} (D : decode (tB t) pc = .ok (.checkcast idx, 3)) (hl0 : Cond.classLink (tO t) idx C ∈ lw_all) (hk : hkd h x = kv) (hkv : 0 < kv ∧ kv < 100) (hc : Cond.castable (kcl kv) C ∈ lw_tbl ∨ kcl kv = C) (k : R g d t (pc + 3) ls (.ref x :: st) h Q) : R g d t pc ls (.ref x :: st) h Q := by
  intro w
  obtain ⟨o, h', a, b, c, k⟩ := k w
  refine ⟨o, h', a, b, c, fun p e RR s m9 args below meth cc H locs cells slots mc ms lsA X hr hS hl hf => ?_⟩
  have hGK := X.2.2.2.2.2.2.2.1
  obtain ⟨hvp, q, hq, -⟩ := hS.obj (r := x) (by omega) (by omega)
  obtain ⟨cv, z1, z2, z3⟩ := hS.cell hGK (r := x) (by omega) (by omega)
  rw [hk] at z3 hq
  rw [List.map_cons, mv_ref, mvr_pos hvp]
  have k := k X hr hS hl hf (p := p) (e := e) (below := below)
  rw [List.map_cons, mv_ref, mvr_pos hvp] at k
  rcases hc with hc | hc
  · exact va_castY X.1 X.2.1 X.2.2.2.2.2.1 (X.2.2.2.2.2.2.1 _ hl0) (hGK.ext hc rfl) ⟨cv, z1, by rw [z2]; rfl, z3⟩ D k
  · obtain ⟨cC, h9⟩ := hGK.cls hq
    rw [hc] at z3 h9
    exact va_castS X.1 X.2.1 X.2.2.2.2.2.1 (X.2.2.2.2.2.2.1 _ hl0) h9 ⟨cv, z1, by rw [z2]; rfl, z3⟩ D k
theorem r_instN {idx : Nat} (D : decode (tB t) pc = .ok (.instanceof idx, 3)) (k : R g d t (pc + 3) ls (.int 0 :: st) h Q) : R g d t pc ls (.ref 0 :: st) h Q := by
  intro w
  obtain ⟨o, h', a, b, c, k⟩ := k w
  exact ⟨o, h', a, b, c, fun _ _ _ _ _ _ _ _ _ _ _ _ _ _ _ _ X hr hS hl hf => lv_instN X.1 X.2.1 D (k X hr hS hl hf)⟩
theorem r_instK {idx kv x : Nat} {C : String} (D : decode (tB t) pc = .ok (.instanceof idx, 3)) (hl0 : Cond.classLink (tO t) idx C ∈ lw_all) (hk : hkd h x = kv) (hkv : 0 < kv ∧ kv < 100) (hc : Cond.castable (kcl kv) C ∈ lw_tbl ∨ kcl kv = C) (k : R g d t (pc + 3) ls (.int 1 :: st) h Q) : R g d t pc ls (.ref x :: st) h Q := by
  intro w
  obtain ⟨o, h', a, b, c, k⟩ := k w
  refine ⟨o, h', a, b, c, fun p e RR s m9 args below meth cc H locs cells slots mc ms lsA X hr hS hl hf => ?_⟩
  have hGK := X.2.2.2.2.2.2.2.1
  obtain ⟨hvp, q, hq, -⟩ := hS.obj (r := x) (by omega) (by omega)
  obtain ⟨cv, z1, z2, z3⟩ := hS.cell hGK (r := x) (by omega) (by omega)
  rw [hk] at z3 hq
  rw [List.map_cons, mv_ref, mvr_pos hvp]
  rcases hc with hc | hc
  · exact va_instY X.1 X.2.1 X.2.2.2.2.2.1 (X.2.2.2.2.2.2.1 _ hl0) (hGK.ext hc rfl) ⟨cv, z1, by rw [z2]; rfl, z3⟩ D (k X hr hS hl hf)
  · obtain ⟨cC, h9⟩ := hGK.cls hq
    rw [hc] at z3 h9
    exact va_instS X.1 X.2.1 X.2.2.2.2.2.1 (X.2.2.2.2.2.2.1 _ hl0) h9 ⟨cv, z1, by rw [z2]; rfl, z3⟩ D (k X hr hS hl hf)
/-- Object.<init> -/
theorem cat_map (l : List Value) : ((l.map mv).map fun v => v.category).sum = (l.map fun v => v.category).sum := by
  rw [List.map_map]
  congr 1
  apply List.map_congr_left
  intro v _
  exact mv_cat v
theorem r_oinit {idx x : Nat} (D : decode (tB t) pc = .ok (.invokespecial idx, 3)) (hl0 : Cond.methodLink (tO t) idx Lib.objectInit ∈ lw_all) (h1 : Cond.instanceMethod Lib.objectInit ∈ lw_all) (h2 : Cond.code Lib.objectInit ⟨#[0xb1]⟩ 1 none ∈ lw_all) (hx : 0 < x) (hst : (st.map fun v => v.category).sum ≤ 8) (k : R g d t (pc + 3) ls st h Q) : R g d t pc ls (.ref x :: st) h Q := by
  intro w
  obtain ⟨o, h', a, b, c, k⟩ := k w
  refine ⟨o, h', a, b, c, fun p e RR s m9 args below meth cc H locs cells slots mc ms lsA X hr hS hl hf => ?_⟩
  rw [List.map_cons, mv_ref, mvr_pos hx]
  refine W.objInit X.1 X.2.1 X.2.2.2.2.2.1 (X.2.2.2.2.2.2.1 _ hl0) (X.2.2.2.2.2.2.1 _ h1) (X.2.2.2.2.2.2.1 _ h2) rfl (by rw [X.2.2.2.2.1]; exact hl.1) rfl D (by have := hr.1; omega) ?_ (k X hr hS hl hf)
  have e9 : (F0 m9 pc lsA (Value.ref (x - 1) :: List.map mv st)).monitorRoom = 0 := rfl
  rw [e9, cat_map]
  have := hr.2.1
  omega
section MATHR
variable {i : Nat} {x y : Int32}
theorem r_mmin (D : decode (tB t) pc = .ok (.invokestatic i, 3)) (hl0 : Cond.methodLink (tO t) i Lib.Math.min.name ∈ lw_all) (h1 : Cond.static Lib.Math.min.name ∈ lw_all) (h2 : Cond.initialized "java/lang/Math" ∈ lw_all) (h3 : Cond.code Lib.Math.min.name Lib.Math.min.code 2 (some .int) ∈ lw_all) (hst : (st.map fun v => v.category).sum ≤ 8) (k : R g d t (pc + 3) ls (.int (if y < x then y else x) :: st) h Q) : R g d t pc ls (.int y :: .int x :: st) h Q := by
  intro w
  obtain ⟨o, h', a, b, c, k⟩ := k w
  refine ⟨o, h', a, b, c, fun p e RR s m9 args below meth cc H locs cells slots mc ms lsA X hr hS hl hf => ?_⟩
  exact va_mmin X.1 X.2.1 (by rw [X.2.2.2.2.1]; exact hl.1.symm) X.2.2.2.2.2.1 (X.2.2.2.2.2.2.1 _ hl0) (X.2.2.2.2.2.2.1 _ h1) (X.2.2.2.2.2.2.1 _ h2) (X.2.2.2.2.2.2.1 _ h3) (by have := hr.1; omega) (by rw [cat_map]; have := hr.2.1; omega) (Nat.le_trans (Nat.le_trans (Nat.le_add_right _ _) hr.2.2.1) hr.2.2.2.2.1) (Nat.le_trans (Nat.le_trans (Nat.le_add_right _ _) hr.2.2.2.1) hr.2.2.2.2.2) D (k X hr hS hl hf)
theorem r_mmax (D : decode (tB t) pc = .ok (.invokestatic i, 3)) (hl0 : Cond.methodLink (tO t) i Lib.Math.max.name ∈ lw_all) (h1 : Cond.static Lib.Math.max.name ∈ lw_all) (h2 : Cond.initialized "java/lang/Math" ∈ lw_all) (h3 : Cond.code Lib.Math.max.name Lib.Math.max.code 2 (some .int) ∈ lw_all) (hst : (st.map fun v => v.category).sum ≤ 8) (k : R g d t (pc + 3) ls (.int (if x < y then y else x) :: st) h Q) : R g d t pc ls (.int y :: .int x :: st) h Q := by
  intro w
  obtain ⟨o, h', a, b, c, k⟩ := k w
  refine ⟨o, h', a, b, c, fun p e RR s m9 args below meth cc H locs cells slots mc ms lsA X hr hS hl hf => ?_⟩
  exact va_mmax X.1 X.2.1 (by rw [X.2.2.2.2.1]; exact hl.1.symm) X.2.2.2.2.2.1 (X.2.2.2.2.2.2.1 _ hl0) (X.2.2.2.2.2.2.1 _ h1) (X.2.2.2.2.2.2.1 _ h2) (X.2.2.2.2.2.2.1 _ h3) (by have := hr.1; omega) (by rw [cat_map]; have := hr.2.1; omega) (Nat.le_trans (Nat.le_trans (Nat.le_add_right _ _) hr.2.2.1) hr.2.2.2.2.1) (Nat.le_trans (Nat.le_trans (Nat.le_add_right _ _) hr.2.2.2.1) hr.2.2.2.2.2) D (k X hr hS hl hf)
theorem r_mabs (D : decode (tB t) pc = .ok (.invokestatic i, 3)) (hl0 : Cond.methodLink (tO t) i Lib.Math.abs.name ∈ lw_all) (h1 : Cond.static Lib.Math.abs.name ∈ lw_all) (h2 : Cond.initialized "java/lang/Math" ∈ lw_all) (h3 : Cond.code Lib.Math.abs.name Lib.Math.abs.code 1 (some .int) ∈ lw_all) (hst : (st.map fun v => v.category).sum ≤ 8) (k : R g d t (pc + 3) ls (.int (if 0 ≤ x then x else 0 - x) :: st) h Q) : R g d t pc ls (.int x :: st) h Q := by
  intro w
  obtain ⟨o, h', a, b, c, k⟩ := k w
  refine ⟨o, h', a, b, c, fun p e RR s m9 args below meth cc H locs cells slots mc ms lsA X hr hS hl hf => ?_⟩
  exact va_mabs X.1 X.2.1 (by rw [X.2.2.2.2.1]; exact hl.1.symm) X.2.2.2.2.2.1 (X.2.2.2.2.2.2.1 _ hl0) (X.2.2.2.2.2.2.1 _ h1) (X.2.2.2.2.2.2.1 _ h2) (X.2.2.2.2.2.2.1 _ h3) (by have := hr.1; omega) (by rw [cat_map]; have := hr.2.1; omega) (Nat.le_trans (Nat.le_trans (Nat.le_add_right _ _) hr.2.2.1) hr.2.2.2.2.1) (Nat.le_trans (Nat.le_trans (Nat.le_add_right _ _) hr.2.2.2.1) hr.2.2.2.2.2) D (k X hr hS hl hf)
end MATHR
end MISCR
