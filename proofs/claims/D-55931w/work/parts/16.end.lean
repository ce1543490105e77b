/-! ===== a method's contract out of its body; throws; arraycopy ===== -/
set_option maxRecDepth 100000
section ENDR
variable {g : PG} {d : Nat} {t : MT} {pc : Nat} {ls st : List Value} {h : PH} {Q : Out → PH → Prop}
theorem lv_args_get : ∀ (vs : List Value) (i k : Nat) (v : Value), (∀ u ∈ vs, u.category = 1) → vs[k]? = some v → (i + k, v) ∈ lv_args i vs := by
  intro vs
  induction vs with
  | nil => intro i k v _ h; cases h
  | cons w l ih =>
    intro i k v hc h
    rw [lv_args, if_neg (by rw [hc w List.mem_cons_self]; decide)]
    cases k with
    | zero => cases h; exact List.mem_cons_self
    | succ k =>
      have h1 := ih (i + 1) k v (fun u hu => hc u (List.mem_cons_of_mem _ hu)) h
      rw [show i + 1 + k = i + (k + 1) by omega] at h1
      exact List.mem_cons_of_mem _ h1
theorem lg_sl_len (vs : List Value) (hc : ∀ u ∈ vs, u.category = 1) : (lg_sl vs).length = vs.length := by
  induction vs with
  | nil => rfl
  | cons w l ih =>
    have h1 := ih (fun u hu => hc u (List.mem_cons_of_mem _ hu))
    unfold lg_sl at h1 ⊢
    rw [List.flatMap_cons, if_neg (by rw [hc w List.mem_cons_self]; decide), List.length_append, h1]
    simp
    omega
theorem entry_has {n : Nat} {args : List Value} (hc : ∀ u ∈ args, u.category = 1) (hn : args.length ≤ n) : lv_has ((lg_sl (args.map mv) ++ List.replicate (n - (lg_sl (args.map mv)).length) Slot.unset).toArray) n (lpr 0 (args ++ List.replicate (n - args.length) .null)) := by
  have hc' : ∀ u ∈ args.map mv, u.category = 1 := by
    intro u hu
    obtain ⟨v, hv, rfl⟩ := List.mem_map.mp hu
    rw [mv_cat]; exact hc v hv
  have hl := lg_sl_len _ hc'
  rw [List.length_map] at hl
  have h0 := lv_entry (args.map mv) (n := n) (by rw [hl]; exact hn)
  refine ⟨h0.1, h0.2.1, fun q hq => ?_⟩
  obtain ⟨j, w⟩ := q
  obtain ⟨k, v, e1, e2, e3, e4⟩ := lpr_of _ _ _ _ hq
  have e1 : j = k := by omega
  subst e1
  subst e4
  refine h0.2.2 _ ?_
  have e5 : args[j]? = some v := by
    by_cases hj : j < args.length
    · rw [List.getElem?_append_left hj] at e2; exact e2
    · rw [List.getElem?_append_right (by omega)] at e2
      exact absurd (List.eq_of_mem_replicate (List.mem_of_getElem? e2)) e3
  have h1 := lv_args_get (args.map mv) 0 j (mv v) hc' (by rw [List.getElem?_map, e5]; rfl)
  rw [Nat.zero_add] at h1
  exact h1
/-- a method's contract out of its body, from its first instruction -/
theorem C_of_R {args : List Value} (hy : plainName (tO t) = true) (hc : args.all (fun u => u.category == 1) = true) (hn : args.length ≤ tL t) (hls : args ++ List.replicate (tL t - args.length) .null = ls) (k : R g d t 0 ls [] h Q) : C g (d + 1) t args h Q := by
  intro w
  obtain ⟨o, h', a, b, c, k⟩ := k w
  refine ⟨o, h', a, b, c, ?_⟩
  subst hls
  have hc1 : ∀ u ∈ args, u.category = 1 := fun u hu => by have := List.all_eq_true.mp hc u hu; simpa using this
  have body : ∀ (ws : List Cond), ws = tW t → ∀ p e s m (args9 : Array Value) below meth cc s₁, BodyLoose p (gL g) (tY t) (headSpec ws { frames := d + 1, cells := hw h' - hw h, slots := hw h' - hw h, locals := 64 * (d + 1) }) (tB t) (tL t) (tR t) e s m args9 below meth cc s₁ → cc.maxLocals = tL t → cc.exceptionTable.toList = tableOf (tH t) → PcP g args h args9 s →
      W p (gL g) e { frames := d + 1, cells := hw h' - hw h, slots := hw h' - hw h, locals := 64 * (d + 1) } s m args9 below meth cc s.heap [] 0 0 (vx_MQ below (QcP g o h') (XcP g o h') args9 s (hw h' - hw h) (hw h' - hw h) (gOld g)) (entryFrame m args9 (tL t)) := by
    intro ws hws p e s m args9 below meth cc s₁ B hml htab hP
    obtain ⟨rfl, hG, hS⟩ := hP
    have hts0 := atoms_spec (ws := ws) B.pre
    have hts : ∀ w ∈ lw_all, w.before _ s = true := fun w hw9 => hts0 w (by rw [hws]; exact List.mem_cons_of_mem _ hw9)
    rw [lg_entry_eq]
    refine k (lsA := _) ⟨B.exec, B.bytes, B.returns, B.notSynchronized, hml, findClass_of_methodNamed B.named, hts, hG, htab, (name_of_methodNamed B.named B.method).1⟩ ⟨Nat.le_refl _, show 64 * d + 64 ≤ 64 * (d + 1) by omega, by omega, by omega, Nat.le_refl _, Nat.le_refl _⟩ hS (entry_has hc1 hn) (fun q hq => absurd hq List.not_mem_nil)
  by_cases hH : tH t = []
  · refine vx_ofW (cc := tB t) (maxL := tL t) (ret := tR t) (ws' := lw_all) hy (tW_nil hH) ?_
    intro p e s m args9 below meth cc s₁ B hml ht hP
    refine body (tW t) rfl p e s m args9 below meth cc s₁ B hml ?_ hP
    rw [hH]
    cases hx : cc.exceptionTable.toList with
    | nil => rfl
    | cons z l => exact (ht z (by rw [hx]; exact List.mem_cons_self)).elim
  · refine vx_ofWH (cc := tB t) (maxL := tL t) (ret := tR t) (hh := tH t) (ws' := lw_all) hy (tW_hh hH) ?_
    intro p e s m args9 below meth cc s₁ B hml hP
    refine body (tW t) rfl p e s m args9 below meth cc s₁ B hml ?_ hP
    exact vx_table (x := tY t) B (atoms_spec (ws := tW t) B.pre _ (by rw [tW_hh hH]; exact List.mem_cons_self))
theorem hasRoom_le {s : State} {pl : Platform} {r r' : Room} (hh : s.hasRoom pl r' = true) (h1 : r.frames ≤ r'.frames) (h2 : r.cells ≤ r'.cells) (h3 : r.slots ≤ r'.slots) (h4 : r.locals ≤ r'.locals) : s.hasRoom pl r = true := by
  simp only [State.hasRoom, Bool.and_eq_true, decide_eq_true_eq] at hh ⊢
  obtain ⟨⟨⟨⟨a, b1, b2, b3, b4, b5⟩, c⟩, d⟩, e⟩ := hh
  exact ⟨⟨⟨⟨by omega, by omega, by omega, by omega, by omega, b5⟩, by omega⟩, by omega⟩, e⟩
/-- more room does no harm -/
theorem C.deep {y : MT} {args : List Value} {d' : Nat} (k : C g d y args h Q) (hd : d ≤ d') : C g d' y args h Q := by
  intro w
  obtain ⟨o, h', a, b, c, k⟩ := k w
  refine ⟨o, h', a, b, c, ?_⟩
  intro p e ha hcas hclk s m args9 below hf happ hP hK
  refine k p e ha hcas hclk s m args9 below hf ?_ hP hK
  obtain ⟨hrun, hable, halone, hname, hhears, hinit, hroom, hpre⟩ := (Spec.appliesLoose_iff hf).mp happ
  exact (Spec.appliesLoose_iff hf).mpr ⟨hrun, hable, halone, hname, hhears, hinit, hasRoom_le hroom hd (Nat.le_refl _) (Nat.le_refl _) (show 64 * d ≤ 64 * d' by omega), hpre⟩
/-- a row of a table that lets class E pass at pc -/
def pass9 (own : String) (E : String) (pc : Nat) (z : ExceptionTableEntry) : Prop := covers z pc = false ∨ (z.catchType ≠ 0 ∧ ∃ nm : String, Cond.classLink own z.catchType nm ∈ lw_all ∧ (E, nm) ∈ ncT)
theorem pass9.use {own E : String} {z : ExceptionTableEntry} {s : State} {args : Array Value} (hts : ∀ w ∈ lw_all, w.before args s = true) (hG : GK g s) (hp : pass9 own E pc z) : covers z pc = false ∨ (z.catchType ≠ 0 ∧ ∃ nm : String, (Cond.classLink own z.catchType nm).before args s = true ∧ va_Nc E nm s) := by
  rcases hp with q | ⟨q, nm, q1, q2⟩
  · exact Or.inl q
  · exact Or.inr ⟨q, nm, hts _ q1, hG.2.2.2.2.2.2.1 _ q2⟩
/-- the throw leaves the method -/
theorem XR_out {r : Nat} (hk : hkd h r ≠ 0 ∧ hkd h r < 100) (hpass : ∀ z ∈ tableOf (tH t), pass9 (tO t) (kcl (hkd h r)) pc z) (hQ : Q (.inr r) h) : XR g d t pc ls r h Q := by
  intro w
  refine ⟨.inr r, h, hQ, w, Ext.rf h, fun p e RR s m args0 below meth c H locs cells slots mc ms lsA rest X hr hS hl hf hk' => ?_⟩
  have hG := X.2.2.2.2.2.2.2.1
  have htab := X.2.2.2.2.2.2.2.2.1
  obtain ⟨ce, z1, z2, z3⟩ := hS.cell hG hk.1 hk.2
  obtain ⟨r1, r2, r3, r4, r5, r6⟩ := hr
  have hp : 0 < r := hS.2.2.2.1.pos hk.1
  exact vx_outP X.2.2.2.2.2.1 X.2.2.2.1 (fun z hz => pass9.use X.2.2.2.2.2.2.1 hG (hpass z (by rw [← htab]; exact hz))) z1 z2 z3 (fun t9 ht _ => ⟨r, rfl, by omega, hk.1, hk.2, rfl, by rw [ht]; exact hS⟩) hf (by omega) (by omega)
/-- the throw is caught -/
theorem XR_catch {r : Nat} {name : String} {pre suf : List ExceptionTableEntry} {x : ExceptionTableEntry} (hk : hkd h r ≠ 0 ∧ hkd h r < 100) (hsplit : tableOf (tH t) = pre ++ x :: suf) (hpass : ∀ z ∈ pre, pass9 (tO t) (kcl (hkd h r)) pc z) (hx : covers x pc = true) (h0 : x.catchType ≠ 0)
    (hlink : Cond.classLink (tO t) x.catchType name ∈ lw_all) (hcast : Cond.castable (kcl (hkd h r)) name ∈ lw_tbl) (k : R g d t x.handlerPc ls [.ref r] h Q) : XR g d t pc ls r h Q := by
  intro w
  obtain ⟨o, h', a, b, c, n⟩ := k w
  refine ⟨o, h', a, b, c, fun p e RR s m args0 below meth c H locs cells slots mc ms lsA rest X hr hS hl hf hk' => ?_⟩
  have hG := X.2.2.2.2.2.2.2.1
  have htab := X.2.2.2.2.2.2.2.2.1
  obtain ⟨ce, z1, z2, z3⟩ := hS.cell hG hk.1 hk.2
  refine vx_catch X.2.2.2.2.2.1 pre x suf (htab.trans hsplit) (fun z hz => pass9.use X.2.2.2.2.2.2.1 hG (hpass z hz)) hx h0 (X.2.2.2.2.2.2.1 _ hlink) (va_Nw.use rfl (hG.ext hcast rfl)) z1 z2 z3 ?_
  have hn := n (e := e) (below := below) X hr hS hl hf
  rw [List.map_cons, mv_ref, mvr_pos (hS.2.2.2.1.pos hk.1)] at hn
  exact hn
/-- caught by a row of every class -/
theorem XR_any {r : Nat} {pre suf : List ExceptionTableEntry} {x : ExceptionTableEntry} (hk : hkd h r ≠ 0 ∧ hkd h r < 100) (hsplit : tableOf (tH t) = pre ++ x :: suf) (hpass : ∀ z ∈ pre, pass9 (tO t) (kcl (hkd h r)) pc z) (hx : covers x pc = true) (h0 : x.catchType = 0)
    (k : R g d t x.handlerPc ls [.ref r] h Q) : XR g d t pc ls r h Q := by
  intro w
  obtain ⟨o, h', a, b, c, n⟩ := k w
  refine ⟨o, h', a, b, c, fun p e RR s m args0 below meth c H locs cells slots mc ms lsA rest X hr hS hl hf hk' => ?_⟩
  have hG := X.2.2.2.2.2.2.2.1
  have htab := X.2.2.2.2.2.2.2.2.1
  have hown := X.2.2.2.2.2.1
  obtain ⟨ce, z1, z2, z3⟩ := hS.cell hG hk.1 hk.2
  have hn := n (e := e) (below := below) X hr hS hl hf
  rw [List.map_cons, mv_ref, mvr_pos (hS.2.2.2.1.pos hk.1)] at hn
  intro T hT Y
  have hpl : e.platform.magicAccessors = ({} : Platform).magicAccessors := by rw [Y.admits.platform]
  obtain ⟨vm', Y', st⟩ := Y.thenCaughtThrough (r - 1) (g := F0 m pc lsA rest) rfl (Steps.refl _) (by rw [hT]; exact z1) (by rw [z2]; rfl) (by obtain ⟨k9, h9, -⟩ := Vm.findClass_spec z3; exact ⟨k9, h9⟩) pre x suf (htab.trans hsplit)
    (fun z hz => by
      rcases pass9.use X.2.2.2.2.2.2.1 hG (hpass z hz) with h | ⟨hz0, nm, hl1, hn1⟩
      · exact Or.inl h
      · obtain ⟨c6, hc6, hcl6⟩ := Cond.classLink_spec hown hl1 e.platform hpl
        obtain ⟨a8, b8, h1, h2, h3⟩ := hn1
        cases Option.some.inj (h1.symm.trans z3)
        cases Option.some.inj (h2.symm.trans hc6)
        exact Or.inr ⟨hz0, _, hcl6, h3⟩) hx (Or.inl h0)
  obtain ⟨t, a1, b1⟩ := hn (T.setVm vm') hT Y'
  exact ⟨t, st.trans a1, b1⟩
theorem r_athrow {r : Nat} (D : decode (tB t) pc = .ok (.athrow, 1)) (hk : hkd h r ≠ 0 ∧ hkd h r < 100) (k : XR g d t pc ls r h Q) : R g d t pc ls (.ref r :: st) h Q := by
  intro w
  obtain ⟨o, h', a, b, c, n⟩ := k w
  refine ⟨o, h', a, b, c, fun _ _ _ _ _ _ _ _ _ _ _ _ _ _ _ _ X hr hS hl hf => ?_⟩
  rw [List.map_cons, mv_ref, mvr_pos (hS.2.2.2.1.pos hk.1)]
  exact vx_athrow X.1 X.2.1 D (n X hr hS hl hf hk)
end ENDR
section Ends
variable {p : Program} {l : Launch} {e : Env} {R : Room} {s : State} {m : MethodId} {args : Array Value} {below : List Frame} {meth : Method} {c : Code} {H : Heap} {locs : List Loc} {cells slots : Nat} {Q : State → Prop}
variable {mc ms : Nat} {free : Addr → Prop} {A0 A1 : Nat → Prop} {H0 : Heap} {a : Array Value} {ls : Array Slot} {st0 rest : List Value}
variable {Qc : Array Value → State → Outcome → State → Prop} {XC : Addr → String → State → State → Prop}
theorem vx_throw1 {cc : ByteArray} {pc : Nat} (hexec : p.tables.exec = Jvm.exec) (hb : c.code = cc) (hl : l.stackTraces = false) {own cls : String} {names : List String} {ik ic mc ms : Nat} {A : Nat → Prop}
    (hown : s.vm.findClass own = some m.cls) (hcls : Bundle.fit cls = true) (hnames : ∀ n ∈ names, Bundle.fit n = true)
    (hk : (Cond.classLink own ik cls).before args s = true) (hini : (Cond.initialized cls).before args s = true) (hat : ∀ w ∈ vx_at0 own ic cls names, w.before args s = true)
    (hgood : ∀ w ∈ Cond.classLink own ik cls :: Cond.initialized cls :: vx_at0 own ic cls names, vx_ot w = true)
    (hU : vx_Zq Bundle.tN "UNASSIGNED_STACK" Bundle.steD A s H) (hN : vx_Zq Bundle.tN "SUPPRESSED_SENTINEL" Bundle.listD A s H) (hsize : ls.size = c.maxLocals)
    (d0 : decode cc pc = .ok (.new ik, 3)) (d3 : decode cc (pc + 3) = .ok (.dup, 1)) (d4 : decode cc (pc + 4) = .ok (.invokespecial ic, 3)) (d7 : decode cc (pc + 7) = .ok (.athrow, 1))
    (hout : ∀ x ∈ c.exceptionTable.toList, covers x (pc + 7) = false)
    (hRframes : names.length + 3 < R.frames) (hRlocals : (rest.map fun v => v.category).sum + (13 * (names.length + 1) + 42) ≤ R.locals) (hRcells : cells + 1 ≤ R.cells) (hRslots : slots + 6 ≤ R.slots) (hlocks : meth.locks = false)
    (hx : ∀ t : State, s.vm.Alike t.vm → t.heap.size = H.size + 1 → (∀ q : Nat, q < H.size → t.heap[q]? = H[q]?) → (∃ ce : Cell, t.heap[H.size]? = some ce ∧ ce.vm = .none ∧ s.vm.findClass cls = some ce.cls) → XC H.size cls s t)
    (hf : ∀ z ∈ locs, free z.base) (hc : cells + 1 ≤ mc) (hs : slots + 6 ≤ ms) :
    W p l e R s m args below meth c H locs cells slots (vx_MQ below Qc XC args s mc ms free) (F0 m pc ls rest) := by
  intro T hT X
  have htr : e.platform.stackTraces = false := (show e.platform.stackTraces = l.stackTraces by rw [X.admits.platform]).trans hl
  have Y := vx_rebase X (R' := { frames := R.frames, locals := R.locals, cells := 1, slots := 6 }) (Nat.le_refl _) (Nat.le_refl _) hRcells hRslots
  obtain ⟨s', hA⟩ : ∃ z, z = (T.setVm s.vm).setFrames (.invoking m args :: below) := ⟨_, rfl⟩
  rw [← hA] at Y
  have hvm : s'.vm = s.vm := by rw [hA]; rfl
  have hhp : s'.heap = H := by rw [hA]; exact hT
  have hW0 : s.WarmedH s'.vm := by rw [hvm]; exact State.WarmedH.refl s
  have hat' : ∀ w ∈ vx_at0 own ic cls names, w.before args s' = true := fun w hw => vx_ot_at hW0 hvm.symm (hgood w (List.mem_cons_of_mem _ (List.mem_cons_of_mem _ hw))) (hat w hw)
  have hk' : (Cond.classLink own ik cls).before args s' = true := vx_ot_at hW0 hvm.symm (hgood _ List.mem_cons_self) hk
  have hini' : (Cond.initialized cls).before args s' = true := vx_ot_at hW0 hvm.symm (hgood _ (List.mem_cons_of_mem _ List.mem_cons_self)) hini
  have hU' : vx_Zq Bundle.tN "UNASSIGNED_STACK" Bundle.steD A s' s'.heap := by rw [hhp]; exact vx_Zq.moved hW0.alike hU
  have hN' : vx_Zq Bundle.tN "SUPPRESSED_SENTINEL" Bundle.listD A s' s'.heap := by rw [hhp]; exact vx_Zq.moved hW0.alike hN
  have h : ∀ w ∈ Bundle.ownAtoms0 own ic cls names, w.before args s' = true := vx_own hat' (vx_isRefq hU'.1) (vx_isRefq hN'.1) hU'.2.word hN'.2.word
  have hown' : s'.vm.findClass own = some m.cls := by rw [hvm]; exact hown
  have hins : (Cond.instantiable cls 6).before args s' = true := h _ (by simp [Bundle.ownAtoms0])
  obtain ⟨vm₁, cX, kX, hfX, hkX, -, -, X₁, st1⟩ := Y.newCold hexec (own := own) (C := cls) (index := ik) (n := 6) hown' hk' hins hini'
    (g := F0 m pc ls rest) rfl (by rw [hb]; exact d0) (Nat.le_refl _) (Nat.le_refl _)
  generalize hT1 : (T.setVm vm₁).pushCell { cls := cX, slots := kX.instanceTypes.map defaultValue, vm := .none } = T1 at X₁ st1
  have hcat : (Value.ref T.heap.size).category = 1 := rfl
  have hcellA : T1.heap[T.heap.size]? = some (freshCell cX kX) := by rw [← hT1]; exact State.heap_pushCell_size _ _
  have d3' : decode c.code (pc + 3) = .ok (.dup, 1) := by rw [hb]; exact d3
  obtain ⟨U, hsteps, hrun, hend, hW, hsame, ce, hce, hO⟩ := X₁.ctorThrow0 hexec htr (own := own) (cls := cls) (names := names) (ic := ic) hown' hcls hnames h (fun x hx => nomatch hx) hfX hkX hcellA (by rw [hhp, hT]; exact Nat.le_refl _)
    (g := { method := m, pc := pc + 4, locals := ls, stack := .ref T.heap.size :: .ref T.heap.size :: rest, locked := none }) rfl hsize rfl rfl (rest := rest) rfl
    (by rw [hb]; exact d4) (by rw [hb]; exact d7) hout hRframes (by simp only [List.map_cons, List.sum_cons, hcat]; omega) hlocks
  have hsz9 : U.heap.size = H.size + 1 := by
    have z1 : U.heap.size ≤ s'.heap.size + (0 + 1) := hsame.2.2.1
    have z2 : T.heap.size < U.heap.size := (Array.getElem?_eq_some_iff.mp hce).1
    rw [hhp] at z1
    rw [hT] at z2
    omega
  obtain ⟨f1, f2⟩ := vx_frame hsame
  rw [hhp] at f1 f2
  have hWs : s.WarmedH U.vm := State.WarmedH.trans hW0 hW
  have hcl : s.vm.findClass cls = some ce.cls := by
    have h9 := hO.cls
    rw [hvm] at h9
    exact h9
  have hall : s.sameButNew ({ U with vm := s.vm } : State) locs mc ms := by
    subst hA
    obtain ⟨e1, e2⟩ := hsame
    rw [State.setFrames_setFrames] at e1
    have h2 : (T.setVm s.vm).sameButNew ({ U with vm := s.vm } : State) [] (0 + 1) (0 + 6) := ⟨e1, e2⟩
    have h3 := X.same.trans h2
    rw [List.append_nil] at h3
    exact h3.mono hc hs
  refine ⟨U, ?_, .threw T.heap.size, hrun, hend, Or.inr ⟨T.heap.size, rfl, cls, ce, locs, (by have h9 := hx U hWs.alike hsz9 (fun q hq => f2 q hq (fun z hz => nomatch hz)) ⟨ce, by rw [← hT]; exact hce, hO.vm, hcl⟩; rw [← hT] at h9; exact h9), hce, hO.vm, hcl, hWs, hall, hf⟩⟩
  refine st1 _ ?_
  show Steps p.tables e below (T1.setTop { method := m, pc := pc + 3, locals := ls, stack := .ref T.heap.size :: rest, locked := none }) _
  jvm_step X₁.here [X₁.here.top, hexec, d3', Value.category]
  exact hsteps
end Ends
section THR
variable {g : PG} {d : Nat} {t : MT} {pc : Nat} {ls st : List Value} {h : PH} {Q : Out → PH → Prop}
/-- new E; dup; invokespecial <init>(); athrow: out of the method -/
theorem r_throw0 {ik ic kE : Nat} {names : List String} (hkE : 30 < kE ∧ kE < 37) (d0 : decode (tB t) pc = .ok (.new ik, 3)) (d3 : decode (tB t) (pc + 3) = .ok (.dup, 1)) (d4 : decode (tB t) (pc + 4) = .ok (.invokespecial ic, 3)) (d7 : decode (tB t) (pc + 7) = .ok (.athrow, 1))
    (hcls : Bundle.fit (kcl kE) = true) (hnames : names.all Bundle.fit = true) (hwords : ∀ w ∈ Cond.classLink (tO t) ik (kcl kE) :: Cond.initialized (kcl kE) :: vx_at0 (tO t) ic (kcl kE) names, (w ∈ lw_all ∨ (w ∈ lw_tbl ∧ extW w = true)) ∧ vx_ot w = true)
    (hout : (tableOf (tH t)).all (fun x => !covers x (pc + 7)) = true) (hd : names.length + 3 ≤ d) (hst : (st.map fun v => v.category).sum ≤ 8) (hQ : Q (.inr (hnx h)) (hnew kE 0 7 h)) : R g d t pc ls st h Q := by
  intro w
  refine ⟨.inr (hnx h), hnew kE 0 7 h, hQ, w.hnew kE 0 7, Ext.hnew w kE 0 7, fun p e RR s m args0 below meth c H locs cells slots mc ms lsA X hr hS hl hf => ?_⟩
  have hG := X.2.2.2.2.2.2.2.1
  have hts := X.2.2.2.2.2.2.1
  have htab := X.2.2.2.2.2.2.2.2.1
  obtain ⟨r1, r2, r3, r4, r5, r6⟩ := hr
  rw [show hw (hnew kE 0 7 h) - hw h = 7 by rw [hw_hnew]; omega] at r3 r4
  have hwd : ∀ w ∈ Cond.classLink (tO t) ik (kcl kE) :: Cond.initialized (kcl kE) :: vx_at0 (tO t) ic (kcl kE) names, w.before args0 s = true := fun w hw => by
    rcases (hwords w hw).1 with q | ⟨q1, q2⟩
    · exact hts _ q
    · have h9 := (hwords w hw).2
      simp only [vx_ot, Bool.or_eq_true] at h9
      rcases h9 with z | z
      · exact va_Nw.use z (hG.ext q1 q2)
      · exact hts _ (lw_g q1 z)
  have hold : ∀ q : Nat, q < (gH g).size → ¬ gOld g q → H[q]? = (gH g)[q]? := fun q hq _ => hS.2.2.1 q hq
  refine vx_throw1 (A := gOld g) (names := names) X.1 X.2.1 hG.1 X.2.2.2.2.2.1 hcls (fun n hn => List.all_eq_true.mp hnames n hn) (hwd _ List.mem_cons_self) (hwd _ (List.mem_cons_of_mem _ List.mem_cons_self))
    (fun w hw => hwd w (List.mem_cons_of_mem _ (List.mem_cons_of_mem _ hw))) (fun w hw => (hwords w hw).2) (hG.2.2.2.2.2.2.2.1.kept hold) (hG.2.2.2.2.2.2.2.2.kept hold) (hl.1.trans X.2.2.2.2.1.symm) d0 d3 d4 d7
    (fun x hx => by have h9 := List.all_eq_true.mp hout x (by rw [← htab]; exact hx); cases hz : covers x (pc + 7) with | false => rfl | true => rw [hz] at h9; exact absurd h9 (by decide)) (by omega) (by rw [cat_map]; omega) (by omega) (by omega) X.2.2.2.1 ?_ hf (by omega) (by omega)
  intro t9 hal hsz hfr hce
  refine ⟨hnx h, rfl, hS.1.symm, by rw [kd_self]; omega, by rw [kd_self]; omega, by rw [kd_self], ?_⟩
  obtain ⟨ce, e1, e2, e3⟩ := hce
  refine hS.mk (by omega) (fun q => by omega) hsz hfr ?_
  have hkk : hkd (hnew kE 0 7 h) (hnx h) = kE := kd_self h kE 0 7
  have hci : kci kE = kE := by unfold kci; rw [if_pos (by omega)]
  unfold va_at ent
  rw [hkk, if_pos (by omega), hci]
  obtain ⟨q, hq⟩ : ∃ q, cl_[kE]? = some q := ⟨_, List.getElem?_eq_getElem (show kE < cl_.length by show kE < 37; omega)⟩
  have hq0 : q.2.2 = 0 := by
    match kE, hkE, hq with
    | 31, _, hq => cases hq; rfl
    | 32, _, hq => cases hq; rfl
    | 33, _, hq => cases hq; rfl
    | 34, _, hq => cases hq; rfl
    | 35, _, hq => cases hq; rfl
    | 36, _, hq => cases hq; rfl
    | n + 37, hkE, _ => exact absurd hkE.2 (by omega)
    | 0, hkE, _ => exact absurd hkE.1 (by omega)
    | 1, hkE, _ => exact absurd hkE.1 (by omega)
    | 2, hkE, _ => exact absurd hkE.1 (by omega)
    | 3, hkE, _ => exact absurd hkE.1 (by omega)
    | 4, hkE, _ => exact absurd hkE.1 (by omega)
    | 5, hkE, _ => exact absurd hkE.1 (by omega)
    | 6, hkE, _ => exact absurd hkE.1 (by omega)
    | 7, hkE, _ => exact absurd hkE.1 (by omega)
    | 8, hkE, _ => exact absurd hkE.1 (by omega)
    | 9, hkE, _ => exact absurd hkE.1 (by omega)
    | 10, hkE, _ => exact absurd hkE.1 (by omega)
    | 11, hkE, _ => exact absurd hkE.1 (by omega)
    | 12, hkE, _ => exact absurd hkE.1 (by omega)
    | 13, hkE, _ => exact absurd hkE.1 (by omega)
    | 14, hkE, _ => exact absurd hkE.1 (by omega)
    | 15, hkE, _ => exact absurd hkE.1 (by omega)
    | 16, hkE, _ => exact absurd hkE.1 (by omega)
    | 17, hkE, _ => exact absurd hkE.1 (by omega)
    | 18, hkE, _ => exact absurd hkE.1 (by omega)
    | 19, hkE, _ => exact absurd hkE.1 (by omega)
    | 20, hkE, _ => exact absurd hkE.1 (by omega)
    | 21, hkE, _ => exact absurd hkE.1 (by omega)
    | 22, hkE, _ => exact absurd hkE.1 (by omega)
    | 23, hkE, _ => exact absurd hkE.1 (by omega)
    | 24, hkE, _ => exact absurd hkE.1 (by omega)
    | 25, hkE, _ => exact absurd hkE.1 (by omega)
    | 26, hkE, _ => exact absurd hkE.1 (by omega)
    | 27, hkE, _ => exact absurd hkE.1 (by omega)
    | 28, hkE, _ => exact absurd hkE.1 (by omega)
    | 29, hkE, _ => exact absurd hkE.1 (by omega)
    | 30, hkE, _ => exact absurd hkE.1 (by omega)
  refine ⟨q, hq, ce, e1, ?_, e2, fun k hk => absurd hk (by rw [hq0]; exact Nat.not_lt_zero k)⟩
  have h4 := (hG.2.1.1 _ q hq).2.1
  have h5 : kcl kE = q.1 := by unfold kcl; rw [hci, hq]
  rw [h5] at e3
  exact Option.some.inj (e3.symm.trans h4)
/-- System.arraycopy over ints or bytes -/
theorem r_copyA {idx r0 r1 m : Nat} {sp dp n : Int32} (D : decode (tB t) pc = .ok (.invokestatic idx, 3)) (hlk : Cond.methodLink (tO t) idx arraycopyName ∈ lw_all) (hm : m = 1 ∨ m = 3) (hk0 : hkd h r0 / 100 = m) (hk1 : hkd h r1 / 100 = m) (hw0 : hkd h r1 % 100 < 50)
    (h1 : ¬ sp < 0) (h2 : ¬ dp < 0) (h3 : ¬ n < 0) (h4 : sp.toNatClampNeg + n.toNatClampNeg ≤ hln h r0) (h5 : dp.toNatClampNeg + n.toNatClampNeg ≤ hln h r1) (hfit : ∀ i, i < n.toNatClampNeg → fits (aty m) (.int (hA h r0 (sp.toNatClampNeg + i))) = true) (hst : (st.map fun v => v.category).sum ≤ 8)
    (k : R g d t (pc + 3) ls st (cpyA r0 sp.toNatClampNeg r1 dp.toNatClampNeg n.toNatClampNeg h) Q) : R g d t pc ls (.int n :: .int dp :: .ref r1 :: .int sp :: .ref r0 :: st) h Q := by
  intro w
  have hz1 : hkd h r1 ≠ 0 := fun q => by rw [q] at hk1; omega
  have w1 := w.cpyA r0 sp.toNatClampNeg r1 dp.toNatClampNeg n.toNatClampNeg hz1
  obtain ⟨o, h', a, b, c, k⟩ := k w1
  refine ⟨o, h', a, b, (Ext.cpyA r0 sp.toNatClampNeg r1 dp.toNatClampNeg n.toNatClampNeg hw0).tr c, fun p e RR s m9 args0 below meth cc H locs cells slots mc ms lsA X hr hS hl hf => ?_⟩
  have hG := X.2.2.2.2.2.2.2.1
  have hts := X.2.2.2.2.2.2.1
  obtain ⟨hp0, -, -, hc0⟩ := hS.arr hk0 (by omega)
  obtain ⟨hp1, -, hge1, hc1⟩ := hS.arr hk1 (by omega)
  have hAr := (hG.arr (n := m) (by omega)).1
  have hao : ∀ r, arrOf h r m = (hln h r, .inl (fun i => hA h r i)) := by
    intro r
    rcases hm with rfl | rfl <;> rfl
  have hprim : refKind (aty m) = false := by rcases hm with rfl | rfl <;> rfl
  rw [hao] at hc0 hc1
  have nn : ∀ z : Int32, ¬ z < 0 → z.toInt = (z.toNatClampNeg : Int) := by
    intro z hz
    have hz0 : (0 : Int) ≤ z.toInt := by
      have := Int32.not_lt.mp hz
      simpa using Int32.le_iff_toInt_le.mp this
    show z.toInt = ((z.toInt.toNat : Nat) : Int)
    omega
  rw [List.map_cons, List.map_cons, List.map_cons, List.map_cons, List.map_cons, mv_int, mv_int, mv_int, mv_ref, mv_ref, mvr_pos hp0, mvr_pos hp1]
  have nfw : nativeFrameWords "java/lang/System" "arraycopy" 5 ≤ 40 := by decide
  intro T hT Y
  obtain ⟨-, k0, hk09, cm0, hkk0⟩ := hAr (hln h r0) (fun j => .int (hA h r0 j))
  obtain ⟨-, k1, hk19, cm1, hkk1⟩ := hAr (hln h r1) (fun j => .int (hA h r1 j))
  obtain ⟨vm', Y', step⟩ := Y.arraycopy X.1 X.2.2.2.2.2.1 (hts _ hlk) (hts _ q489) (hts _ q488) (hts _ q136) (src := r0 - 1) (dst := r1 - 1) (cs := vp_cell (gAc g m) (hln h r0, .inl (fun i => hA h r0 i))) (cd := vp_cell (gAc g m) (hln h r1, .inl (fun i => hA h r1 i))) (srcPos := sp) (destPos := dp) (n := n) (by rw [hT]; exact hc0) (by rw [hT]; exact hc1)
    (fun _ h => by cases h) (fun _ h => by cases h) (fun h => by cases h) (fun h => by cases h) hk09 hk19 hkk0 hkk1 (by simp [hprim]) h1 h2 h3
    (by rw [nn sp h1, nn n h3]; show ¬ _ > ((arrV (gAc g m) (hln h r0) (fun j => .int (hA h r0 j))).slots.size : Int); rw [arrV_size]; omega)
    (by rw [nn dp h2, nn n h3]; show ¬ _ > ((arrV (gAc g m) (hln h r1) (fun j => .int (hA h r1 j))).slots.size : Int); rw [arrV_size]; omega)
    (fun vm₁ _ i hi => by
      have e : (vp_cell (gAc g m) (hln h r0, .inl (fun i => hA h r0 i))).slots.getD (sp.toNatClampNeg + i) .null = .int (hA h r0 (sp.toNatClampNeg + i)) := by
        show (arrV (gAc g m) (hln h r0) (fun j => .int (hA h r0 j))).slots.getD _ _ = _
        rw [Array.getD_eq_getD_getElem?, arrV_read _ _ (by omega)]
        rfl
      refine ⟨?_, ?_⟩
      · rw [e]
        exact hfit i hi
      · rw [e]
        exact trivial)
    (g := F0 m9 pc lsA (.int n :: .int dp :: .ref (r1 - 1) :: .int sp :: .ref (r0 - 1) :: st.map mv)) rfl (hl.1.trans X.2.2.2.2.1.symm) (rest := st.map mv) rfl (by rw [X.2.1]; exact D) (by obtain ⟨r1, r2, -⟩ := hr; omega) (by obtain ⟨r1, r2, -⟩ := hr; have := nfw; show 2 * 0 + _ + (_ + 11) ≤ _; rw [cat_map]; omega)
  have e1 : copied (vp_cell (gAc g m) (hln h r0, .inl (fun i => hA h r0 i))) (vp_cell (gAc g m) (hln h r1, .inl (fun i => hA h r1 i))) sp dp n = vp_cell (gAc g m) (hln h r1, .inl (va_cpy (fun i => hA h r0 i) (fun i => hA h r1 i) sp.toNatClampNeg dp.toNatClampNeg n.toNatClampNeg)) := va_copied (fun z => .int z) (gAc g m) (gAc g m) (fun i => hA h r0 i) (fun i => hA h r1 i) h4
  rw [e1] at Y' step
  have hlt : r1 - 1 < H.size := (Array.getElem?_eq_some_iff.mp hc1).1
  have e9 : vp_cell (gAc g m) (hln h r1, .inl (va_cpy (fun i => hA h r0 i) (fun i => hA h r1 i) sp.toNatClampNeg dp.toNatClampNeg n.toNatClampNeg)) = vp_cell (gAc g m) (arrOf (cpyA r0 sp.toNatClampNeg r1 dp.toNatClampNeg n.toNatClampNeg h) r1 m) := by
    have hao2 : arrOf (cpyA r0 sp.toNatClampNeg r1 dp.toNatClampNeg n.toNatClampNeg h) r1 m = (hln h r1, .inl (fun i => hA (cpyA r0 sp.toNatClampNeg r1 dp.toNatClampNeg n.toNatClampNeg h) r1 i)) := by
      rcases hm with rfl | rfl <;> rfl
    rw [hao2]
    congr 3
    funext j
    show _ = hA (cpyA _ _ _ _ _ _) _ _
    rw [hA_cpyA]
    simp only [va_cpy, true_and]
  have hheap : ((T.setVm vm').setCell (r1 - 1) (vp_cell (gAc g m) (hln h r1, .inl (va_cpy (fun i => hA h r0 i) (fun i => hA h r1 i) sp.toNatClampNeg dp.toNatClampNeg n.toNatClampNeg)))).heap = H.setIfInBounds (r1 - 1) (vp_cell (gAc g m) (hln h r1, .inl (va_cpy (fun i => hA h r0 i) (fun i => hA h r1 i) sp.toNatClampNeg dp.toNatClampNeg n.toNatClampNeg))) := by rw [← hT]; rfl
  have hS' : Sim g (cpyA r0 sp.toNatClampNeg r1 dp.toNatClampNeg n.toNatClampNeg h) (H.setIfInBounds (r1 - 1) (vp_cell (gAc g m) (hln h r1, .inl (va_cpy (fun i => hA h r0 i) (fun i => hA h r1 i) sp.toNatClampNeg dp.toNatClampNeg n.toNatClampNeg)))) := by
    refine hS.upd (r := r1) hz1 hw0 (by simp) (fun q hq => by simp [Array.getElem?_setIfInBounds, Ne.symm hq]) (fun _ => rfl) rfl w1 (fun x hx => ent_arr_ne rfl rfl (fun _ => rfl) (fun _ => rfl) (fun y => by rw [hA_cpyA, if_neg (fun q => hx q.1)]) (fun _ => rfl) (fun _ => rfl) (fun _ => rfl)) ?_ (fun q => by omega)
    rw [ent_arr (by show 100 ≤ hkd h r1; exact hge1)]
    show (H.setIfInBounds (r1 - 1) _)[r1 - 1]? = some (vp_cell (gAc g (hkd h r1 / 100)) (arrOf _ r1 (hkd h r1 / 100)))
    rw [hk1, ← e9]
    simp [Array.getElem?_setIfInBounds, hlt]
  obtain ⟨t, a1, b1⟩ := k X hr hS' hl (fun q hq => by
    rcases List.mem_append.mp hq with z | z
    · exact hf q z
    · obtain ⟨z9, -, hz⟩ := List.mem_map.mp z
      rw [← hz]
      have := (hS.2.2.2.2 r1 hz1).2.1 hw0
      show (gH g).size ≤ r1 - 1
      omega) _ hheap Y'
  exact ⟨t, step t a1, b1⟩
end THR
