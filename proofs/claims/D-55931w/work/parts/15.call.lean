/-! ===== RULES: calls and throws ===== -/
set_option maxRecDepth 100000
def cont (g : PG) (d : Nat) (t : MT) (len pc : Nat) (ls rest : List Value) (Q : Out → PH → Prop) : Out → PH → Prop := fun o h1 => match o with
  | .inl v => R g d t (pc + len) ls (v.toList ++ rest) h1 Q
  | .inr r => XR g d t pc ls r h1 Q
theorem tW_nil {y : MT} (hH : tH y = []) : tW y = Cond.code (tY y) (tB y) (tL y) (tR y) :: lw_all := by unfold tW; rw [hH]
theorem tW_hh {y : MT} (hH : tH y ≠ []) : tW y = Cond.codeWith (tY y) (tB y) (tL y) (tR y) (tH y) :: lw_all := by
  unfold tW
  split
  · exact absurd (by assumption) hH
  · rfl
theorem map_toList (v : Option Value) : (v.map mv).toList = v.toList.map mv := by cases v <;> rfl
section CALLR
variable {g : PG} {d : Nat} {t : MT} {pc : Nat} {ls st : List Value} {h : PH} {Q : Out → PH → Prop}
theorem r_call3 {y : MT} {args rest : List Value} (hC : C g d y args h (cont g d t 3 pc ls rest Q))
    (hrun : ∀ {out : Out} {h1 : PH}, Ext h h1 → CM g d y args h out h1 → ∀ {p : Program} {e : Env} {RR : Room} {s : State} {m : MethodId} {args0 : Array Value} {below : List Frame} {meth : Method} {c : Code} {H : Heap} {locs : List Loc} {cells slots : Nat} {lsA : Array Slot},
      Ctx g t p s m meth c args0 → d + 1 ≤ RR.frames → 64 * d + 64 ≤ RR.locals → cells + (hw h1 - hw h) ≤ RR.cells ∧ slots + (hw h1 - hw h) ≤ RR.slots → Sim g h H → lv_has lsA (tL t) (lpr 0 ls) →
      ∃ a, vx_Run p (gL g) e RR s m args0 below meth c H locs cells slots (hw h1 - hw h) (hw h1 - hw h) (F0 m pc lsA (st.map mv)) (rest.map mv) (QcP g out h1 a) (XcP g out h1) (gOld g)) : R g d t pc ls st h Q := by
  intro w
  obtain ⟨out, h1, hQ, w1, x1, hM⟩ := hC w
  cases out with
  | inl v =>
    obtain ⟨o, h', a, b, c, n⟩ := hQ w1
    refine ⟨o, h', a, b, x1.tr c, fun p e RR s m args0 below meth cc H locs cells slots mc ms lsA X hr hS hl hf => ?_⟩
    intro T hT Y
    have hx1 := x1.2.1
    have hx2 := c.2.1
    obtain ⟨r1, r2, r3, r4, r5, r6⟩ := id hr
    obtain ⟨a9, hrn⟩ := hrun x1 hM X r1 r2 ⟨show cells + (hw h1 - hw h) ≤ RR.cells by omega, show slots + (hw h1 - hw h) ≤ RR.slots by omega⟩ hS hl (e := e) (below := below) (locs := locs)
    rcases hrn T hT Y with ⟨v', st₀, t9, T', L, h0, X', hL, e1, e2, ⟨v2, hv2, hv3, hSim⟩, stp⟩ | ⟨q, st₀, t9, T', L, E, ce, h0, X', hL, e1, e2, ⟨r, hr1, -⟩, -⟩
    · cases hv2
      injection hv3 with hv4
      subst hv4
      obtain ⟨tf, a1, b1⟩ := n X (hr.step hx1 hx2) (by rw [e1]; exact hSim) hl (fun q hq => (List.mem_append.mp hq).elim (hf q) (hL q)) T' rfl X'
      rw [map_toList, ← List.map_append] at stp
      exact ⟨tf, stp tf a1, b1⟩
    · cases hr1
  | inr r =>
    obtain ⟨o, h', a, b, c, n⟩ := hQ w1
    refine ⟨o, h', a, b, x1.tr c, fun p e RR s m args0 below meth cc H locs cells slots mc ms lsA X hr hS hl hf => ?_⟩
    intro T hT Y
    have hx1 := x1.2.1
    have hx2 := c.2.1
    obtain ⟨r1, r2, r3, r4, r5, r6⟩ := id hr
    obtain ⟨a9, hrn⟩ := hrun x1 hM X r1 r2 ⟨show cells + (hw h1 - hw h) ≤ RR.cells by omega, show slots + (hw h1 - hw h) ≤ RR.slots by omega⟩ hS hl (e := e) (below := below) (locs := locs)
    rcases hrn T hT Y with ⟨v', st₀, t9, T', L, h0, X', hL, e1, e2, ⟨v2, hv2, -⟩, -⟩ | ⟨q, st₀, t9, T', L, E, ce, h0, X', hL, e1, e2, ⟨r', hr1, hr2, hr3, hr4, -, hSim⟩, -, -, -, stp⟩
    · cases hv2
    · cases hr1
      obtain ⟨tf, a1, b1⟩ := n X (hr.step hx1 hx2) (by rw [e1]; exact hSim) hl (fun q hq => (List.mem_append.mp hq).elim (hf q) (hL q)) ⟨hr3, hr4⟩ T' rfl X'
      rw [hr2, Nat.add_sub_cancel] at a1
      exact ⟨tf, stp.trans a1, b1⟩
theorem r_call5 {y : MT} {args rest : List Value} (hC : C g d y args h (cont g d t 5 pc ls rest Q))
    (hrun : ∀ {out : Out} {h1 : PH}, Ext h h1 → CM g d y args h out h1 → ∀ {p : Program} {e : Env} {RR : Room} {s : State} {m : MethodId} {args0 : Array Value} {below : List Frame} {meth : Method} {c : Code} {H : Heap} {locs : List Loc} {cells slots : Nat} {lsA : Array Slot},
      Ctx g t p s m meth c args0 → d + 1 ≤ RR.frames → 64 * d + 64 ≤ RR.locals → cells + (hw h1 - hw h) ≤ RR.cells ∧ slots + (hw h1 - hw h) ≤ RR.slots → Sim g h H → lv_has lsA (tL t) (lpr 0 ls) →
      ∃ a, vx_Run5 p (gL g) e RR s m args0 below meth c H locs cells slots (hw h1 - hw h) (hw h1 - hw h) (F0 m pc lsA (st.map mv)) (rest.map mv) (QcP g out h1 a) (XcP g out h1) (gOld g)) : R g d t pc ls st h Q := by
  intro w
  obtain ⟨out, h1, hQ, w1, x1, hM⟩ := hC w
  cases out with
  | inl v =>
    obtain ⟨o, h', a, b, c, n⟩ := hQ w1
    refine ⟨o, h', a, b, x1.tr c, fun p e RR s m args0 below meth cc H locs cells slots mc ms lsA X hr hS hl hf => ?_⟩
    intro T hT Y
    have hx1 := x1.2.1
    have hx2 := c.2.1
    obtain ⟨r1, r2, r3, r4, r5, r6⟩ := id hr
    obtain ⟨a9, hrn⟩ := hrun x1 hM X r1 r2 ⟨show cells + (hw h1 - hw h) ≤ RR.cells by omega, show slots + (hw h1 - hw h) ≤ RR.slots by omega⟩ hS hl (e := e) (below := below) (locs := locs)
    rcases hrn T hT Y with ⟨v', st₀, t9, T', L, h0, X', hL, e1, e2, ⟨v2, hv2, hv3, hSim⟩, stp⟩ | ⟨q, st₀, t9, T', L, E, ce, h0, X', hL, e1, e2, ⟨r, hr1, -⟩, -⟩
    · cases hv2
      injection hv3 with hv4
      subst hv4
      obtain ⟨tf, a1, b1⟩ := n X (hr.step hx1 hx2) (by rw [e1]; exact hSim) hl (fun q hq => (List.mem_append.mp hq).elim (hf q) (hL q)) T' rfl X'
      rw [map_toList, ← List.map_append] at stp
      exact ⟨tf, stp tf a1, b1⟩
    · cases hr1
  | inr r =>
    obtain ⟨o, h', a, b, c, n⟩ := hQ w1
    refine ⟨o, h', a, b, x1.tr c, fun p e RR s m args0 below meth cc H locs cells slots mc ms lsA X hr hS hl hf => ?_⟩
    intro T hT Y
    have hx1 := x1.2.1
    have hx2 := c.2.1
    obtain ⟨r1, r2, r3, r4, r5, r6⟩ := id hr
    obtain ⟨a9, hrn⟩ := hrun x1 hM X r1 r2 ⟨show cells + (hw h1 - hw h) ≤ RR.cells by omega, show slots + (hw h1 - hw h) ≤ RR.slots by omega⟩ hS hl (e := e) (below := below) (locs := locs)
    rcases hrn T hT Y with ⟨v', st₀, t9, T', L, h0, X', hL, e1, e2, ⟨v2, hv2, -⟩, -⟩ | ⟨q, st₀, t9, T', L, E, ce, h0, X', hL, e1, e2, ⟨r', hr1, hr2, hr3, hr4, -, hSim⟩, -, -, -, stp⟩
    · cases hv2
    · cases hr1
      obtain ⟨tf, a1, b1⟩ := n X (hr.step hx1 hx2) (by rw [e1]; exact hSim) hl (fun q hq => (List.mem_append.mp hq).elim (hf q) (hL q)) ⟨hr3, hr4⟩ T' rfl X'
      rw [hr2, Nat.add_sub_cancel] at a1
      exact ⟨tf, stp.trans a1, b1⟩
/-- what the kinds of call ask of the tables -/
def plainY (y : MT) (n : Nat) : Prop := (tY y).cls ≠ "java/lang/invoke/MethodHandle" ∧ (tY y).cls ≠ "java/lang/invoke/VarHandle" ∧ (parseMethodDescriptor (tY y).desc).map (fun d => d.parameters.length) = some n
theorem kcl_recv {s : State} {H : Heap} (hG : GK g s) (hS : Sim g h H) {r k : Nat} {Cn : String} (hk : hkd h r = k) (hk0 : 0 < k ∧ k < 100) (hC : kcl k = Cn) : 0 < r ∧ ∃ cellB : Cell, H[r - 1]? = some cellB ∧ cellB.vm.isStatics = false ∧ s.vm.findClass Cn = some cellB.cls := by
  obtain ⟨cv, z1, z2, z3⟩ := hS.cell hG (r := r) (by omega) (by omega)
  exact ⟨hS.2.2.2.1.pos (by omega), cv, z1, by rw [z2]; rfl, by rw [← hC, ← hk]; exact z3⟩
theorem pre_of {s : State} {H : Heap} {args : List Value} (hG : GK g s) (hS : Sim g h H) : ∀ U : State, U.heap = H → s.WarmedH U.vm → PcP g args h (args.map mv).toArray U := fun U hU hW => ⟨rfl, hG.moved hW, by rw [hU]; exact hS⟩
theorem st_rev (args rest : List Value) : (args.reverse ++ rest).map mv = (args.map mv).reverse ++ rest.map mv := by rw [List.map_append, List.map_reverse]
theorem st_revR {r : Nat} (hr : 0 < r) (args rest : List Value) : (args.reverse ++ .ref r :: rest).map mv = (args.map mv).reverse ++ .ref (r - 1) :: rest.map mv := by rw [List.map_append, List.map_reverse, List.map_cons, mv_ref, mvr_pos hr]
theorem as_ref {r : Nat} (hr : 0 < r) (args : List Value) : (Value.ref r :: args).map mv = .ref (r - 1) :: args.map mv := by rw [List.map_cons, mv_ref, mvr_pos hr]
/-- invokestatic -/
theorem r_invS {y : MT} {idx n : Nat} {args rest : List Value} (D : decode (tB t) pc = .ok (.invokestatic idx, 3)) (hH : tH y = []) (hw0 : GoodIn lw_all (va_wsS (tO t) idx (tY y) (tW y))) (hy : plainY y n) (hL : tL y ≤ 45) (hst : args.reverse ++ rest = st) (hn : args.length = n) (hrest : (rest.map fun v => v.category).sum ≤ 8) (hC : C g d y args h (cont g d t 3 pc ls rest Q)) : R g d t pc ls st h Q := by
  subst hst
  refine r_call3 hC (fun {out h1} x1 hM {p e RR s m args0 below meth c H locs cells slots lsA} X r1 r2 r3 hS hl => ?_)
  have hGK := X.2.2.2.2.2.2.2.1
  have hcw := va_cwS (R := RR) (s := s) (args := args0) (own := tO t) (index := idx) (y := tY y) (bytes := tB y) (maxL := tL y) (ret := tR y) (ws' := lw_all) (rm := { frames := d, cells := hw h1 - hw h, slots := hw h1 - hw h, locals := 64 * d }) n X.2.2.2.2.2.2.1 hw0 (tW_nil hH) rfl rfl hy ⟨r1, show 8 + (tL y + 11) + 64 * d ≤ RR.locals by omega⟩
  exact ⟨_, vx_runS (As := args.map mv) ⟨X.1, X.2.1, X.2.2.2.2.1, X.2.2.2.2.2.1, X.2.2.2.2.2.2.1⟩ hM hcw ⟨PcP.blind g args h, pre_of hGK hS⟩ rfl (by rw [List.length_map]; exact hn) hl.1 (st_rev args rest) (by show 2 * 0 + _ ≤ 8; rw [cat_map]; omega) D r3⟩
theorem r_invSW {y : MT} {idx n : Nat} {args rest : List Value} (D : decode (tB t) pc = .ok (.invokestatic idx, 3)) (hH : tH y ≠ []) (hw0 : GoodIn lw_all (va_wsS (tO t) idx (tY y) (tW y))) (hy : plainY y n) (hL : tL y ≤ 45) (hst : args.reverse ++ rest = st) (hn : args.length = n) (hrest : (rest.map fun v => v.category).sum ≤ 8) (hC : C g d y args h (cont g d t 3 pc ls rest Q)) : R g d t pc ls st h Q := by
  subst hst
  refine r_call3 hC (fun {out h1} x1 hM {p e RR s m args0 below meth c H locs cells slots lsA} X r1 r2 r3 hS hl => ?_)
  have hGK := X.2.2.2.2.2.2.2.1
  have hcw := vx_cwSW (R := RR) (s := s) (args := args0) (own := tO t) (index := idx) (y := tY y) (bytes := tB y) (maxL := tL y) (ret := tR y) (hh := tH y) (ws' := lw_all) (rm := { frames := d, cells := hw h1 - hw h, slots := hw h1 - hw h, locals := 64 * d }) n X.2.2.2.2.2.2.1 hw0 (tW_hh hH) rfl rfl hy ⟨r1, show 8 + (tL y + 11) + 64 * d ≤ RR.locals by omega⟩
  exact ⟨_, vx_runSX (As := args.map mv) ⟨X.1, X.2.1, X.2.2.2.2.1, X.2.2.2.2.2.1, X.2.2.2.2.2.2.1⟩ hM hcw ⟨PcP.blind g args h, pre_of hGK hS⟩ rfl (by rw [List.length_map]; exact hn) hl.1 (st_rev args rest) (by show 2 * 0 + _ ≤ 8; rw [cat_map]; omega) D r3⟩
/-- invokevirtual of the class's own method -/
theorem r_invV {y : MT} {idx n r k : Nat} {args rest : List Value} (D : decode (tB t) pc = .ok (.invokevirtual idx, 3)) (hH : tH y = []) (hw0 : GoodIn lw_all (wsV (tO t) idx (tY y).cls (tY y) (tW y))) (hy : plainY y n) (hL : tL y ≤ 45) (hst : args.reverse ++ .ref r :: rest = st) (hn : args.length = n) (hrest : (rest.map fun v => v.category).sum ≤ 8) (hk : hkd h r = k) (hk0 : 0 < k ∧ k < 100) (hcl : kcl k = (tY y).cls) (hC : C g d y (.ref r :: args) h (cont g d t 3 pc ls rest Q)) : R g d t pc ls st h Q := by
  subst hst
  refine r_call3 hC (fun {out h1} x1 hM {p e RR s m args0 below meth c H locs cells slots lsA} X r1 r2 r3 hS hl => ?_)
  have hGK := X.2.2.2.2.2.2.2.1
  obtain ⟨hrp, hrecv⟩ := kcl_recv hGK hS hk hk0 hcl
  have hcw := cwV (R := RR) (s := s) (args := args0) (own := tO t) (C := (tY y).cls) (index := idx) (y := tY y) (bytes := tB y) (maxL := tL y) (ret := tR y) (ws' := lw_all) (rm := { frames := d, cells := hw h1 - hw h, slots := hw h1 - hw h, locals := 64 * d }) n X.2.2.2.2.2.2.1 hw0 (tW_nil hH) rfl rfl ⟨rfl, hy⟩ ⟨r1, show 8 + (tL y + 11) + 64 * d ≤ RR.locals by omega⟩
  exact ⟨_, vx_runV (As := args.map mv) ⟨X.1, X.2.1, X.2.2.2.2.1, X.2.2.2.2.2.1, X.2.2.2.2.2.2.1⟩ hM hcw ⟨PcP.blind g _ h, hrecv, by rw [← as_ref hrp]; exact pre_of hGK hS⟩ rfl (by rw [List.length_map]; exact hn) hl.1 (st_revR hrp args rest) (by show 2 * 0 + _ ≤ 8; rw [cat_map]; omega) D r3⟩
theorem r_invVW {y : MT} {idx n r k : Nat} {args rest : List Value} (D : decode (tB t) pc = .ok (.invokevirtual idx, 3)) (hH : tH y ≠ []) (hw0 : GoodIn lw_all (wsV (tO t) idx (tY y).cls (tY y) (tW y))) (hy : plainY y n) (hL : tL y ≤ 45) (hst : args.reverse ++ .ref r :: rest = st) (hn : args.length = n) (hrest : (rest.map fun v => v.category).sum ≤ 8) (hk : hkd h r = k) (hk0 : 0 < k ∧ k < 100) (hcl : kcl k = (tY y).cls) (hC : C g d y (.ref r :: args) h (cont g d t 3 pc ls rest Q)) : R g d t pc ls st h Q := by
  subst hst
  refine r_call3 hC (fun {out h1} x1 hM {p e RR s m args0 below meth c H locs cells slots lsA} X r1 r2 r3 hS hl => ?_)
  have hGK := X.2.2.2.2.2.2.2.1
  obtain ⟨hrp, hrecv⟩ := kcl_recv hGK hS hk hk0 hcl
  have hcw := vx_cwVW (R := RR) (s := s) (args := args0) (own := tO t) (C := (tY y).cls) (index := idx) (y := tY y) (bytes := tB y) (maxL := tL y) (ret := tR y) (hh := tH y) (ws' := lw_all) (rm := { frames := d, cells := hw h1 - hw h, slots := hw h1 - hw h, locals := 64 * d }) n X.2.2.2.2.2.2.1 hw0 (tW_hh hH) rfl rfl ⟨rfl, hy⟩ ⟨r1, show 8 + (tL y + 11) + 64 * d ≤ RR.locals by omega⟩
  exact ⟨_, vx_runVX (As := args.map mv) ⟨X.1, X.2.1, X.2.2.2.2.1, X.2.2.2.2.2.1, X.2.2.2.2.2.2.1⟩ hM hcw ⟨PcP.blind g _ h, hrecv, by rw [← as_ref hrp]; exact pre_of hGK hS⟩ rfl (by rw [List.length_map]; exact hn) hl.1 (st_revR hrp args rest) (by show 2 * 0 + _ ≤ 8; rw [cat_map]; omega) D r3⟩
/-- invokespecial of a constructor -/
theorem r_invI {y : MT} {idx n r : Nat} {args rest : List Value} (D : decode (tB t) pc = .ok (.invokespecial idx, 3)) (hH : tH y = []) (hR0 : tR y = none) (hcode : Cond.code (tY y) (tB y) (tL y) none ∈ lw_all) (hini : Cond.initialized (tY y).cls ∈ lw_all) (hlk : Cond.methodLink (tO t) idx (tY y) ∈ lw_all) (hin : Cond.instanceMethod (tY y) ∈ lw_all) (hnm : (tY y).name = "<init>") (hy : plainY y n) (hL : tL y ≤ 45) (hst : args.reverse ++ .ref r :: rest = st) (hn : args.length = n) (hrest : (rest.map fun v => v.category).sum ≤ 8) (hr0 : 0 < r) (hC : C g d y (.ref r :: args) h (cont g d t 3 pc ls rest Q)) : R g d t pc ls st h Q := by
  subst hst
  refine r_call3 hC (fun {out h1} x1 hM {p e RR s m args0 below meth c H locs cells slots lsA} X r1 r2 r3 hS hl => ?_)
  have hGK := X.2.2.2.2.2.2.2.1
  have hts := X.2.2.2.2.2.2.1
  have htw : tW y = Cond.code (tY y) (tB y) (tL y) none :: lw_all := by unfold tW; rw [hH, hR0]
  have hcw := cwI (R := RR) (s := s) (args := args0) (own := tO t) (index := idx) (y := tY y) (bytes := tB y) (maxL := tL y) (ws := tW y) (ws' := lw_all) (rm := { frames := d, cells := hw h1 - hw h, slots := hw h1 - hw h, locals := 64 * d }) n hts (by rw [htw]; exact lw_meth hcode) htw rfl rfl (hts _ hini) (hts _ hlk) (hts _ hin) hnm hy ⟨r1, show 8 + (tL y + 11) + 64 * d ≤ RR.locals by omega⟩
  exact ⟨_, vx_runI (b := r - 1) (As := args.map mv) ⟨X.1, X.2.1, X.2.2.2.2.1, X.2.2.2.2.2.1, X.2.2.2.2.2.2.1⟩ hM hcw ⟨PcP.blind g _ h, by rw [← as_ref hr0]; exact pre_of hGK hS⟩ rfl (by rw [List.length_map]; exact hn) hl.1 (st_revR hr0 args rest) (by show 2 * 0 + _ ≤ 8; rw [cat_map]; omega) D r3⟩
/-- a method of a class above, found by the receiver (the words: va_cwU's or va_cwO's or va_cwA's) -/
def okU (own : String) (idx : Nat) (C owner : String) (x : MethodName) (y : MT) (n : Nat) : Prop := tH y = [] ∧ (parseMethodDescriptor x.desc).map (fun d => d.parameters.length) = some n ∧ owner ≠ "java/lang/invoke/MethodHandle" ∧ owner ≠ "java/lang/invoke/VarHandle" ∧
  ((GoodIn lw_all (va_wsU own idx C owner x (tY y) (tW y)) ∧ (tY y = ⟨owner, x.name, x.desc⟩ ∨ Cond.declares ⟨owner, x.name, x.desc⟩ ∈ lw_tbl)) ∨ (GoodIn lw_all (va_wsO own idx C owner x (tY y) (tW y)) ∧ ∃ b0 m0 r0, Cond.code ⟨owner, x.name, x.desc⟩ b0 m0 r0 ∈ lw_all))
theorem r_invU {y : MT} {x : MethodName} {owner Cn : String} {idx n r k : Nat} {args rest : List Value} (D : decode (tB t) pc = .ok (.invokevirtual idx, 3)) (hU : okU (tO t) idx Cn owner x y n) (hL : tL y ≤ 45) (hst : args.reverse ++ .ref r :: rest = st) (hn : args.length = n) (hrest : (rest.map fun v => v.category).sum ≤ 8) (hk : hkd h r = k) (hk0 : 0 < k ∧ k < 100) (hcl : kcl k = Cn) (hC : C g d y (.ref r :: args) h (cont g d t 3 pc ls rest Q)) : R g d t pc ls st h Q := by
  subst hst
  obtain ⟨hH, hd1, hd2, hd3, hU⟩ := hU
  refine r_call3 hC (fun {out h1} x1 hM {p e RR s m args0 below meth c H locs cells slots lsA} X r1 r2 r3 hS hl => ?_)
  have hGK := X.2.2.2.2.2.2.2.1
  have hts := X.2.2.2.2.2.2.1
  obtain ⟨hrp, hrecv⟩ := kcl_recv hGK hS hk hk0 hcl
  have hcw : va_CU RR s args0 (tO t) Cn owner idx x (tY y) (tB y) (tL y) (tR y) (tW y) { frames := d, cells := hw h1 - hw h, slots := hw h1 - hw h, locals := 64 * d } (hw h1 - hw h) (hw h1 - hw h) n := by
    rcases hU with ⟨hG, hy | hdec⟩ | ⟨hG, b0, m0, r0, hc0⟩
    · exact va_cwU n hts hG (tW_nil hH) rfl rfl hy ⟨hd2, hd3, hd1⟩ ⟨r1, show 8 + (tL y + 11) + 64 * d ≤ RR.locals by omega⟩
    · exact va_cwA n hts hG (tW_nil hH) rfl rfl (hGK.ext hdec rfl) ⟨hd2, hd3, hd1⟩ ⟨r1, show 8 + (tL y + 11) + 64 * d ≤ RR.locals by omega⟩
    · exact va_cwO n hts hG (tW_nil hH) rfl rfl hc0 ⟨hd2, hd3, hd1⟩ ⟨r1, show 8 + (tL y + 11) + 64 * d ≤ RR.locals by omega⟩
  exact ⟨_, vx_runU (As := args.map mv) ⟨X.1, X.2.1, X.2.2.2.2.1, X.2.2.2.2.2.1, X.2.2.2.2.2.2.1⟩ hM hcw ⟨PcP.blind g _ h, hrecv, by rw [← as_ref hrp]; exact pre_of hGK hS⟩ rfl (by rw [List.length_map]; exact hn) hl.1 (st_revR hrp args rest) (by show 2 * 0 + _ ≤ 8; rw [cat_map]; omega) D r3⟩
/-- super.m(..) -/
theorem r_invSU {y : MT} {idx n r k : Nat} {args rest : List Value} (D : decode (tB t) pc = .ok (.invokespecial idx, 3)) (hH : tH y = []) (hw0 : GoodIn lw_all (va_wsSU (tO t) idx (tY y) (tW y))) (hnm : (tY y).name ≠ "<init>") (hd : (parseMethodDescriptor (tY y).desc).map (fun d => d.parameters.length) = some n) (hL : tL y ≤ 45) (hst : args.reverse ++ .ref r :: rest = st) (hn : args.length = n) (hrest : (rest.map fun v => v.category).sum ≤ 8) (hk : hkd h r = k) (hk0 : 0 < k ∧ k < 100) (hC : C g d y (.ref r :: args) h (cont g d t 3 pc ls rest Q)) : R g d t pc ls st h Q := by
  subst hst
  refine r_call3 hC (fun {out h1} x1 hM {p e RR s m args0 below meth c H locs cells slots lsA} X r1 r2 r3 hS hl => ?_)
  have hGK := X.2.2.2.2.2.2.2.1
  have hts := X.2.2.2.2.2.2.1
  obtain ⟨hrp, hrecv⟩ := kcl_recv hGK hS hk hk0 rfl
  obtain ⟨-, q, hq, -⟩ := hS.obj (r := r) (by omega) (by omega)
  rw [hk] at hq
  obtain ⟨cC, hat⟩ := hGK.cls hq
  have hcw := va_cwSU (R := RR) (s := s) (args := args0) (own := tO t) (index := idx) (y := tY y) (bytes := tB y) (maxL := tL y) (ret := tR y) (ws' := lw_all) (rm := { frames := d, cells := hw h1 - hw h, slots := hw h1 - hw h, locals := 64 * d }) n hts hw0 (tW_nil hH) rfl rfl ⟨hnm, hd⟩ ⟨r1, show 8 + (tL y + 11) + 64 * d ≤ RR.locals by omega⟩
  exact ⟨_, vx_runSU (As := args.map mv) hat ⟨X.1, X.2.1, X.2.2.2.2.1, X.2.2.2.2.2.1, X.2.2.2.2.2.2.1⟩ hM hcw ⟨PcP.blind g _ h, hrecv, by rw [← as_ref hrp]; exact pre_of hGK hS⟩ rfl (by rw [List.length_map]; exact hn) hl.1 (st_revR hrp args rest) (by show 2 * 0 + _ ≤ 8; rw [cat_map]; omega) D r3⟩
/-- private members of a nest mate -/
theorem r_invSN {y : MT} {idx n : Nat} {host : String} {args rest : List Value} (D : decode (tB t) pc = .ok (.invokestatic idx, 3)) (hH : tH y = []) (hlk : Cond.methodLinkNest (tO t) idx (tY y) host ∈ lw_tbl) (hcode : Cond.code (tY y) (tB y) (tL y) (tR y) ∈ lw_all) (hini : Cond.initialized (tY y).cls ∈ lw_all) (hstat : Cond.static (tY y) ∈ lw_all) (hy : plainY y n) (hL : tL y ≤ 45) (hst : args.reverse ++ rest = st) (hn : args.length = n) (hrest : (rest.map fun v => v.category).sum ≤ 8) (hC : C g d y args h (cont g d t 3 pc ls rest Q)) : R g d t pc ls st h Q := by
  subst hst
  refine r_call3 hC (fun {out h1} x1 hM {p e RR s m args0 below meth c H locs cells slots lsA} X r1 r2 r3 hS hl => ?_)
  have hGK := X.2.2.2.2.2.2.2.1
  have hts := X.2.2.2.2.2.2.1
  have hcw := va_cnB (R := RR) (s := s) (args := args0) (own := tO t) (host := host) (index := idx) (y := tY y) (bytes := tB y) (maxL := tL y) (ret := tR y) (ws := tW y) (ws' := lw_all) (rm := { frames := d, cells := hw h1 - hw h, slots := hw h1 - hw h, locals := 64 * d }) n hts (by rw [tW_nil hH]; exact lw_meth hcode) (tW_nil hH) rfl rfl (hGK.ext hlk rfl) (hts _ hini) hy ⟨r1, show 8 + (tL y + 11) + 64 * d ≤ RR.locals by omega⟩
  exact ⟨_, vx_runSN (As := args.map mv) ⟨X.1, X.2.1, X.2.2.2.2.1, X.2.2.2.2.2.1, X.2.2.2.2.2.2.1⟩ hM ⟨hcw, hts _ hstat, trivial⟩ ⟨PcP.blind g args h, pre_of hGK hS⟩ rfl (by rw [List.length_map]; exact hn) hl.1 (st_rev args rest) (by show 2 * 0 + _ ≤ 8; rw [cat_map]; omega) D r3⟩
theorem r_invVN {y : MT} {idx n r k : Nat} {host : String} {args rest : List Value} (D : decode (tB t) pc = .ok (.invokevirtual idx, 3)) (hH : tH y = []) (hlk : Cond.methodLinkNest (tO t) idx (tY y) host ∈ lw_tbl) (hcode : Cond.code (tY y) (tB y) (tL y) (tR y) ∈ lw_all) (hini : Cond.initialized (tY y).cls ∈ lw_all) (hin : Cond.instanceMethod (tY y) ∈ lw_all) (hsel : Cond.selects (tY y).cls (tY y) (tY y) ∈ lw_all) (hy : plainY y n) (hL : tL y ≤ 45) (hst : args.reverse ++ .ref r :: rest = st) (hn : args.length = n) (hrest : (rest.map fun v => v.category).sum ≤ 8) (hk : hkd h r = k) (hk0 : 0 < k ∧ k < 100) (hcl : kcl k = (tY y).cls) (hC : C g d y (.ref r :: args) h (cont g d t 3 pc ls rest Q)) : R g d t pc ls st h Q := by
  subst hst
  refine r_call3 hC (fun {out h1} x1 hM {p e RR s m args0 below meth c H locs cells slots lsA} X r1 r2 r3 hS hl => ?_)
  have hGK := X.2.2.2.2.2.2.2.1
  have hts := X.2.2.2.2.2.2.1
  obtain ⟨hrp, hrecv⟩ := kcl_recv hGK hS hk hk0 hcl
  have hcw := va_cnB (R := RR) (s := s) (args := args0) (own := tO t) (host := host) (index := idx) (y := tY y) (bytes := tB y) (maxL := tL y) (ret := tR y) (ws := tW y) (ws' := lw_all) (rm := { frames := d, cells := hw h1 - hw h, slots := hw h1 - hw h, locals := 64 * d }) n hts (by rw [tW_nil hH]; exact lw_meth hcode) (tW_nil hH) rfl rfl (hGK.ext hlk rfl) (hts _ hini) hy ⟨r1, show 8 + (tL y + 11) + 64 * d ≤ RR.locals by omega⟩
  exact ⟨_, vx_runVN (C := (tY y).cls) (As := args.map mv) ⟨X.1, X.2.1, X.2.2.2.2.1, X.2.2.2.2.2.1, X.2.2.2.2.2.2.1⟩ hM ⟨hcw, hts _ hin, hts _ hsel⟩ ⟨PcP.blind g _ h, hrecv, by rw [← as_ref hrp]; exact pre_of hGK hS⟩ rfl (by rw [List.length_map]; exact hn) hl.1 (st_revR hrp args rest) (by show 2 * 0 + _ ≤ 8; rw [cat_map]; omega) D r3⟩
theorem r_invIN {y : MT} {idx n r : Nat} {host : String} {args rest : List Value} (D : decode (tB t) pc = .ok (.invokespecial idx, 3)) (hH : tH y = []) (hR0 : tR y = none) (hlk : Cond.methodLinkNest (tO t) idx (tY y) host ∈ lw_tbl) (hcode : Cond.code (tY y) (tB y) (tL y) none ∈ lw_all) (hini : Cond.initialized (tY y).cls ∈ lw_all) (hin : Cond.instanceMethod (tY y) ∈ lw_all) (hnm : (tY y).name = "<init>") (hy : plainY y n) (hL : tL y ≤ 45) (hst : args.reverse ++ .ref r :: rest = st) (hn : args.length = n) (hrest : (rest.map fun v => v.category).sum ≤ 8) (hr0 : 0 < r) (hC : C g d y (.ref r :: args) h (cont g d t 3 pc ls rest Q)) : R g d t pc ls st h Q := by
  subst hst
  refine r_call3 hC (fun {out h1} x1 hM {p e RR s m args0 below meth c H locs cells slots lsA} X r1 r2 r3 hS hl => ?_)
  have hGK := X.2.2.2.2.2.2.2.1
  have hts := X.2.2.2.2.2.2.1
  have htw : tW y = Cond.code (tY y) (tB y) (tL y) none :: lw_all := by rw [tW_nil hH, hR0]
  have hcw := va_cnB (R := RR) (s := s) (args := args0) (own := tO t) (host := host) (index := idx) (y := tY y) (bytes := tB y) (maxL := tL y) (ret := none) (ws := tW y) (ws' := lw_all) (rm := { frames := d, cells := hw h1 - hw h, slots := hw h1 - hw h, locals := 64 * d }) n hts (by rw [htw]; exact lw_meth hcode) htw rfl rfl (hGK.ext hlk rfl) (hts _ hini) hy ⟨r1, show 8 + (tL y + 11) + 64 * d ≤ RR.locals by omega⟩
  exact ⟨_, vx_runIN (b := r - 1) (As := args.map mv) ⟨X.1, X.2.1, X.2.2.2.2.1, X.2.2.2.2.2.1, X.2.2.2.2.2.2.1⟩ hM ⟨hcw, hnm, hts _ hin⟩ ⟨PcP.blind g _ h, by rw [← as_ref hr0]; exact pre_of hGK hS⟩ rfl (by rw [List.length_map]; exact hn) hl.1 (st_revR hr0 args rest) (by show 2 * 0 + _ ≤ 8; rw [cat_map]; omega) D r3⟩
/-- invokeinterface -/
theorem r_invF {y : MT} {x : MethodName} {Cn : String} {idx n r k cnt : Nat} {args rest : List Value} (D : decode (tB t) pc = .ok (.invokeinterface idx cnt, 5)) (hH : tH y = []) (hw0 : GoodIn lw_all (va_wsF (tO t) idx Cn x (tY y) (tW y))) (hfw : (Cn, x, tY y) ∈ fwT) (hd : x.cls ≠ "java/lang/invoke/MethodHandle" ∧ x.cls ≠ "java/lang/invoke/VarHandle" ∧ (parseMethodDescriptor x.desc).map (fun d => d.parameters.length) = some n) (hL : tL y ≤ 45) (hst : args.reverse ++ .ref r :: rest = st) (hn : args.length = n) (hrest : (rest.map fun v => v.category).sum ≤ 8) (hk : hkd h r = k) (hk0 : 0 < k ∧ k < 100) (hcl : kcl k = Cn) (hC : C g d y (.ref r :: args) h (cont g d t 5 pc ls rest Q)) : R g d t pc ls st h Q := by
  subst hst
  refine r_call5 hC (fun {out h1} x1 hM {p e RR s m args0 below meth c H locs cells slots lsA} X r1 r2 r3 hS hl => ?_)
  have hGK := X.2.2.2.2.2.2.2.1
  have hts := X.2.2.2.2.2.2.1
  obtain ⟨hrp, hrecv⟩ := kcl_recv hGK hS hk hk0 hcl
  obtain ⟨-, q, hq, -⟩ := hS.obj (r := r) (by omega) (by omega)
  rw [hk] at hq
  obtain ⟨cC, hat⟩ := hGK.cls hq
  rw [hcl] at hat
  have hcw := va_cwF (R := RR) (s := s) (args := args0) (own := tO t) (C := Cn) (index := idx) (x := x) (y := tY y) (bytes := tB y) (maxL := tL y) (ret := tR y) (ws' := lw_all) (rm := { frames := d, cells := hw h1 - hw h, slots := hw h1 - hw h, locals := 64 * d }) n hts hw0 (tW_nil hH) rfl rfl (hGK.2.2.2.1 _ hfw) hd ⟨r1, show 8 + (tL y + 11) + 64 * d ≤ RR.locals by omega⟩
  exact ⟨_, vx_runF (As := args.map mv) hat ⟨X.1, X.2.1, X.2.2.2.2.1, X.2.2.2.2.2.1, X.2.2.2.2.2.2.1⟩ hM hcw ⟨PcP.blind g _ h, hrecv, by rw [← as_ref hrp]; exact pre_of hGK hS⟩ rfl (by rw [List.length_map]; exact hn) hl.1 (st_revR hrp args rest) (by show 2 * 0 + _ ≤ 8; rw [cat_map]; omega) D r3⟩
end CALLR
