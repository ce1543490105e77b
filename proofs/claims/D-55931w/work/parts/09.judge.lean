/-! ===== R, XR, C: what a frame, a throw, a call come to ===== -/
set_option maxRecDepth 100000
def Ctx (g : PG) (t : MT) (p : Program) (s : State) (m : MethodId) (meth : Method) (c : Code) (args : Array Value) : Prop :=
  p.tables.exec = Jvm.exec ∧ c.code = tB t ∧ meth.sig.returnType = tR t ∧ meth.locks = false ∧ c.maxLocals = tL t ∧ s.vm.findClass (tO t) = some m.cls ∧ (∀ w ∈ lw_all, w.before args s = true) ∧ GK g s ∧ c.exceptionTable.toList = tableOf (tH t) ∧ meth.name = (tY t).name
/-- the room that is left: d frames for callees; what is made from h to h' fits -/
def Rm (d : Nat) (R : Room) (h h' : PH) (cells slots mc ms : Nat) : Prop :=
  d + 1 ≤ R.frames ∧ 64 * d + 64 ≤ R.locals ∧ cells + (hw h' - hw h) ≤ mc ∧ slots + (hw h' - hw h) ≤ ms ∧ mc ≤ R.cells ∧ ms ≤ R.slots
def lpr : Nat → List Value → List (Nat × Value)
  | _, [] => []
  | i, v :: l => if v = .null then lpr (i + 1) l else (i, mv v) :: lpr (i + 1) l
theorem lpr_get : ∀ (ls : List Value) (i k : Nat) (v : Value), ls[k]? = some v → v ≠ .null → (i + k, mv v) ∈ lpr i ls := by
  intro ls
  induction ls with
  | nil => intro i k v h; cases h
  | cons w l ih =>
    intro i k v h hv
    cases k with
    | zero =>
      cases h
      rw [lpr, if_neg hv]
      exact List.mem_cons_self
    | succ k =>
      have h1 := ih (i + 1) k v h hv
      rw [show i + 1 + k = i + (k + 1) by omega] at h1
      rw [lpr]
      split
      · exact h1
      · exact List.mem_cons_of_mem _ h1
theorem lpr_of : ∀ (ls : List Value) (i j : Nat) (w : Value), (j, w) ∈ lpr i ls → ∃ k v, j = i + k ∧ ls[k]? = some v ∧ v ≠ .null ∧ w = mv v := by
  intro ls
  induction ls with
  | nil => intro i j w h; cases h
  | cons v l ih =>
    intro i j w h
    rw [lpr] at h
    split at h
    · obtain ⟨k, v', e1, e2, e3, e4⟩ := ih _ _ _ h
      exact ⟨k + 1, v', by omega, e2, e3, e4⟩
    · rename_i hn
      rcases List.mem_cons.mp h with q | q
      · cases q
        exact ⟨0, v, rfl, rfl, hn, rfl⟩
      · obtain ⟨k, v', e1, e2, e3, e4⟩ := ih _ _ _ q
        exact ⟨k + 1, v', by omega, e2, e3, e4⟩
/-- the machine's locals hold the pure ones -/
theorem lp_at {A : Array Slot} {n : Nat} {ls : List Value} (h : lv_has A n (lpr 0 ls)) {k : Nat} {v : Value} (hk : ls[k]? = some v) (hv : v ≠ .null) : A[k]? = some (.val (mv v)) := by
  have h1 := h.2.2 _ (lpr_get ls 0 k v hk hv)
  rw [show (0 + k, mv v).1 = k by simp] at h1
  exact h1
/-- no local of two slots stands just ahead -/
def pv2 (ls : List Value) (i : Nat) : Bool := match i with
  | 0 => true
  | j + 1 => match ls[j]? with
    | some w => w.category != 2
    | none => true
theorem lp_set1 {A : Array Slot} {n i : Nat} {ls ls' : List Value} {v : Value} (h : lv_has A n ((i, mv v) :: (lpr 0 ls).filter (fun q => !(q.1 == i) && !(q.1 + 1 == i && q.2.category == 2)))) (hp : pv2 ls i = true) (hs : ls.set i v = ls') : lv_has A n (lpr 0 ls') := by
  subst hs
  refine ⟨h.1, h.2.1, fun q hq => ?_⟩
  obtain ⟨j, w⟩ := q
  obtain ⟨k, v', e1, e2, e3, e4⟩ := lpr_of _ _ _ _ hq
  have e1 : j = k := by omega
  subst e1
  subst e4
  by_cases hi : j = i
  · subst hi
    rw [List.getElem?_set] at e2
    simp only [if_true] at e2
    split at e2
    · cases e2
      exact h.2.2 _ List.mem_cons_self
    · cases e2
  · rw [List.getElem?_set, if_neg (fun q => hi q.symm)] at e2
    refine h.2.2 _ (List.mem_cons_of_mem _ (List.mem_filter.mpr ⟨by have := lpr_get ls 0 j v' e2 e3; rwa [Nat.zero_add] at this, ?_⟩))
    have h1 : (j == i) = false := by simpa using hi
    simp only [h1, Bool.not_false, Bool.true_and, Bool.not_eq_true', Bool.and_eq_false_iff]
    by_cases hj : j + 1 = i
    · right
      subst hj
      rw [pv2, e2] at hp
      rw [mv_cat]
      simpa using hp
    · left
      simpa using hj
theorem lp_set2 {A : Array Slot} {n i : Nat} {ls ls' : List Value} {v : Value} (h : lv_has A n ((i, mv v) :: (lpr 0 ls).filter (fun q => !(q.1 == i) && (!(q.1 == i + 1) && !(q.1 + 1 == i && q.2.category == 2))))) (hp : pv2 ls i = true) (hs : (ls.set i v).set (i + 1) .null = ls') : lv_has A n (lpr 0 ls') := by
  subst hs
  refine ⟨h.1, h.2.1, fun q hq => ?_⟩
  obtain ⟨j, w⟩ := q
  obtain ⟨k, v', e1, e2, e3, e4⟩ := lpr_of _ _ _ _ hq
  have e1 : j = k := by omega
  subst e1
  subst e4
  by_cases hi1 : j = i + 1
  · subst hi1
    rw [List.getElem?_set] at e2
    simp only [if_true] at e2
    split at e2
    · cases e2; exact absurd rfl e3
    · cases e2
  · rw [List.getElem?_set, if_neg (fun q => hi1 q.symm)] at e2
    by_cases hi : j = i
    · subst hi
      rw [List.getElem?_set] at e2
      simp only [if_true] at e2
      split at e2
      · cases e2
        exact h.2.2 _ List.mem_cons_self
      · cases e2
    · rw [List.getElem?_set, if_neg (fun q => hi q.symm)] at e2
      refine h.2.2 _ (List.mem_cons_of_mem _ (List.mem_filter.mpr ⟨by have := lpr_get ls 0 j v' e2 e3; rwa [Nat.zero_add] at this, ?_⟩))
      have h1 : (j == i) = false := by simpa using hi
      have h2 : (j == i + 1) = false := by simpa using hi1
      simp only [h1, h2, Bool.not_false, Bool.true_and, Bool.not_eq_true', Bool.and_eq_false_iff]
      by_cases hj : j + 1 = i
      · right
        subst hj
        rw [pv2, e2] at hp
        rw [mv_cat]
        simpa using hp
      · left
        simpa using hj
/-- the class of a kind, by its name -/
def kcl (k : Nat) : String := match cl_[kci k]? with
  | some q => q.1
  | none => ""
def QcP (g : PG) (out : Out) (h' : PH) : Array Value → State → Outcome → State → Prop := fun _ _ o t => ∃ v : Option Value, out = .inl v ∧ o = .returned (v.map mv) ∧ Sim g h' t.heap
def XcP (g : PG) (out : Out) (h' : PH) : Addr → String → State → State → Prop := fun q E _ t => ∃ r : Nat, out = .inr r ∧ r = q + 1 ∧ hkd h' r ≠ 0 ∧ hkd h' r < 100 ∧ E = kcl (hkd h' r) ∧ Sim g h' t.heap
def PcP (g : PG) (args : List Value) (h : PH) : Array Value → State → Prop := fun v U => v = (args.map mv).toArray ∧ GK g U ∧ Sim g h U.heap
def Rn (g : PG) (d : Nat) (t : MT) (pc : Nat) (ls st : List Value) (h : PH) (out : Out) (h' : PH) : Prop :=
  ∀ ⦃p : Program⦄ ⦃e : Env⦄ ⦃R : Room⦄ ⦃s : State⦄ ⦃m : MethodId⦄ ⦃args : Array Value⦄ ⦃below : List Frame⦄ ⦃meth : Method⦄ ⦃c : Code⦄ ⦃H : Heap⦄ ⦃locs : List Loc⦄ ⦃cells slots mc ms : Nat⦄ ⦃lsA : Array Slot⦄,
    Ctx g t p s m meth c args → Rm d R h h' cells slots mc ms → Sim g h H → lv_has lsA (tL t) (lpr 0 ls) → (∀ q ∈ locs, gOld g q.base) →
    W p (gL g) e R s m args below meth c H locs cells slots (vx_MQ below (QcP g out h') (XcP g out h') args s mc ms (gOld g)) (F0 m pc lsA (st.map mv))
/-- from the frame the method ends, with Q of its outcome and of the heap -/
def R (g : PG) (d : Nat) (t : MT) (pc : Nat) (ls st : List Value) (h : PH) (Q : Out → PH → Prop) : Prop := WF h → ∃ out h', Q out h' ∧ WF h' ∧ Ext h h' ∧ Rn g d t pc ls st h out h'
def Xn (g : PG) (d : Nat) (t : MT) (pc : Nat) (ls : List Value) (r : Nat) (h : PH) (out : Out) (h' : PH) : Prop :=
  ∀ ⦃p : Program⦄ ⦃e : Env⦄ ⦃R : Room⦄ ⦃s : State⦄ ⦃m : MethodId⦄ ⦃args : Array Value⦄ ⦃below : List Frame⦄ ⦃meth : Method⦄ ⦃c : Code⦄ ⦃H : Heap⦄ ⦃locs : List Loc⦄ ⦃cells slots mc ms : Nat⦄ ⦃lsA : Array Slot⦄ ⦃rest : List Value⦄,
    Ctx g t p s m meth c args → Rm d R h h' cells slots mc ms → Sim g h H → lv_has lsA (tL t) (lpr 0 ls) → (∀ q ∈ locs, gOld g q.base) → hkd h r ≠ 0 ∧ hkd h r < 100 →
    vx_W p (gL g) e R s m args below meth c H locs cells slots (vx_MQ below (QcP g out h') (XcP g out h') args s mc ms (gOld g)) (F0 m pc lsA rest) (r - 1)
/-- the same with r thrown over the frame -/
def XR (g : PG) (d : Nat) (t : MT) (pc : Nat) (ls : List Value) (r : Nat) (h : PH) (Q : Out → PH → Prop) : Prop := WF h → ∃ out h', Q out h' ∧ WF h' ∧ Ext h h' ∧ Xn g d t pc ls r h out h'
def CM (g : PG) (d : Nat) (y : MT) (args : List Value) (h : PH) (out : Out) (h' : PH) : Prop :=
  vx_Met (gL g) (tY y) (tW y) ({ frames := d, cells := hw h' - hw h, slots := hw h' - hw h, locals := 64 * d }) (PcP g args h) (QcP g out h') (XcP g out h') (hw h' - hw h) (hw h' - hw h) (gOld g)
/-- a call of y ends, with Q -/
def C (g : PG) (d : Nat) (y : MT) (args : List Value) (h : PH) (Q : Out → PH → Prop) : Prop := WF h → ∃ out h', Q out h' ∧ WF h' ∧ Ext h h' ∧ CM g d y args h out h'
theorem R.monoE {g : PG} {d : Nat} {t : MT} {pc : Nat} {ls st : List Value} {h : PH} {Q Q' : Out → PH → Prop} (k : R g d t pc ls st h Q) (hQ : ∀ o h', WF h' → Ext h h' → Q o h' → Q' o h') : R g d t pc ls st h Q' := by
  intro w
  obtain ⟨o, h', a, b, c, e⟩ := k w
  exact ⟨o, h', hQ o h' b c a, b, c, e⟩
theorem C.monoE {g : PG} {d : Nat} {y : MT} {args : List Value} {h : PH} {Q Q' : Out → PH → Prop} (k : C g d y args h Q) (hQ : ∀ o h', WF h' → Ext h h' → Q o h' → Q' o h') : C g d y args h Q' := by
  intro w
  obtain ⟨o, h', a, b, c, e⟩ := k w
  exact ⟨o, h', hQ o h' b c a, b, c, e⟩
theorem C.mono {g : PG} {d : Nat} {y : MT} {args : List Value} {h : PH} {Q Q' : Out → PH → Prop} (k : C g d y args h Q) (hQ : ∀ o h', Q o h' → Q' o h') : C g d y args h Q' := k.monoE (fun o h' _ _ => hQ o h')
theorem C.wf {g : PG} {d : Nat} {y : MT} {args : List Value} {h : PH} {Q : Out → PH → Prop} (k : WF h → C g d y args h Q) : C g d y args h Q := fun w => k w w
theorem PcP.blind (g : PG) (args : List Value) (h : PH) : FrameBlind (PcP g args h) := fun _ U f mk q => ⟨q.1, GK.same (s := U) rfl q.2.1, q.2.2⟩
theorem Rm.step {d : Nat} {R : Room} {h h1 h' : PH} {cells slots mc ms : Nat} (r : Rm d R h h' cells slots mc ms) (a : hw h ≤ hw h1) (b : hw h1 ≤ hw h') : Rm d R h1 h' (cells + (hw h1 - hw h)) (slots + (hw h1 - hw h)) mc ms := by
  obtain ⟨r1, r2, r3, r4, r5, r6⟩ := r
  exact ⟨r1, r2, by omega, by omega, r5, r6⟩
theorem R.wf {g : PG} {d : Nat} {t : MT} {pc : Nat} {ls st : List Value} {h : PH} {Q : Out → PH → Prop} (k : WF h → R g d t pc ls st h Q) : R g d t pc ls st h Q := fun w => k w w
theorem Sim.obj {g : PG} {h : PH} {H : Heap} (hS : Sim g h H) {r : Nat} (hk : hkd h r ≠ 0) (hl : hkd h r < 100) : 0 < r ∧ ∃ q : vw_C, cl_[kci (hkd h r)]? = some q ∧ t_OB (r - 1) (gC g (kci (hkd h r))) q.2.2 (gI g (kci (hkd h r))) H (vp_V ((fids (kci (hkd h r))).map (fun f => fval h f r))) := by
  obtain ⟨h1, -, -⟩ := hS.2.2.2.2 r hk
  rw [va_at, ent, if_pos hl] at h1
  exact ⟨hS.2.2.2.1.pos hk, h1⟩
theorem Sim.cell {g : PG} {h : PH} {H : Heap} {s : State} (hK : GK g s) (hS : Sim g h H) {r : Nat} (hk : hkd h r ≠ 0) (hl : hkd h r < 100) : ∃ cell : Cell, H[r - 1]? = some cell ∧ cell.vm = .none ∧ s.vm.findClass (kcl (hkd h r)) = some cell.cls := by
  obtain ⟨-, q, hq, cell, h1, h2, h3, -⟩ := hS.obj hk hl
  refine ⟨cell, h1, h3, ?_⟩
  have h4 := (hK.2.1.1 _ q hq).2.1
  rw [h2, kcl, hq]
  exact h4
