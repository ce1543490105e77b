/-! ===== THE PURE LAYER OVER THE MACHINE: Sim, R, C ===== -/
set_option maxRecDepth 100000
/-- what is fixed for a run: the launch, the heap at the law's entry, class numbers, slots, array classes, the strings' addresses, the statics' values -/
abbrev PG : Type := Launch × Heap × (Nat → ClassId) × (Nat → Nat → Nat) × (Nat → ClassId) × (Nat → Nat) × (Nat → Value)
def gL (g : PG) : Launch := g.1
def gH (g : PG) : Heap := g.2.1
def gC (g : PG) : Nat → ClassId := g.2.2.1
def gI (g : PG) : Nat → Nat → Nat := g.2.2.2.1
def gAc (g : PG) : Nat → ClassId := g.2.2.2.2.1
def gSr (g : PG) : Nat → Nat := g.2.2.2.2.2.1
def gSt (g : PG) : Nat → Value := g.2.2.2.2.2.2
/-- the machine's value of a pure one: .ref 0 is null, .ref (a + 1) the cell a -/
def mvr (r : Nat) : Value := match r with
  | 0 => .null
  | a + 1 => .ref a
def mv (v : Value) : Value := match v with
  | .ref r => mvr r
  | v => v
def unmv (v : Value) : Value := match v with
  | .null => .ref 0
  | .ref a => .ref (a + 1)
  | v => v
theorem mv_unmv (v : Value) : mv (unmv v) = v := by cases v <;> rfl
theorem mv_int (x : Int32) : mv (.int x) = .int x := rfl
theorem mv_ref (r : Nat) : mv (.ref r) = mvr r := rfl
theorem mvr_pos {r : Nat} (h : 0 < r) : mvr r = .ref (r - 1) := by
  cases r with
  | zero => exact absurd h (Nat.lt_irrefl 0)
  | succ a => rfl
theorem mvr_cat (r : Nat) : (mvr r).category = 1 := by cases r <;> rfl
theorem mv_cat (v : Value) : (mv v).category = v.category := by
  cases v with
  | ref r => exact mvr_cat r
  | _ => rfl
theorem mvr_or (r : Nat) : mvr r = .null ∨ ∃ a, mvr r = .ref a := by
  cases r with
  | zero => exact Or.inl rfl
  | succ a => exact Or.inr ⟨a, rfl⟩
theorem mvr_inj {a b : Nat} (h : mvr a = mvr b) : a = b := by
  cases a <;> cases b <;> simp_all [mvr]
/-- a method: its name, code, locals, answer, table -/
abbrev MT : Type := MethodName × ByteArray × Nat × Option FieldType × List (Nat × Nat × Nat × Nat)
def tY (t : MT) : MethodName := t.1
def tB (t : MT) : ByteArray := t.2.1
def tL (t : MT) : Nat := t.2.2.1
def tR (t : MT) : Option FieldType := t.2.2.2.1
def tH (t : MT) : List (Nat × Nat × Nat × Nat) := t.2.2.2.2
def tO (t : MT) : String := (tY t).cls
def tW (t : MT) : List Cond := (match tH t with
  | [] => Cond.code (tY t) (tB t) (tL t) (tR t)
  | hh => Cond.codeWith (tY t) (tB t) (tL t) (tR t) hh) :: lw_all
/-- an outcome: a value (or none), or the thrown reference -/
abbrev Out : Type := Option Value ⊕ Nat
/-- a field's value -/
def fval (h : PH) (f r : Nat) : Value := if f < 500 then .int (hF h f r) else mvr (hG h f r)
def arrO (x : Nat) : Option Nat := if x = 0 then none else some (x - 1)
theorem va_rf_arrO (x : Nat) : va_rf (arrO x) = mvr x := by
  cases x <;> rfl
def arrOf (h : PH) (r t : Nat) : vp_A := (hln h r, match t with
  | 4 => .inr (.inl (fun i => hL h r i))
  | 5 => .inr (.inr (.inr (.inl (fun i => hD h r i))))
  | 6 => .inr (.inr (.inr (.inr (fun i => arrO (hB h r i)))))
  | 7 => .inr (.inr (.inr (.inr (fun i => arrO (hB h r i)))))
  | 8 => .inr (.inr (.inr (.inr (fun i => arrO (hB h r i)))))
  | _ => .inl (fun i => hA h r i))
def ent (g : PG) (h : PH) (r : Nat) : va_E :=
  if hkd h r < 100 then .inr (kci (hkd h r), (fids (kci (hkd h r))).map (fun f => fval h f r)) else .inl (gAc g (hkd h r / 100), arrOf h r (hkd h r / 100))
def SimAt (g : PG) (h : PH) (H : Heap) (r : Nat) : Prop :=
  va_at (gC g, gI g) cl_ (r - 1, ent g h r) H ∧ (hkd h r % 100 < 50 → (gH g).size < r) ∧ (hkd h r = 7 → ∃ cell : Cell, H[r - 1]? = some cell ∧ cell.monitor = {})
def Sim (g : PG) (h : PH) (H : Heap) : Prop :=
  H.size + 1 = hnx h ∧ (gH g).size ≤ H.size ∧ (∀ q : Nat, q < (gH g).size → H[q]? = (gH g)[q]?) ∧ WF h ∧ ∀ r, hkd h r ≠ 0 → SimAt g h H r
/-- the array classes, by their hundreds -/
def gTys (g : PG) : List (ClassId × FieldType) := [(gAc g 1, aty 1), (gAc g 2, aty 2), (gAc g 3, aty 3), (gAc g 4, aty 4), (gAc g 5, aty 5), (gAc g 6, aty 6), (gAc g 7, aty 7), (gAc g 8, aty 8)]
/-- old cells -/
def gOld (g : PG) : Nat → Prop := fun q => (gH g).size ≤ q
/-- a table word that doesn't ride in lw_all -/
def extW (w : Cond) : Bool := match w with
  | .fieldLinkNest _ _ _ _ _ _ => true
  | .methodLinkNest _ _ _ _ => true
  | .castable _ _ => true
  | .declares _ => true
  | .arrayOver (.object _) => true
  | .privateMethod _ => true
  | _ => false
/-- what is known of a state's tables -/
def GK (g : PG) (U : State) : Prop :=
  (gL g).stackTraces = false ∧ va_K (gC g, gI g) cl_ (gTys g) U ∧ (∀ w ∈ lw_tbl, extW w = true → va_Nw w U) ∧ (∀ q ∈ fwT, va_Fw q.1 q.2.1 q.2.2 U) ∧
  (∀ (i : Nat) (q : String × String × String), stT[i]? = some q → va_Z q.1 q.2.1 q.2.2 (gSt g i) (gOld g) U (gH g)) ∧
  (∀ (i : Nat) (q : String × Nat × String), srT[i]? = some q → vk_R q.1 q.2.1 q.2.2 (gSr g i) U) ∧
  (∀ q ∈ ncT, va_Nc q.1 q.2 U) ∧
  vx_Zq Bundle.tN "UNASSIGNED_STACK" Bundle.steD (gOld g) U (gH g) ∧ vx_Zq Bundle.tN "SUPPRESSED_SENTINEL" Bundle.listD (gOld g) U (gH g)
theorem va_Nw_warm {w : Cond} (hw : extW w = true) {s U : State} (hW : s.WarmedH U.vm) (h : va_Nw w s) : va_Nw w U := by
  cases w with
  | fieldLinkNest a b c d e f => exact va_Nw.warmF hW h
  | methodLinkNest a b c d => exact va_Nw.warmM hW h
  | castable a b => exact va_tabs rfl (rfl : (s.setVm U.vm).vm = U.vm) (by rw [Cond.castable_setVm hW.alike]; exact h)
  | declares a => exact va_Nw.warmD hW h
  | privateMethod a => exact Cond.privateMethod_warm hW h
  | arrayOver a =>
    cases a with
    | object C => exact va_AO.moved hW.alike h
    | _ => exact Bool.noConfusion (show false = true from hw)
  | _ => exact Bool.noConfusion (show false = true from hw)
theorem GK.ext {g : PG} {U : State} (h : GK g U) {w : Cond} (hw : w ∈ lw_tbl) (he : extW w = true) : va_Nw w U := h.2.2.1 w hw he
theorem GK.moved {g : PG} {s U : State} (hW : s.WarmedH U.vm) (h : GK g s) : GK g U := by
  obtain ⟨h0, h1, h2, h3, h4, h5, h6, h7, h8⟩ := h
  exact ⟨h0, va_K.moved hW.alike h1, fun w hw he => va_Nw_warm he hW (h2 w hw he), fun q hq => va_Fw.moved (fwT_ok q hq).1 hW.alike (h3 q hq), fun i q hq => va_Z.moved hW.alike (h4 i q hq), fun i q hq => vk_R.warm hW (h5 i q hq), fun q hq => va_Nc.moved hW.alike (h6 q hq), vx_Zq.moved hW.alike h7, vx_Zq.moved hW.alike h8⟩
theorem GK.same {g : PG} {s U : State} (hv : s.vm = U.vm) (h : GK g s) : GK g U := h.moved (by rw [← hv]; exact State.WarmedH.refl s)
