/-! ===== RULES: arrays ===== -/
set_option maxRecDepth 100000
theorem Sim.arr {g : PG} {h : PH} {H : Heap} (hS : Sim g h H) {r n : Nat} (hk : hkd h r / 100 = n) (hn : 0 < n) : 0 < r ∧ hkd h r ≠ 0 ∧ 100 ≤ hkd h r ∧ H[r - 1]? = some (vp_cell (gAc g n) (arrOf h r n)) := by
  have h1 : hkd h r ≠ 0 := fun q => by rw [q] at hk; omega
  have h2 : 100 ≤ hkd h r := by omega
  obtain ⟨h3, -, -⟩ := hS.2.2.2.2 r h1
  rw [va_at, ent_arr h2, hk] at h3
  exact ⟨hS.2.2.2.1.pos h1, h1, h2, h3⟩
theorem GK.arr {g : PG} {U : State} (h : GK g U) {n : Nat} (hn : 0 < n ∧ n ≤ 8) : ArrOfT U (gAc g n) (aty n) ∧ va_RA U (gAc g n) (aty n) := by
  have h1 := h.2.1.2
  match n, hn with
  | 1, _ => exact h1 0 _ rfl
  | 2, _ => exact h1 1 _ rfl
  | 3, _ => exact h1 2 _ rfl
  | 4, _ => exact h1 3 _ rfl
  | 5, _ => exact h1 4 _ rfl
  | 6, _ => exact h1 5 _ rfl
  | 7, _ => exact h1 6 _ rfl
  | 8, _ => exact h1 7 _ rfl
  | n + 9, hn => exact absurd hn.2 (by omega)
theorem ent_arr_ne {g : PG} {h h' : PH} {x : Nat} (kd : hkd h' x = hkd h x) (ln : hln h' x = hln h x) (f : ∀ y, hF h' y x = hF h y x) (gg : ∀ y, hG h' y x = hG h y x) (a : ∀ y, hA h' x y = hA h x y) (b : ∀ y, hB h' x y = hB h x y) (l : ∀ y, hL h' x y = hL h x y) (dd : ∀ y, hD h' x y = hD h x y) : ent g h' x = ent g h x := by
  have e1 : (fun i => hA h' x i) = (fun i => hA h x i) := funext a
  have e2 : (fun i => hL h' x i) = (fun i => hL h x i) := funext l
  have e3 : (fun i => hD h' x i) = (fun i => hD h x i) := funext dd
  have e4 : (fun i => arrO (hB h' x i)) = (fun i => arrO (hB h x i)) := funext (fun i => by rw [b])
  have e5 : (fun y => fval h' y x) = (fun y => fval h y x) := funext (fun y => by unfold fval; rw [f, gg])
  unfold ent
  rw [kd, e5]
  have e6 : ∀ n, arrOf h' x n = arrOf h x n := by
    intro n
    unfold arrOf
    rw [ln, e1, e2, e3, e4]
  rw [e6]
theorem updV_fun {α : Type} (F : Nat → α) (mk : α → Value) (k : Nat) (v : α) (G : Nat → α) (hG : ∀ j, G j = if j = k then v else F j) : updV (fun j => mk (F j)) k (mk v) = fun j => mk (G j) := by
  funext j
  rw [hG]
  unfold updV
  split <;> rfl
section ARRR
variable {g : PG} {d : Nat} {t : MT} {pc : Nat} {ls st : List Value} {h : PH} {Q : Out → PH → Prop}
theorem r_iald {r : Nat} {i : Int32} (D : decode (tB t) pc = .ok (.iaload, 1)) (hk : hkd h r / 100 = 1) (hin : vp_in i (hln h r)) (n : R g d t (pc + 1) ls (.int (hA h r i.toNatClampNeg) :: st) h Q) : R g d t pc ls (.int i :: .ref r :: st) h Q := by
  intro w
  obtain ⟨o, h', a, b, c, n⟩ := n w
  refine ⟨o, h', a, b, c, fun _ _ _ _ _ _ _ _ _ _ _ _ _ _ _ _ X hr hS hl hf => ?_⟩
  obtain ⟨hp, -, -, hc⟩ := hS.arr hk (by decide)
  have hlt : i.toNatClampNeg < hln h r := Nat.not_le.mp fun q => hin (Or.inr q)
  rw [List.map_cons, List.map_cons, mv_int, mv_ref, mvr_pos hp]
  exact W.iald (v := .int (hA h r i.toNatClampNeg)) X.1 X.2.1 hc ((X.2.2.2.2.2.2.2.1.arr (n := 1) (by decide)).1 _ (fun j => .int (hA h r j))) (fun q => by cases q) (by show ¬ (i < 0 ∨ (arrV _ _ _).slots.size ≤ _); rw [arrV_size]; exact hin) (arrV_read _ (fun j => .int (hA h r j)) hlt) rfl rfl D (n X hr hS hl hf)
theorem r_cald {r : Nat} {i : Int32} (D : decode (tB t) pc = .ok (.caload, 1)) (hk : hkd h r / 100 = 2) (hin : vp_in i (hln h r)) (n : R g d t (pc + 1) ls (.int (hA h r i.toNatClampNeg) :: st) h Q) : R g d t pc ls (.int i :: .ref r :: st) h Q := by
  intro w
  obtain ⟨o, h', a, b, c, n⟩ := n w
  refine ⟨o, h', a, b, c, fun _ _ _ _ _ _ _ _ _ _ _ _ _ _ _ _ X hr hS hl hf => ?_⟩
  obtain ⟨hp, -, -, hc⟩ := hS.arr hk (by decide)
  have hlt : i.toNatClampNeg < hln h r := Nat.not_le.mp fun q => hin (Or.inr q)
  rw [List.map_cons, List.map_cons, mv_int, mv_ref, mvr_pos hp]
  exact W.cald (v := .int (hA h r i.toNatClampNeg)) X.1 X.2.1 hc ((X.2.2.2.2.2.2.2.1.arr (n := 2) (by decide)).1 _ (fun j => .int (hA h r j))) (fun q => by cases q) (by show ¬ (i < 0 ∨ (arrV _ _ _).slots.size ≤ _); rw [arrV_size]; exact hin) (arrV_read _ (fun j => .int (hA h r j)) hlt) rfl rfl D (n X hr hS hl hf)
theorem r_bald {r : Nat} {i : Int32} (D : decode (tB t) pc = .ok (.baload, 1)) (hk : hkd h r / 100 = 3) (hin : vp_in i (hln h r)) (n : R g d t (pc + 1) ls (.int (hA h r i.toNatClampNeg) :: st) h Q) : R g d t pc ls (.int i :: .ref r :: st) h Q := by
  intro w
  obtain ⟨o, h', a, b, c, n⟩ := n w
  refine ⟨o, h', a, b, c, fun _ _ _ _ _ _ _ _ _ _ _ _ _ _ _ _ X hr hS hl hf => ?_⟩
  obtain ⟨hp, -, -, hc⟩ := hS.arr hk (by decide)
  have hlt : i.toNatClampNeg < hln h r := Nat.not_le.mp fun q => hin (Or.inr q)
  rw [List.map_cons, List.map_cons, mv_int, mv_ref, mvr_pos hp]
  exact W.bald (v := .int (hA h r i.toNatClampNeg)) X.1 X.2.1 hc ((X.2.2.2.2.2.2.2.1.arr (n := 3) (by decide)).1 _ (fun j => .int (hA h r j))) (fun q => by cases q) (by show ¬ (i < 0 ∨ (arrV _ _ _).slots.size ≤ _); rw [arrV_size]; exact hin) (arrV_read _ (fun j => .int (hA h r j)) hlt) rfl rfl D (n X hr hS hl hf)
theorem r_lald {r : Nat} {i : Int32} (D : decode (tB t) pc = .ok (.laload, 1)) (hk : hkd h r / 100 = 4) (hin : vp_in i (hln h r)) (n : R g d t (pc + 1) ls (.long (hL h r i.toNatClampNeg) :: st) h Q) : R g d t pc ls (.int i :: .ref r :: st) h Q := by
  intro w
  obtain ⟨o, h', a, b, c, n⟩ := n w
  refine ⟨o, h', a, b, c, fun _ _ _ _ _ _ _ _ _ _ _ _ _ _ _ _ X hr hS hl hf => ?_⟩
  obtain ⟨hp, -, -, hc⟩ := hS.arr hk (by decide)
  have hlt : i.toNatClampNeg < hln h r := Nat.not_le.mp fun q => hin (Or.inr q)
  rw [List.map_cons, List.map_cons, mv_int, mv_ref, mvr_pos hp]
  exact W.lald (v := .long (hL h r i.toNatClampNeg)) X.1 X.2.1 hc ((X.2.2.2.2.2.2.2.1.arr (n := 4) (by decide)).1 _ (fun j => .long (hL h r j))) (fun q => by cases q) (by show ¬ (i < 0 ∨ (arrV _ _ _).slots.size ≤ _); rw [arrV_size]; exact hin) (arrV_read _ (fun j => .long (hL h r j)) hlt) rfl rfl D (n X hr hS hl hf)
theorem r_dald {r : Nat} {i : Int32} (D : decode (tB t) pc = .ok (.daload, 1)) (hk : hkd h r / 100 = 5) (hin : vp_in i (hln h r)) (n : R g d t (pc + 1) ls (.double (hD h r i.toNatClampNeg) :: st) h Q) : R g d t pc ls (.int i :: .ref r :: st) h Q := by
  intro w
  obtain ⟨o, h', a, b, c, n⟩ := n w
  refine ⟨o, h', a, b, c, fun _ _ _ _ _ _ _ _ _ _ _ _ _ _ _ _ X hr hS hl hf => ?_⟩
  obtain ⟨hp, -, -, hc⟩ := hS.arr hk (by decide)
  have hlt : i.toNatClampNeg < hln h r := Nat.not_le.mp fun q => hin (Or.inr q)
  rw [List.map_cons, List.map_cons, mv_int, mv_ref, mvr_pos hp]
  exact W.dald (v := .double (hD h r i.toNatClampNeg)) X.1 X.2.1 hc ((X.2.2.2.2.2.2.2.1.arr (n := 5) (by decide)).1 _ (fun j => .double (hD h r j))) (fun q => by cases q) (by show ¬ (i < 0 ∨ (arrV _ _ _).slots.size ≤ _); rw [arrV_size]; exact hin) (arrV_read _ (fun j => .double (hD h r j)) hlt) rfl rfl D (n X hr hS hl hf)
theorem arrOf_ref (h : PH) (r : Nat) {n : Nat} (hn : 6 ≤ n ∧ n ≤ 8) : arrOf h r n = (hln h r, .inr (.inr (.inr (.inr (fun i => arrO (hB h r i)))))) := by
  match n, hn with
  | 6, _ => rfl
  | 7, _ => rfl
  | 8, _ => rfl
  | 0, hn => exact absurd hn.1 (by decide)
  | 1, hn => exact absurd hn.1 (by decide)
  | 2, hn => exact absurd hn.1 (by decide)
  | 3, hn => exact absurd hn.1 (by decide)
  | 4, hn => exact absurd hn.1 (by decide)
  | 5, hn => exact absurd hn.1 (by decide)
  | n + 9, hn => exact absurd hn.2 (by omega)
theorem aty_ref {n : Nat} (hn : 6 ≤ n) : ∃ C, aty n = .object C := by
  match n, hn with
  | 6, _ => exact ⟨_, rfl⟩
  | 7, _ => exact ⟨_, rfl⟩
  | 0, hn => exact absurd hn (by decide)
  | 1, hn => exact absurd hn (by decide)
  | 2, hn => exact absurd hn (by decide)
  | 3, hn => exact absurd hn (by decide)
  | 4, hn => exact absurd hn (by decide)
  | 5, hn => exact absurd hn (by decide)
  | n + 8, _ => exact ⟨_, rfl⟩
theorem r_aald {r m : Nat} {i : Int32} (D : decode (tB t) pc = .ok (.aaload, 1)) (hm : 6 ≤ m ∧ m ≤ 8) (hk : hkd h r / 100 = m) (hin : vp_in i (hln h r)) (n : R g d t (pc + 1) ls (.ref (hB h r i.toNatClampNeg) :: st) h Q) : R g d t pc ls (.int i :: .ref r :: st) h Q := by
  intro w
  obtain ⟨o, h', a, b, c, n⟩ := n w
  refine ⟨o, h', a, b, c, fun _ _ _ _ _ _ _ _ _ _ _ _ _ _ _ _ X hr hS hl hf => ?_⟩
  obtain ⟨hp, -, -, hc⟩ := hS.arr hk (by omega)
  have hlt : i.toNatClampNeg < hln h r := Nat.not_le.mp fun q => hin (Or.inr q)
  obtain ⟨C, hC⟩ := aty_ref hm.1
  have hA := (X.2.2.2.2.2.2.2.1.arr (n := m) (by omega)).1
  rw [hC] at hA
  rw [arrOf_ref h r hm] at hc
  rw [List.map_cons, List.map_cons, mv_int, mv_ref, mvr_pos hp]
  exact W.aald (v := mvr (hB h r i.toNatClampNeg)) (ty := .object C) X.1 X.2.1 hc (hA _ (fun j => va_rf (arrO (hB h r j)))) rfl (fun q => by cases q) (by show ¬ (i < 0 ∨ (arrV _ _ _).slots.size ≤ _); rw [arrV_size]; exact hin) ((arrV_read _ (fun j => va_rf (arrO (hB h r j))) hlt).trans (congrArg some (va_rf_arrO _))) rfl rfl D (n X hr hS hl hf)
/-- what a store into an array leaves -/
theorem Sim.ast {g : PG} {h h' : PH} {H H' : Heap} (hS : Sim g h H) {r n j : Nat} {v : Value} (hk : hkd h r / 100 = n) (hn : 0 < n) (hw0 : hkd h r % 100 < 50) (e1 : H'[r - 1]? = some ((vp_cell (gAc g n) (arrOf h r n)).setSlot j v)) (e2 : H'.size = H.size) (e3 : ∀ q : Nat, q ≠ r - 1 → H'[q]? = H[q]?)
    (kd : ∀ x, hkd h' x = hkd h x) (nx : hnx h' = hnx h) (wf : WF h') (same : ∀ x, x ≠ r → ent g h' x = ent g h x) (hv : (vp_cell (gAc g n) (arrOf h r n)).setSlot j v = vp_cell (gAc g n) (arrOf h' r n)) : Sim g h' H' := by
  obtain ⟨hp, h0, h1, -⟩ := hS.arr hk hn
  refine hS.upd h0 hw0 e2 e3 kd nx wf same ?_ (fun q => by omega)
  rw [ent_arr (by rw [kd]; exact h1), kd, hk]
  show H'[r - 1]? = some (vp_cell _ _)
  rw [← hv]
  exact e1
theorem gOld_of {g : PG} {h : PH} {H : Heap} (hS : Sim g h H) {r : Nat} (hk : hkd h r ≠ 0) (hw0 : hkd h r % 100 < 50) {locs : List Loc} {j : Nat} (hf : ∀ q ∈ locs, gOld g q.base) : ∀ q ∈ locs ++ [(⟨r - 1, j⟩ : Loc)], gOld g q.base := by
  intro q hq
  rcases List.mem_append.mp hq with z | z
  · exact hf q z
  · rw [List.mem_singleton.mp z]
    have := (hS.2.2.2.2 r hk).2.1 hw0
    show (gH g).size ≤ r - 1
    omega
theorem r_iast {r : Nat} {i v : Int32} (D : decode (tB t) pc = .ok (.iastore, 1)) (hk : hkd h r / 100 = 1) (hw0 : hkd h r % 100 < 50) (hin : vp_in i (hln h r)) (n : R g d t (pc + 1) ls st (setA r i.toNatClampNeg v h) Q) : R g d t pc ls (.int v :: .int i :: .ref r :: st) h Q := by
  intro w
  have hk0 : hkd h r ≠ 0 := fun q => by rw [q] at hk; omega
  have w1 := w.setA r i.toNatClampNeg v hk0
  obtain ⟨o, h', a, b, c, n⟩ := n w1
  refine ⟨o, h', a, b, (Ext.setA r i.toNatClampNeg v hw0).tr c, fun _ _ _ _ _ _ _ _ _ _ _ _ _ _ _ _ X hr hS hl hf => ?_⟩
  obtain ⟨hp, -, -, hc⟩ := hS.arr hk (by decide)
  rw [List.map_cons, List.map_cons, List.map_cons, mv_int, mv_int, mv_ref, mvr_pos hp]
  refine W.iast X.1 X.2.1 hc ((X.2.2.2.2.2.2.2.1.arr (n := 1) (by decide)).1 _ (fun j => .int (hA h r j))) (fun q => by cases q) (by show ¬ (i < 0 ∨ (arrV _ _ _).slots.size ≤ _); rw [arrV_size]; exact hin) rfl rfl D (fun H' e1 e2 e3 => ?_)
  refine n X hr (hS.ast hk (by decide) hw0 e1 e2 e3 (fun _ => rfl) rfl w1 (fun x hx => ent_arr_ne rfl rfl (fun _ => rfl) (fun _ => rfl) (fun y => by rw [hA_setA, if_neg (fun q => hx q.1)]) (fun _ => rfl) (fun _ => rfl) (fun _ => rfl)) ?_) hl (gOld_of hS hk0 hw0 hf)
  show (arrV (gAc g 1) (hln h r) (fun j => Value.int (hA h r j))).setSlot i.toNatClampNeg (Value.int v) = arrV (gAc g 1) (hln h r) (fun j => Value.int (hA (setA r i.toNatClampNeg v h) r j))
  rw [arrV_store, updV_fun (fun j => hA h r j) Value.int i.toNatClampNeg v (fun j => hA (setA r i.toNatClampNeg v h) r j) (fun j => by rw [hA_setA]; simp)]
theorem r_cast {r : Nat} {i v : Int32} (D : decode (tB t) pc = .ok (.castore, 1)) (hk : hkd h r / 100 = 2) (hw0 : hkd h r % 100 < 50) (hin : vp_in i (hln h r)) (hv : narrow .char (.int v) = .int v) (n : R g d t (pc + 1) ls st (setA r i.toNatClampNeg v h) Q) : R g d t pc ls (.int v :: .int i :: .ref r :: st) h Q := by
  intro w
  have hk0 : hkd h r ≠ 0 := fun q => by rw [q] at hk; omega
  have w1 := w.setA r i.toNatClampNeg v hk0
  obtain ⟨o, h', a, b, c, n⟩ := n w1
  refine ⟨o, h', a, b, (Ext.setA r i.toNatClampNeg v hw0).tr c, fun _ _ _ _ _ _ _ _ _ _ _ _ _ _ _ _ X hr hS hl hf => ?_⟩
  obtain ⟨hp, -, -, hc⟩ := hS.arr hk (by decide)
  rw [List.map_cons, List.map_cons, List.map_cons, mv_int, mv_int, mv_ref, mvr_pos hp]
  refine W.cast X.1 X.2.1 hc ((X.2.2.2.2.2.2.2.1.arr (n := 2) (by decide)).1 _ (fun j => .int (hA h r j))) (fun q => by cases q) (by show ¬ (i < 0 ∨ (arrV _ _ _).slots.size ≤ _); rw [arrV_size]; exact hin) rfl rfl D (fun H' e1 e2 e3 => ?_)
  rw [hv] at e1
  refine n X hr (hS.ast hk (by decide) hw0 e1 e2 e3 (fun _ => rfl) rfl w1 (fun x hx => ent_arr_ne rfl rfl (fun _ => rfl) (fun _ => rfl) (fun y => by rw [hA_setA, if_neg (fun q => hx q.1)]) (fun _ => rfl) (fun _ => rfl) (fun _ => rfl)) ?_) hl (gOld_of hS hk0 hw0 hf)
  show (arrV (gAc g 2) (hln h r) (fun j => Value.int (hA h r j))).setSlot i.toNatClampNeg (Value.int v) = arrV (gAc g 2) (hln h r) (fun j => Value.int (hA (setA r i.toNatClampNeg v h) r j))
  rw [arrV_store, updV_fun (fun j => hA h r j) Value.int i.toNatClampNeg v (fun j => hA (setA r i.toNatClampNeg v h) r j) (fun j => by rw [hA_setA]; simp)]
theorem r_bast {r : Nat} {i v : Int32} (D : decode (tB t) pc = .ok (.bastore, 1)) (hk : hkd h r / 100 = 3) (hw0 : hkd h r % 100 < 50) (hin : vp_in i (hln h r)) (hv : narrow .byte (.int v) = .int v) (n : R g d t (pc + 1) ls st (setA r i.toNatClampNeg v h) Q) : R g d t pc ls (.int v :: .int i :: .ref r :: st) h Q := by
  intro w
  have hk0 : hkd h r ≠ 0 := fun q => by rw [q] at hk; omega
  have w1 := w.setA r i.toNatClampNeg v hk0
  obtain ⟨o, h', a, b, c, n⟩ := n w1
  refine ⟨o, h', a, b, (Ext.setA r i.toNatClampNeg v hw0).tr c, fun _ _ _ _ _ _ _ _ _ _ _ _ _ _ _ _ X hr hS hl hf => ?_⟩
  obtain ⟨hp, -, -, hc⟩ := hS.arr hk (by decide)
  rw [List.map_cons, List.map_cons, List.map_cons, mv_int, mv_int, mv_ref, mvr_pos hp]
  refine W.bast X.1 X.2.1 hc ((X.2.2.2.2.2.2.2.1.arr (n := 3) (by decide)).1 _ (fun j => .int (hA h r j))) (fun q => by cases q) (by show ¬ (i < 0 ∨ (arrV _ _ _).slots.size ≤ _); rw [arrV_size]; exact hin) rfl rfl D (fun H' e1 e2 e3 => ?_)
  rw [hv] at e1
  refine n X hr (hS.ast hk (by decide) hw0 e1 e2 e3 (fun _ => rfl) rfl w1 (fun x hx => ent_arr_ne rfl rfl (fun _ => rfl) (fun _ => rfl) (fun y => by rw [hA_setA, if_neg (fun q => hx q.1)]) (fun _ => rfl) (fun _ => rfl) (fun _ => rfl)) ?_) hl (gOld_of hS hk0 hw0 hf)
  show (arrV (gAc g 3) (hln h r) (fun j => Value.int (hA h r j))).setSlot i.toNatClampNeg (Value.int v) = arrV (gAc g 3) (hln h r) (fun j => Value.int (hA (setA r i.toNatClampNeg v h) r j))
  rw [arrV_store, updV_fun (fun j => hA h r j) Value.int i.toNatClampNeg v (fun j => hA (setA r i.toNatClampNeg v h) r j) (fun j => by rw [hA_setA]; simp)]
theorem r_last {r : Nat} {i : Int32} {v : Int64} (D : decode (tB t) pc = .ok (.lastore, 1)) (hk : hkd h r / 100 = 4) (hw0 : hkd h r % 100 < 50) (hin : vp_in i (hln h r)) (n : R g d t (pc + 1) ls st (setL r i.toNatClampNeg v h) Q) : R g d t pc ls (.long v :: .int i :: .ref r :: st) h Q := by
  intro w
  have hk0 : hkd h r ≠ 0 := fun q => by rw [q] at hk; omega
  have w1 := w.setL r i.toNatClampNeg v hk0
  obtain ⟨o, h', a, b, c, n⟩ := n w1
  refine ⟨o, h', a, b, (Ext.setL r i.toNatClampNeg v hw0).tr c, fun _ _ _ _ _ _ _ _ _ _ _ _ _ _ _ _ X hr hS hl hf => ?_⟩
  obtain ⟨hp, -, -, hc⟩ := hS.arr hk (by decide)
  show W _ _ _ _ _ _ _ _ _ _ _ _ _ _ _ (F0 _ _ _ (.long v :: .int i :: mvr r :: st.map mv))
  rw [mvr_pos hp]
  refine W.last X.1 X.2.1 hc ((X.2.2.2.2.2.2.2.1.arr (n := 4) (by decide)).1 _ (fun j => .long (hL h r j))) (fun q => by cases q) (by show ¬ (i < 0 ∨ (arrV _ _ _).slots.size ≤ _); rw [arrV_size]; exact hin) rfl rfl D (fun H' e1 e2 e3 => ?_)
  refine n X hr (hS.ast hk (by decide) hw0 e1 e2 e3 (fun _ => rfl) rfl w1 (fun x hx => ent_arr_ne rfl rfl (fun _ => rfl) (fun _ => rfl) (fun _ => rfl) (fun _ => rfl) (fun y => by rw [hL_setL, if_neg (fun q => hx q.1)]) (fun _ => rfl)) ?_) hl (gOld_of hS hk0 hw0 hf)
  show (arrV (gAc g 4) (hln h r) (fun j => Value.long (hL h r j))).setSlot i.toNatClampNeg (Value.long v) = arrV (gAc g 4) (hln h r) (fun j => Value.long (hL (setL r i.toNatClampNeg v h) r j))
  rw [arrV_store, updV_fun (fun j => hL h r j) Value.long i.toNatClampNeg v (fun j => hL (setL r i.toNatClampNeg v h) r j) (fun j => by rw [hL_setL]; simp)]
theorem r_dast {r : Nat} {i : Int32} {v : UInt64} (D : decode (tB t) pc = .ok (.dastore, 1)) (hk : hkd h r / 100 = 5) (hw0 : hkd h r % 100 < 50) (hin : vp_in i (hln h r)) (n : R g d t (pc + 1) ls st (setD r i.toNatClampNeg v h) Q) : R g d t pc ls (.double v :: .int i :: .ref r :: st) h Q := by
  intro w
  have hk0 : hkd h r ≠ 0 := fun q => by rw [q] at hk; omega
  have w1 := w.setD r i.toNatClampNeg v hk0
  obtain ⟨o, h', a, b, c, n⟩ := n w1
  refine ⟨o, h', a, b, (Ext.setD r i.toNatClampNeg v hw0).tr c, fun _ _ _ _ _ _ _ _ _ _ _ _ _ _ _ _ X hr hS hl hf => ?_⟩
  obtain ⟨hp, -, -, hc⟩ := hS.arr hk (by decide)
  show W _ _ _ _ _ _ _ _ _ _ _ _ _ _ _ (F0 _ _ _ (.double v :: .int i :: mvr r :: st.map mv))
  rw [mvr_pos hp]
  refine W.dast X.1 X.2.1 hc ((X.2.2.2.2.2.2.2.1.arr (n := 5) (by decide)).1 _ (fun j => .double (hD h r j))) (fun q => by cases q) (by show ¬ (i < 0 ∨ (arrV _ _ _).slots.size ≤ _); rw [arrV_size]; exact hin) rfl rfl D (fun H' e1 e2 e3 => ?_)
  refine n X hr (hS.ast hk (by decide) hw0 e1 e2 e3 (fun _ => rfl) rfl w1 (fun x hx => ent_arr_ne rfl rfl (fun _ => rfl) (fun _ => rfl) (fun _ => rfl) (fun _ => rfl) (fun _ => rfl) (fun y => by rw [hD_setD, if_neg (fun q => hx q.1)])) ?_) hl (gOld_of hS hk0 hw0 hf)
  show (arrV (gAc g 5) (hln h r) (fun j => Value.double (hD h r j))).setSlot i.toNatClampNeg (Value.double v) = arrV (gAc g 5) (hln h r) (fun j => Value.double (hD (setD r i.toNatClampNeg v h) r j))
  rw [arrV_store, updV_fun (fun j => hD h r j) Value.double i.toNatClampNeg v (fun j => hD (setD r i.toNatClampNeg v h) r j) (fun j => by rw [hD_setD]; simp)]
end ARRR
