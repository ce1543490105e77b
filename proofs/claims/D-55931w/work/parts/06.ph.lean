/-! ===== THE PURE HEAP: a reference is its address + 1, 0 is null ===== -/
abbrev PH : Type := (Nat × Nat) × (Nat → Nat) × (Nat → Nat) × (Nat → Nat → Int32) × (Nat → Nat → Nat) × (Nat → Nat → Int32) × (Nat → Nat → Nat) × (Nat → Nat → Int64) × (Nat → Nat → UInt64)
/-- the next reference; what has been made (cells and slots together) -/
def hnx (h : PH) : Nat := h.1.1
def hw (h : PH) : Nat := h.1.2
/-- the kind of a reference's thing, its length if it is an array -/
def hkd (h : PH) (r : Nat) : Nat := h.2.1 r
def hln (h : PH) (r : Nat) : Nat := h.2.2.1 r
/-- int fields, reference fields: by the field's number, then the reference -/
def hF (h : PH) (f r : Nat) : Int32 := h.2.2.2.1 f r
def hG (h : PH) (f r : Nat) : Nat := h.2.2.2.2.1 f r
/-- elements: int, char, byte, boolean arrays; arrays of references; of longs; of doubles -/
def hA (h : PH) (r i : Nat) : Int32 := h.2.2.2.2.2.1 r i
def hB (h : PH) (r i : Nat) : Nat := h.2.2.2.2.2.2.1 r i
def hL (h : PH) (r i : Nat) : Int64 := h.2.2.2.2.2.2.2.1 r i
def hD (h : PH) (r i : Nat) : UInt64 := h.2.2.2.2.2.2.2.2 r i
def u1 {α : Type} (m : Nat → α) (a : Nat) (v : α) : Nat → α := fun x => if x = a then v else m x
def u2 {α : Type} (m : Nat → Nat → α) (a b : Nat) (v : α) : Nat → Nat → α := fun x y => if x = a ∧ y = b then v else m x y
def setF (f r : Nat) (v : Int32) (h : PH) : PH := (h.1, h.2.1, h.2.2.1, u2 (hF h) f r v, hG h, hA h, hB h, hL h, hD h)
def setG (f r : Nat) (v : Nat) (h : PH) : PH := (h.1, h.2.1, h.2.2.1, hF h, u2 (hG h) f r v, hA h, hB h, hL h, hD h)
def setA (r i : Nat) (v : Int32) (h : PH) : PH := (h.1, h.2.1, h.2.2.1, hF h, hG h, u2 (hA h) r i v, hB h, hL h, hD h)
def setB (r i : Nat) (v : Nat) (h : PH) : PH := (h.1, h.2.1, h.2.2.1, hF h, hG h, hA h, u2 (hB h) r i v, hL h, hD h)
def setL (r i : Nat) (v : Int64) (h : PH) : PH := (h.1, h.2.1, h.2.2.1, hF h, hG h, hA h, hB h, u2 (hL h) r i v, hD h)
def setD (r i : Nat) (v : UInt64) (h : PH) : PH := (h.1, h.2.1, h.2.2.1, hF h, hG h, hA h, hB h, hL h, u2 (hD h) r i v)
/-- a new thing of kind k, of n elements, of weight w: at the next reference -/
def hnew (k n w : Nat) (h : PH) : PH := ((hnx h + 1, hw h + w), u1 (hkd h) (hnx h) k, u1 (hln h) (hnx h) n, hF h, hG h, hA h, hB h, hL h, hD h)
/-- elements copied: arraycopy over ints, over references -/
def cpyA (s sp d dp n : Nat) (h : PH) : PH := (h.1, h.2.1, h.2.2.1, hF h, hG h, (fun x y => if x = d ∧ dp ≤ y ∧ y < dp + n then hA h s (sp + (y - dp)) else hA h x y), hB h, hL h, hD h)
def cpyB (s sp d dp n : Nat) (h : PH) : PH := (h.1, h.2.1, h.2.2.1, hF h, hG h, hA h, (fun x y => if x = d ∧ dp ≤ y ∧ y < dp + n then hB h s (sp + (y - dp)) else hB h x y), hL h, hD h)
theorem hnx_setF (f r : Nat) (v : Int32) (h : PH) : hnx (setF f r v h) = hnx h := rfl
theorem hw_setF (f r : Nat) (v : Int32) (h : PH) : hw (setF f r v h) = hw h := rfl
theorem hkd_setF (f r : Nat) (v : Int32) (h : PH) (x : Nat) : hkd (setF f r v h) x = hkd h x := rfl
theorem hln_setF (f r : Nat) (v : Int32) (h : PH) (x : Nat) : hln (setF f r v h) x = hln h x := rfl
theorem hF_setF (f r : Nat) (v : Int32) (h : PH) (x y : Nat) : hF (setF f r v h) x y = if x = f ∧ y = r then v else hF h x y := rfl
theorem hG_setF (f r : Nat) (v : Int32) (h : PH) (x y : Nat) : hG (setF f r v h) x y = hG h x y := rfl
theorem hA_setF (f r : Nat) (v : Int32) (h : PH) (x y : Nat) : hA (setF f r v h) x y = hA h x y := rfl
theorem hB_setF (f r : Nat) (v : Int32) (h : PH) (x y : Nat) : hB (setF f r v h) x y = hB h x y := rfl
theorem hL_setF (f r : Nat) (v : Int32) (h : PH) (x y : Nat) : hL (setF f r v h) x y = hL h x y := rfl
theorem hD_setF (f r : Nat) (v : Int32) (h : PH) (x y : Nat) : hD (setF f r v h) x y = hD h x y := rfl
theorem hnx_setG (f r v : Nat) (h : PH) : hnx (setG f r v h) = hnx h := rfl
theorem hw_setG (f r v : Nat) (h : PH) : hw (setG f r v h) = hw h := rfl
theorem hkd_setG (f r v : Nat) (h : PH) (x : Nat) : hkd (setG f r v h) x = hkd h x := rfl
theorem hln_setG (f r v : Nat) (h : PH) (x : Nat) : hln (setG f r v h) x = hln h x := rfl
theorem hF_setG (f r v : Nat) (h : PH) (x y : Nat) : hF (setG f r v h) x y = hF h x y := rfl
theorem hG_setG (f r v : Nat) (h : PH) (x y : Nat) : hG (setG f r v h) x y = if x = f ∧ y = r then v else hG h x y := rfl
theorem hA_setG (f r v : Nat) (h : PH) (x y : Nat) : hA (setG f r v h) x y = hA h x y := rfl
theorem hB_setG (f r v : Nat) (h : PH) (x y : Nat) : hB (setG f r v h) x y = hB h x y := rfl
theorem hL_setG (f r v : Nat) (h : PH) (x y : Nat) : hL (setG f r v h) x y = hL h x y := rfl
theorem hD_setG (f r v : Nat) (h : PH) (x y : Nat) : hD (setG f r v h) x y = hD h x y := rfl
theorem hnx_setA (r i : Nat) (v : Int32) (h : PH) : hnx (setA r i v h) = hnx h := rfl
theorem hw_setA (r i : Nat) (v : Int32) (h : PH) : hw (setA r i v h) = hw h := rfl
theorem hkd_setA (r i : Nat) (v : Int32) (h : PH) (x : Nat) : hkd (setA r i v h) x = hkd h x := rfl
theorem hln_setA (r i : Nat) (v : Int32) (h : PH) (x : Nat) : hln (setA r i v h) x = hln h x := rfl
theorem hF_setA (r i : Nat) (v : Int32) (h : PH) (x y : Nat) : hF (setA r i v h) x y = hF h x y := rfl
theorem hG_setA (r i : Nat) (v : Int32) (h : PH) (x y : Nat) : hG (setA r i v h) x y = hG h x y := rfl
theorem hA_setA (r i : Nat) (v : Int32) (h : PH) (x y : Nat) : hA (setA r i v h) x y = if x = r ∧ y = i then v else hA h x y := rfl
theorem hB_setA (r i : Nat) (v : Int32) (h : PH) (x y : Nat) : hB (setA r i v h) x y = hB h x y := rfl
theorem hL_setA (r i : Nat) (v : Int32) (h : PH) (x y : Nat) : hL (setA r i v h) x y = hL h x y := rfl
theorem hD_setA (r i : Nat) (v : Int32) (h : PH) (x y : Nat) : hD (setA r i v h) x y = hD h x y := rfl
theorem hnx_setB (r i v : Nat) (h : PH) : hnx (setB r i v h) = hnx h := rfl
theorem hw_setB (r i v : Nat) (h : PH) : hw (setB r i v h) = hw h := rfl
theorem hkd_setB (r i v : Nat) (h : PH) (x : Nat) : hkd (setB r i v h) x = hkd h x := rfl
theorem hln_setB (r i v : Nat) (h : PH) (x : Nat) : hln (setB r i v h) x = hln h x := rfl
theorem hF_setB (r i v : Nat) (h : PH) (x y : Nat) : hF (setB r i v h) x y = hF h x y := rfl
theorem hG_setB (r i v : Nat) (h : PH) (x y : Nat) : hG (setB r i v h) x y = hG h x y := rfl
theorem hA_setB (r i v : Nat) (h : PH) (x y : Nat) : hA (setB r i v h) x y = hA h x y := rfl
theorem hB_setB (r i v : Nat) (h : PH) (x y : Nat) : hB (setB r i v h) x y = if x = r ∧ y = i then v else hB h x y := rfl
theorem hL_setB (r i v : Nat) (h : PH) (x y : Nat) : hL (setB r i v h) x y = hL h x y := rfl
theorem hD_setB (r i v : Nat) (h : PH) (x y : Nat) : hD (setB r i v h) x y = hD h x y := rfl
theorem hnx_setL (r i : Nat) (v : Int64) (h : PH) : hnx (setL r i v h) = hnx h := rfl
theorem hw_setL (r i : Nat) (v : Int64) (h : PH) : hw (setL r i v h) = hw h := rfl
theorem hkd_setL (r i : Nat) (v : Int64) (h : PH) (x : Nat) : hkd (setL r i v h) x = hkd h x := rfl
theorem hln_setL (r i : Nat) (v : Int64) (h : PH) (x : Nat) : hln (setL r i v h) x = hln h x := rfl
theorem hF_setL (r i : Nat) (v : Int64) (h : PH) (x y : Nat) : hF (setL r i v h) x y = hF h x y := rfl
theorem hG_setL (r i : Nat) (v : Int64) (h : PH) (x y : Nat) : hG (setL r i v h) x y = hG h x y := rfl
theorem hA_setL (r i : Nat) (v : Int64) (h : PH) (x y : Nat) : hA (setL r i v h) x y = hA h x y := rfl
theorem hB_setL (r i : Nat) (v : Int64) (h : PH) (x y : Nat) : hB (setL r i v h) x y = hB h x y := rfl
theorem hL_setL (r i : Nat) (v : Int64) (h : PH) (x y : Nat) : hL (setL r i v h) x y = if x = r ∧ y = i then v else hL h x y := rfl
theorem hD_setL (r i : Nat) (v : Int64) (h : PH) (x y : Nat) : hD (setL r i v h) x y = hD h x y := rfl
theorem hnx_setD (r i : Nat) (v : UInt64) (h : PH) : hnx (setD r i v h) = hnx h := rfl
theorem hw_setD (r i : Nat) (v : UInt64) (h : PH) : hw (setD r i v h) = hw h := rfl
theorem hkd_setD (r i : Nat) (v : UInt64) (h : PH) (x : Nat) : hkd (setD r i v h) x = hkd h x := rfl
theorem hln_setD (r i : Nat) (v : UInt64) (h : PH) (x : Nat) : hln (setD r i v h) x = hln h x := rfl
theorem hF_setD (r i : Nat) (v : UInt64) (h : PH) (x y : Nat) : hF (setD r i v h) x y = hF h x y := rfl
theorem hG_setD (r i : Nat) (v : UInt64) (h : PH) (x y : Nat) : hG (setD r i v h) x y = hG h x y := rfl
theorem hA_setD (r i : Nat) (v : UInt64) (h : PH) (x y : Nat) : hA (setD r i v h) x y = hA h x y := rfl
theorem hB_setD (r i : Nat) (v : UInt64) (h : PH) (x y : Nat) : hB (setD r i v h) x y = hB h x y := rfl
theorem hL_setD (r i : Nat) (v : UInt64) (h : PH) (x y : Nat) : hL (setD r i v h) x y = hL h x y := rfl
theorem hD_setD (r i : Nat) (v : UInt64) (h : PH) (x y : Nat) : hD (setD r i v h) x y = if x = r ∧ y = i then v else hD h x y := rfl
theorem hnx_hnew (k n w : Nat) (h : PH) : hnx (hnew k n w h) = hnx h + 1 := rfl
theorem hw_hnew (k n w : Nat) (h : PH) : hw (hnew k n w h) = hw h + w := rfl
theorem hkd_hnew (k n w : Nat) (h : PH) (x : Nat) : hkd (hnew k n w h) x = if x = hnx h then k else hkd h x := rfl
theorem hln_hnew (k n w : Nat) (h : PH) (x : Nat) : hln (hnew k n w h) x = if x = hnx h then n else hln h x := rfl
theorem hF_hnew (k n w : Nat) (h : PH) (x y : Nat) : hF (hnew k n w h) x y = hF h x y := rfl
theorem hG_hnew (k n w : Nat) (h : PH) (x y : Nat) : hG (hnew k n w h) x y = hG h x y := rfl
theorem hA_hnew (k n w : Nat) (h : PH) (x y : Nat) : hA (hnew k n w h) x y = hA h x y := rfl
theorem hB_hnew (k n w : Nat) (h : PH) (x y : Nat) : hB (hnew k n w h) x y = hB h x y := rfl
theorem hL_hnew (k n w : Nat) (h : PH) (x y : Nat) : hL (hnew k n w h) x y = hL h x y := rfl
theorem hD_hnew (k n w : Nat) (h : PH) (x y : Nat) : hD (hnew k n w h) x y = hD h x y := rfl
theorem hnx_cpyA (s sp d dp n : Nat) (h : PH) : hnx (cpyA s sp d dp n h) = hnx h := rfl
theorem hw_cpyA (s sp d dp n : Nat) (h : PH) : hw (cpyA s sp d dp n h) = hw h := rfl
theorem hkd_cpyA (s sp d dp n : Nat) (h : PH) (x : Nat) : hkd (cpyA s sp d dp n h) x = hkd h x := rfl
theorem hln_cpyA (s sp d dp n : Nat) (h : PH) (x : Nat) : hln (cpyA s sp d dp n h) x = hln h x := rfl
theorem hF_cpyA (s sp d dp n : Nat) (h : PH) (x y : Nat) : hF (cpyA s sp d dp n h) x y = hF h x y := rfl
theorem hG_cpyA (s sp d dp n : Nat) (h : PH) (x y : Nat) : hG (cpyA s sp d dp n h) x y = hG h x y := rfl
theorem hA_cpyA (s sp d dp n : Nat) (h : PH) (x y : Nat) : hA (cpyA s sp d dp n h) x y = if x = d ∧ dp ≤ y ∧ y < dp + n then hA h s (sp + (y - dp)) else hA h x y := rfl
theorem hB_cpyA (s sp d dp n : Nat) (h : PH) (x y : Nat) : hB (cpyA s sp d dp n h) x y = hB h x y := rfl
theorem hL_cpyA (s sp d dp n : Nat) (h : PH) (x y : Nat) : hL (cpyA s sp d dp n h) x y = hL h x y := rfl
theorem hD_cpyA (s sp d dp n : Nat) (h : PH) (x y : Nat) : hD (cpyA s sp d dp n h) x y = hD h x y := rfl
theorem hnx_cpyB (s sp d dp n : Nat) (h : PH) : hnx (cpyB s sp d dp n h) = hnx h := rfl
theorem hw_cpyB (s sp d dp n : Nat) (h : PH) : hw (cpyB s sp d dp n h) = hw h := rfl
theorem hkd_cpyB (s sp d dp n : Nat) (h : PH) (x : Nat) : hkd (cpyB s sp d dp n h) x = hkd h x := rfl
theorem hln_cpyB (s sp d dp n : Nat) (h : PH) (x : Nat) : hln (cpyB s sp d dp n h) x = hln h x := rfl
theorem hF_cpyB (s sp d dp n : Nat) (h : PH) (x y : Nat) : hF (cpyB s sp d dp n h) x y = hF h x y := rfl
theorem hG_cpyB (s sp d dp n : Nat) (h : PH) (x y : Nat) : hG (cpyB s sp d dp n h) x y = hG h x y := rfl
theorem hA_cpyB (s sp d dp n : Nat) (h : PH) (x y : Nat) : hA (cpyB s sp d dp n h) x y = hA h x y := rfl
theorem hB_cpyB (s sp d dp n : Nat) (h : PH) (x y : Nat) : hB (cpyB s sp d dp n h) x y = if x = d ∧ dp ≤ y ∧ y < dp + n then hB h s (sp + (y - dp)) else hB h x y := rfl
theorem hL_cpyB (s sp d dp n : Nat) (h : PH) (x y : Nat) : hL (cpyB s sp d dp n h) x y = hL h x y := rfl
theorem hD_cpyB (s sp d dp n : Nat) (h : PH) (x y : Nat) : hD (cpyB s sp d dp n h) x y = hD h x y := rfl
/-- nothing lies at the references to come -/
def WF (h : PH) : Prop := 0 < hnx h ∧ hkd h 0 = 0 ∧ ∀ r, hnx h ≤ r → hkd h r = 0 ∧ hln h r = 0 ∧ (∀ f, hF h f r = 0 ∧ hG h f r = 0) ∧ ∀ i, hA h r i = 0 ∧ hB h r i = 0 ∧ hL h r i = 0 ∧ hD h r i = 0
theorem WF.lt {h : PH} (w : WF h) {r : Nat} (k : hkd h r ≠ 0) : r < hnx h := by
  rcases Nat.lt_or_ge r (hnx h) with q | q
  · exact q
  · exact absurd (w.2.2 r q).1 k
theorem WF.pos {h : PH} (w : WF h) {r : Nat} (k : hkd h r ≠ 0) : 0 < r := by
  rcases Nat.eq_zero_or_pos r with q | q
  · subst q; exact absurd w.2.1 k
  · exact q
theorem WF.ne {h : PH} (w : WF h) {r c : Nat} (k : hkd h r = c) (hc : c ≠ 0) : r ≠ hnx h := Nat.ne_of_lt (w.lt (by rw [k]; exact hc))
theorem WF.setF {h : PH} (w : WF h) (f r : Nat) (v : Int32) (k : hkd h r ≠ 0) : WF (setF f r v h) := by
  refine ⟨w.1, w.2.1, fun x hx => ?_⟩
  have hx : hnx h ≤ x := hx
  obtain ⟨a1, a2, a3, a4⟩ := w.2.2 x hx
  have hne : x ≠ r := fun q => absurd a1 (by rw [q]; exact k)
  exact ⟨a1, a2, fun y => ⟨by rw [hF_setF, if_neg (fun q => hne q.2)]; exact (a3 y).1, (a3 y).2⟩, a4⟩
theorem WF.setG {h : PH} (w : WF h) (f r v : Nat) (k : hkd h r ≠ 0) : WF (setG f r v h) := by
  refine ⟨w.1, w.2.1, fun x hx => ?_⟩
  have hx : hnx h ≤ x := hx
  obtain ⟨a1, a2, a3, a4⟩ := w.2.2 x hx
  have hne : x ≠ r := fun q => absurd a1 (by rw [q]; exact k)
  exact ⟨a1, a2, fun y => ⟨(a3 y).1, by rw [hG_setG, if_neg (fun q => hne q.2)]; exact (a3 y).2⟩, a4⟩
theorem WF.setA {h : PH} (w : WF h) (r i : Nat) (v : Int32) (k : hkd h r ≠ 0) : WF (setA r i v h) := by
  refine ⟨w.1, w.2.1, fun x hx => ?_⟩
  have hx : hnx h ≤ x := hx
  obtain ⟨a1, a2, a3, a4⟩ := w.2.2 x hx
  have hne : x ≠ r := fun q => absurd a1 (by rw [q]; exact k)
  exact ⟨a1, a2, a3, fun y => ⟨by rw [hA_setA, if_neg (fun q => hne q.1)]; exact (a4 y).1, (a4 y).2.1, (a4 y).2.2.1, (a4 y).2.2.2⟩⟩
theorem WF.setB {h : PH} (w : WF h) (r i v : Nat) (k : hkd h r ≠ 0) : WF (setB r i v h) := by
  refine ⟨w.1, w.2.1, fun x hx => ?_⟩
  have hx : hnx h ≤ x := hx
  obtain ⟨a1, a2, a3, a4⟩ := w.2.2 x hx
  have hne : x ≠ r := fun q => absurd a1 (by rw [q]; exact k)
  exact ⟨a1, a2, a3, fun y => ⟨(a4 y).1, by rw [hB_setB, if_neg (fun q => hne q.1)]; exact (a4 y).2.1, (a4 y).2.2.1, (a4 y).2.2.2⟩⟩
theorem WF.setL {h : PH} (w : WF h) (r i : Nat) (v : Int64) (k : hkd h r ≠ 0) : WF (setL r i v h) := by
  refine ⟨w.1, w.2.1, fun x hx => ?_⟩
  have hx : hnx h ≤ x := hx
  obtain ⟨a1, a2, a3, a4⟩ := w.2.2 x hx
  have hne : x ≠ r := fun q => absurd a1 (by rw [q]; exact k)
  exact ⟨a1, a2, a3, fun y => ⟨(a4 y).1, (a4 y).2.1, by rw [hL_setL, if_neg (fun q => hne q.1)]; exact (a4 y).2.2.1, (a4 y).2.2.2⟩⟩
theorem WF.setD {h : PH} (w : WF h) (r i : Nat) (v : UInt64) (k : hkd h r ≠ 0) : WF (setD r i v h) := by
  refine ⟨w.1, w.2.1, fun x hx => ?_⟩
  have hx : hnx h ≤ x := hx
  obtain ⟨a1, a2, a3, a4⟩ := w.2.2 x hx
  have hne : x ≠ r := fun q => absurd a1 (by rw [q]; exact k)
  exact ⟨a1, a2, a3, fun y => ⟨(a4 y).1, (a4 y).2.1, (a4 y).2.2.1, by rw [hD_setD, if_neg (fun q => hne q.1)]; exact (a4 y).2.2.2⟩⟩
theorem WF.hnew {h : PH} (w : WF h) (k n ww : Nat) : WF (hnew k n ww h) := by
  refine ⟨Nat.succ_pos _, ?_, fun x hx => ?_⟩
  · rw [hkd_hnew, if_neg (Nat.ne_of_lt w.1)]; exact w.2.1
  · have hx : hnx h + 1 ≤ x := hx
    obtain ⟨a1, a2, a3, a4⟩ := w.2.2 x (by omega)
    exact ⟨by rw [hkd_hnew, if_neg (by omega)]; exact a1, by rw [hln_hnew, if_neg (by omega)]; exact a2, a3, a4⟩
theorem WF.cpyA {h : PH} (w : WF h) (s sp d dp n : Nat) (k : hkd h d ≠ 0) : WF (cpyA s sp d dp n h) := by
  refine ⟨w.1, w.2.1, fun x hx => ?_⟩
  have hx : hnx h ≤ x := hx
  obtain ⟨a1, a2, a3, a4⟩ := w.2.2 x hx
  have hne : x ≠ d := fun q => absurd a1 (by rw [q]; exact k)
  exact ⟨a1, a2, a3, fun y => ⟨by rw [hA_cpyA, if_neg (fun q => hne q.1)]; exact (a4 y).1, (a4 y).2.1, (a4 y).2.2.1, (a4 y).2.2.2⟩⟩
theorem WF.cpyB {h : PH} (w : WF h) (s sp d dp n : Nat) (k : hkd h d ≠ 0) : WF (cpyB s sp d dp n h) := by
  refine ⟨w.1, w.2.1, fun x hx => ?_⟩
  have hx : hnx h ≤ x := hx
  obtain ⟨a1, a2, a3, a4⟩ := w.2.2 x hx
  have hne : x ≠ d := fun q => absurd a1 (by rw [q]; exact k)
  exact ⟨a1, a2, a3, fun y => ⟨(a4 y).1, by rw [hB_cpyB, if_neg (fun q => hne q.1)]; exact (a4 y).2.1, (a4 y).2.2.1, (a4 y).2.2.2⟩⟩
theorem kd_old {h : PH} (w : WF h) {k n ww r c : Nat} (e : hkd h r = c) (hc : c ≠ 0) : hkd (hnew k n ww h) r = c := by rw [hkd_hnew, if_neg (w.ne e hc)]; exact e
theorem ln_old {h : PH} (w : WF h) {k n ww r c m : Nat} (e : hkd h r = c) (hc : c ≠ 0) (l : hln h r = m) : hln (hnew k n ww h) r = m := by rw [hln_hnew, if_neg (w.ne e hc)]; exact l
theorem kd_self (h : PH) (k n ww : Nat) : hkd (hnew k n ww h) (hnx h) = k := by rw [hkd_hnew, if_pos rfl]
theorem ln_self (h : PH) (k n ww : Nat) : hln (hnew k n ww h) (hnx h) = n := by rw [hln_hnew, if_pos rfl]
/-- what every step keeps: kinds and lengths of what is there; constants (kinds 50 and more of a hundred) -/
def Ext (h h' : PH) : Prop := hnx h ≤ hnx h' ∧ hw h ≤ hw h' ∧ (∀ r, hkd h r ≠ 0 → hkd h' r = hkd h r ∧ hln h' r = hln h r) ∧ ∀ r, 50 ≤ hkd h r % 100 → (∀ f, hF h' f r = hF h f r ∧ hG h' f r = hG h f r) ∧ ∀ i, hA h' r i = hA h r i ∧ hB h' r i = hB h r i
theorem Ext.rf (h : PH) : Ext h h := ⟨Nat.le_refl _, Nat.le_refl _, fun _ _ => ⟨rfl, rfl⟩, fun _ _ => ⟨fun _ => ⟨rfl, rfl⟩, fun _ => ⟨rfl, rfl⟩⟩⟩
theorem Ext.kd {h h' : PH} (e : Ext h h') {r c : Nat} (k : hkd h r = c) (hc : c ≠ 0) : hkd h' r = c := by rw [(e.2.2.1 r (by rw [k]; exact hc)).1]; exact k
theorem Ext.ln {h h' : PH} (e : Ext h h') {r c n : Nat} (k : hkd h r = c) (hc : c ≠ 0) (l : hln h r = n) : hln h' r = n := by rw [(e.2.2.1 r (by rw [k]; exact hc)).2]; exact l
theorem Ext.tr {h h1 h2 : PH} (a : Ext h h1) (b : Ext h1 h2) : Ext h h2 := by
  refine ⟨Nat.le_trans a.1 b.1, Nat.le_trans a.2.1 b.2.1, fun r hr => ?_, fun r hr => ?_⟩
  · obtain ⟨x1, x2⟩ := a.2.2.1 r hr
    obtain ⟨y1, y2⟩ := b.2.2.1 r (by rw [x1]; exact hr)
    exact ⟨y1.trans x1, y2.trans x2⟩
  · obtain ⟨x1, x2⟩ := a.2.2.2 r hr
    obtain ⟨y1, y2⟩ := b.2.2.2 r (by rw [(a.2.2.1 r (fun q => by rw [q] at hr; exact absurd hr (by decide))).1]; exact hr)
    exact ⟨fun f => ⟨(y1 f).1.trans (x1 f).1, (y1 f).2.trans (x1 f).2⟩, fun i => ⟨(y2 i).1.trans (x2 i).1, (y2 i).2.trans (x2 i).2⟩⟩
theorem Ext.setF {h : PH} (f r : Nat) (v : Int32) (k : hkd h r % 100 < 50) : Ext h (setF f r v h) := by
  refine ⟨Nat.le_refl _, Nat.le_refl _, fun _ _ => ⟨rfl, rfl⟩, fun x hx => ?_⟩
  have hne : x ≠ r := fun q => by rw [q] at hx; omega
  exact ⟨fun y => ⟨by rw [hF_setF, if_neg (fun q => hne q.2)], rfl⟩, fun _ => ⟨rfl, rfl⟩⟩
theorem Ext.setG {h : PH} (f r v : Nat) (k : hkd h r % 100 < 50) : Ext h (setG f r v h) := by
  refine ⟨Nat.le_refl _, Nat.le_refl _, fun _ _ => ⟨rfl, rfl⟩, fun x hx => ?_⟩
  have hne : x ≠ r := fun q => by rw [q] at hx; omega
  exact ⟨fun y => ⟨rfl, by rw [hG_setG, if_neg (fun q => hne q.2)]⟩, fun _ => ⟨rfl, rfl⟩⟩
theorem Ext.setA {h : PH} (r i : Nat) (v : Int32) (k : hkd h r % 100 < 50) : Ext h (setA r i v h) := by
  refine ⟨Nat.le_refl _, Nat.le_refl _, fun _ _ => ⟨rfl, rfl⟩, fun x hx => ?_⟩
  have hne : x ≠ r := fun q => by rw [q] at hx; omega
  exact ⟨fun _ => ⟨rfl, rfl⟩, fun y => ⟨by rw [hA_setA, if_neg (fun q => hne q.1)], rfl⟩⟩
theorem Ext.setB {h : PH} (r i v : Nat) (k : hkd h r % 100 < 50) : Ext h (setB r i v h) := by
  refine ⟨Nat.le_refl _, Nat.le_refl _, fun _ _ => ⟨rfl, rfl⟩, fun x hx => ?_⟩
  have hne : x ≠ r := fun q => by rw [q] at hx; omega
  exact ⟨fun _ => ⟨rfl, rfl⟩, fun y => ⟨rfl, by rw [hB_setB, if_neg (fun q => hne q.1)]⟩⟩
theorem Ext.setL {h : PH} (r i : Nat) (v : Int64) (k : hkd h r % 100 < 50) : Ext h (setL r i v h) := by
  refine ⟨Nat.le_refl _, Nat.le_refl _, fun _ _ => ⟨rfl, rfl⟩, fun x hx => ?_⟩
  have hne : x ≠ r := fun q => by rw [q] at hx; omega
  exact ⟨fun _ => ⟨rfl, rfl⟩, fun _ => ⟨rfl, rfl⟩⟩
theorem Ext.setD {h : PH} (r i : Nat) (v : UInt64) (k : hkd h r % 100 < 50) : Ext h (setD r i v h) := by
  refine ⟨Nat.le_refl _, Nat.le_refl _, fun _ _ => ⟨rfl, rfl⟩, fun x hx => ?_⟩
  have hne : x ≠ r := fun q => by rw [q] at hx; omega
  exact ⟨fun _ => ⟨rfl, rfl⟩, fun _ => ⟨rfl, rfl⟩⟩
theorem Ext.hnew {h : PH} (w : WF h) (k n ww : Nat) : Ext h (hnew k n ww h) :=
  ⟨Nat.le_succ _, Nat.le_add_right _ _, fun r hr => ⟨by rw [hkd_hnew, if_neg (w.ne rfl hr)], by rw [hln_hnew, if_neg (w.ne rfl hr)]⟩, fun _ _ => ⟨fun _ => ⟨rfl, rfl⟩, fun _ => ⟨rfl, rfl⟩⟩⟩
theorem Ext.cpyA {h : PH} (s sp d dp n : Nat) (k : hkd h d % 100 < 50) : Ext h (cpyA s sp d dp n h) := by
  refine ⟨Nat.le_refl _, Nat.le_refl _, fun _ _ => ⟨rfl, rfl⟩, fun x hx => ?_⟩
  have hne : x ≠ d := fun q => by rw [q] at hx; omega
  exact ⟨fun _ => ⟨rfl, rfl⟩, fun y => ⟨by rw [hA_cpyA, if_neg (fun q => hne q.1)], rfl⟩⟩
theorem Ext.cpyB {h : PH} (s sp d dp n : Nat) (k : hkd h d % 100 < 50) : Ext h (cpyB s sp d dp n h) := by
  refine ⟨Nat.le_refl _, Nat.le_refl _, fun _ _ => ⟨rfl, rfl⟩, fun x hx => ?_⟩
  have hne : x ≠ d := fun q => by rw [q] at hx; omega
  exact ⟨fun _ => ⟨rfl, rfl⟩, fun y => ⟨rfl, by rw [hB_cpyB, if_neg (fun q => hne q.1)]⟩⟩
