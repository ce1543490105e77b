/-! ===== RULES: opcodes over locals and stack (printed by gen/mk_rules.py) ===== -/
section RULES
variable {g : PG} {d : Nat} {t : MT} {pc : Nat} {ls st : List Value} {h : PH} {Q : Out → PH → Prop}
theorem r_iconst {n : Int} {v : Int32} (D : decode (tB t) pc = .ok (.iconst n, 1)) (hv : Int32.ofInt n = v) (k : R g d t (pc + 1) ls (.int v :: st) h Q) : R g d t pc ls (st) h Q := by
  intro w
  obtain ⟨o, h', a, b, c, n⟩ := k w
  exact ⟨o, h', a, b, c, fun _ _ _ _ _ _ _ _ _ _ _ _ _ _ _ _ X hr hS hl hf => lv_iconst X.1 X.2.1 D hv (n X hr hS hl hf)⟩
theorem r_bipush {n : Int} {v : Int32} (D : decode (tB t) pc = .ok (.bipush n, 2)) (hv : (Int8.ofInt n).toInt32 = v) (k : R g d t (pc + 2) ls (.int v :: st) h Q) : R g d t pc ls (st) h Q := by
  intro w
  obtain ⟨o, h', a, b, c, n⟩ := k w
  exact ⟨o, h', a, b, c, fun _ _ _ _ _ _ _ _ _ _ _ _ _ _ _ _ X hr hS hl hf => lv_bipush X.1 X.2.1 D hv (n X hr hS hl hf)⟩
theorem r_sipush {n : Int} {v : Int32} (D : decode (tB t) pc = .ok (.sipush n, 3)) (hv : (Int16.ofInt n).toInt32 = v) (k : R g d t (pc + 3) ls (.int v :: st) h Q) : R g d t pc ls (st) h Q := by
  intro w
  obtain ⟨o, h', a, b, c, n⟩ := k w
  exact ⟨o, h', a, b, c, fun _ _ _ _ _ _ _ _ _ _ _ _ _ _ _ _ X hr hS hl hf => lv_sipush X.1 X.2.1 D hv (n X hr hS hl hf)⟩
theorem r_lconst {n : Fin 2} {v : Int64} (D : decode (tB t) pc = .ok (.lconst n, 1)) (hv : Int64.ofNat (n : Nat) = v) (k : R g d t (pc + 1) ls (.long v :: st) h Q) : R g d t pc ls (st) h Q := by
  intro w
  obtain ⟨o, h', a, b, c, n⟩ := k w
  exact ⟨o, h', a, b, c, fun _ _ _ _ _ _ _ _ _ _ _ _ _ _ _ _ X hr hS hl hf => lv_lconst X.1 X.2.1 D hv (n X hr hS hl hf)⟩
theorem r_null  (D : decode (tB t) pc = .ok (.aconst_null, 1))  (k : R g d t (pc + 1) ls (.ref 0 :: st) h Q) : R g d t pc ls (st) h Q := by
  intro w
  obtain ⟨o, h', a, b, c, n⟩ := k w
  exact ⟨o, h', a, b, c, fun _ _ _ _ _ _ _ _ _ _ _ _ _ _ _ _ X hr hS hl hf => lv_null X.1 X.2.1 D (n X hr hS hl hf)⟩
theorem r_ldc {i : Nat} {v : Int32} (D : decode (tB t) pc = .ok (.ldc i, 2)) (hq : Cond.constant (tO t) i v ∈ lw_all) (k : R g d t (pc + 2) ls (.int v :: st) h Q) : R g d t pc ls (st) h Q := by
  intro w
  obtain ⟨o, h', a, b, c, n⟩ := k w
  exact ⟨o, h', a, b, c, fun _ _ _ _ _ _ _ _ _ _ _ _ _ _ _ _ X hr hS hl hf => lv_ldc X.1 X.2.1 X.2.2.2.2.2.1 (X.2.2.2.2.2.2.1 _ hq) D (n X hr hS hl hf)⟩
theorem r_ldcw {i : Nat} {v : Int32} (D : decode (tB t) pc = .ok (.ldc_w i, 3)) (hq : Cond.constant (tO t) i v ∈ lw_all) (k : R g d t (pc + 3) ls (.int v :: st) h Q) : R g d t pc ls (st) h Q := by
  intro w
  obtain ⟨o, h', a, b, c, n⟩ := k w
  exact ⟨o, h', a, b, c, fun _ _ _ _ _ _ _ _ _ _ _ _ _ _ _ _ X hr hS hl hf => lv_ldcw X.1 X.2.1 X.2.2.2.2.2.1 (X.2.2.2.2.2.2.1 _ hq) D (n X hr hS hl hf)⟩
theorem r_ldc2 {i : Nat} {v : Int64} (D : decode (tB t) pc = .ok (.ldc2_w i, 3)) (hq : Cond.constantLong (tO t) i v ∈ lw_all) (k : R g d t (pc + 3) ls (.long v :: st) h Q) : R g d t pc ls (st) h Q := by
  intro w
  obtain ⟨o, h', a, b, c, n⟩ := k w
  exact ⟨o, h', a, b, c, fun _ _ _ _ _ _ _ _ _ _ _ _ _ _ _ _ X hr hS hl hf => lv_ldc2 X.1 X.2.1 X.2.2.2.2.2.1 (X.2.2.2.2.2.2.1 _ hq) D (n X hr hS hl hf)⟩
theorem r_ldc2d {i : Nat} {v : UInt64} (D : decode (tB t) pc = .ok (.ldc2_w i, 3)) (hq : Cond.constantDouble (tO t) i v ∈ lw_all) (k : R g d t (pc + 3) ls (.double v :: st) h Q) : R g d t pc ls (st) h Q := by
  intro w
  obtain ⟨o, h', a, b, c, n⟩ := k w
  exact ⟨o, h', a, b, c, fun _ _ _ _ _ _ _ _ _ _ _ _ _ _ _ _ X hr hS hl hf => lv_ldc2d X.1 X.2.1 X.2.2.2.2.2.1 (X.2.2.2.2.2.2.1 _ hq) D (n X hr hS hl hf)⟩
theorem r_iload_n {j : Fin 4} {i : Nat} {x : Int32} (D : decode (tB t) pc = .ok (.iload_n j, 1)) (hi : (j : Nat) = i) (hv : ls[i]? = some (.int x)) (k : R g d t (pc + 1) ls (.int x :: st) h Q) : R g d t pc ls (st) h Q := by
  intro w
  obtain ⟨o, h', a, b, c, n⟩ := k w
  exact ⟨o, h', a, b, c, fun _ _ _ _ _ _ _ _ _ _ _ _ _ _ _ _ X hr hS hl hf => lv_iload_n X.1 X.2.1 D hi (lp_at hl hv (fun q => nomatch q)) (n X hr hS hl hf)⟩
theorem r_iload {i : Nat} {x : Int32} (D : decode (tB t) pc = .ok (.iload i, 2)) (hv : ls[i]? = some (.int x)) (k : R g d t (pc + 2) ls (.int x :: st) h Q) : R g d t pc ls (st) h Q := by
  intro w
  obtain ⟨o, h', a, b, c, n⟩ := k w
  exact ⟨o, h', a, b, c, fun _ _ _ _ _ _ _ _ _ _ _ _ _ _ _ _ X hr hS hl hf => lv_iload X.1 X.2.1 D (lp_at hl hv (fun q => nomatch q)) (n X hr hS hl hf)⟩
theorem r_lload_n {j : Fin 4} {i : Nat} {x : Int64} (D : decode (tB t) pc = .ok (.lload_n j, 1)) (hi : (j : Nat) = i) (hv : ls[i]? = some (.long x)) (k : R g d t (pc + 1) ls (.long x :: st) h Q) : R g d t pc ls (st) h Q := by
  intro w
  obtain ⟨o, h', a, b, c, n⟩ := k w
  exact ⟨o, h', a, b, c, fun _ _ _ _ _ _ _ _ _ _ _ _ _ _ _ _ X hr hS hl hf => lv_lload_n X.1 X.2.1 D hi (lp_at hl hv (fun q => nomatch q)) (n X hr hS hl hf)⟩
theorem r_lload {i : Nat} {x : Int64} (D : decode (tB t) pc = .ok (.lload i, 2)) (hv : ls[i]? = some (.long x)) (k : R g d t (pc + 2) ls (.long x :: st) h Q) : R g d t pc ls (st) h Q := by
  intro w
  obtain ⟨o, h', a, b, c, n⟩ := k w
  exact ⟨o, h', a, b, c, fun _ _ _ _ _ _ _ _ _ _ _ _ _ _ _ _ X hr hS hl hf => lv_lload X.1 X.2.1 D (lp_at hl hv (fun q => nomatch q)) (n X hr hS hl hf)⟩
theorem r_fload_n {j : Fin 4} {i : Nat} {x : UInt32} (D : decode (tB t) pc = .ok (.fload_n j, 1)) (hi : (j : Nat) = i) (hv : ls[i]? = some (.float x)) (k : R g d t (pc + 1) ls (.float x :: st) h Q) : R g d t pc ls (st) h Q := by
  intro w
  obtain ⟨o, h', a, b, c, n⟩ := k w
  exact ⟨o, h', a, b, c, fun _ _ _ _ _ _ _ _ _ _ _ _ _ _ _ _ X hr hS hl hf => lv_fload_n X.1 X.2.1 D hi (lp_at hl hv (fun q => nomatch q)) (n X hr hS hl hf)⟩
theorem r_fload {i : Nat} {x : UInt32} (D : decode (tB t) pc = .ok (.fload i, 2)) (hv : ls[i]? = some (.float x)) (k : R g d t (pc + 2) ls (.float x :: st) h Q) : R g d t pc ls (st) h Q := by
  intro w
  obtain ⟨o, h', a, b, c, n⟩ := k w
  exact ⟨o, h', a, b, c, fun _ _ _ _ _ _ _ _ _ _ _ _ _ _ _ _ X hr hS hl hf => lv_fload X.1 X.2.1 D (lp_at hl hv (fun q => nomatch q)) (n X hr hS hl hf)⟩
theorem r_dload_n {j : Fin 4} {i : Nat} {x : UInt64} (D : decode (tB t) pc = .ok (.dload_n j, 1)) (hi : (j : Nat) = i) (hv : ls[i]? = some (.double x)) (k : R g d t (pc + 1) ls (.double x :: st) h Q) : R g d t pc ls (st) h Q := by
  intro w
  obtain ⟨o, h', a, b, c, n⟩ := k w
  exact ⟨o, h', a, b, c, fun _ _ _ _ _ _ _ _ _ _ _ _ _ _ _ _ X hr hS hl hf => lv_dload_n X.1 X.2.1 D hi (lp_at hl hv (fun q => nomatch q)) (n X hr hS hl hf)⟩
theorem r_dload {i : Nat} {x : UInt64} (D : decode (tB t) pc = .ok (.dload i, 2)) (hv : ls[i]? = some (.double x)) (k : R g d t (pc + 2) ls (.double x :: st) h Q) : R g d t pc ls (st) h Q := by
  intro w
  obtain ⟨o, h', a, b, c, n⟩ := k w
  exact ⟨o, h', a, b, c, fun _ _ _ _ _ _ _ _ _ _ _ _ _ _ _ _ X hr hS hl hf => lv_dload X.1 X.2.1 D (lp_at hl hv (fun q => nomatch q)) (n X hr hS hl hf)⟩
theorem r_aload_n {j : Fin 4} {i x : Nat} (D : decode (tB t) pc = .ok (.aload_n j, 1)) (hi : (j : Nat) = i) (hv : ls[i]? = some (.ref x)) (k : R g d t (pc + 1) ls (.ref x :: st) h Q) : R g d t pc ls (st) h Q := by
  intro w
  obtain ⟨o, h', a, b, c, n⟩ := k w
  refine ⟨o, h', a, b, c, fun _ _ _ _ _ _ _ _ _ _ _ _ _ _ _ _ X hr hS hl hf => ?_⟩
  cases x with
  | zero => exact lv_aload_nN X.1 X.2.1 D hi (lp_at hl hv (fun q => nomatch q)) (n X hr hS hl hf)
  | succ y => exact lv_aload_n X.1 X.2.1 D hi (lp_at hl hv (fun q => nomatch q)) (n X hr hS hl hf)
theorem r_aload {i x : Nat} (D : decode (tB t) pc = .ok (.aload i, 2)) (hv : ls[i]? = some (.ref x)) (k : R g d t (pc + 2) ls (.ref x :: st) h Q) : R g d t pc ls (st) h Q := by
  intro w
  obtain ⟨o, h', a, b, c, n⟩ := k w
  refine ⟨o, h', a, b, c, fun _ _ _ _ _ _ _ _ _ _ _ _ _ _ _ _ X hr hS hl hf => ?_⟩
  cases x with
  | zero => exact lv_aloadN X.1 X.2.1 D (lp_at hl hv (fun q => nomatch q)) (n X hr hS hl hf)
  | succ y => exact lv_aload X.1 X.2.1 D (lp_at hl hv (fun q => nomatch q)) (n X hr hS hl hf)
theorem r_istore_n {j : Fin 4} {i : Nat} {x : Int32} {ls1 : List Value} (D : decode (tB t) pc = .ok (.istore_n j, 1)) (hi : (j : Nat) = i) (hn : i < tL t) (hp : pv2 ls i = true) (hs : ls.set i (.int x) = ls1) (k : R g d t (pc + 1) ls1 st h Q) : R g d t pc ls (.int x :: st) h Q := by
  intro w
  obtain ⟨o, h', a, b, c, n⟩ := k w
  refine ⟨o, h', a, b, c, fun _ _ _ _ _ _ _ _ _ _ _ _ _ _ _ _ X hr hS hl hf => ?_⟩
  exact lv_istore_n X.1 X.2.1 D hi hl hn rfl (fun ls9 h9 => n X hr hS (lp_set1 (v := .int x) h9 hp hs) hf)
theorem r_istore {i : Nat} {x : Int32} {ls1 : List Value} (D : decode (tB t) pc = .ok (.istore i, 2))  (hn : i < tL t) (hp : pv2 ls i = true) (hs : ls.set i (.int x) = ls1) (k : R g d t (pc + 2) ls1 st h Q) : R g d t pc ls (.int x :: st) h Q := by
  intro w
  obtain ⟨o, h', a, b, c, n⟩ := k w
  refine ⟨o, h', a, b, c, fun _ _ _ _ _ _ _ _ _ _ _ _ _ _ _ _ X hr hS hl hf => ?_⟩
  exact lv_istore X.1 X.2.1 D hl hn rfl (fun ls9 h9 => n X hr hS (lp_set1 (v := .int x) h9 hp hs) hf)
theorem r_lstore_n {j : Fin 4} {i : Nat} {x : Int64} {ls1 : List Value} (D : decode (tB t) pc = .ok (.lstore_n j, 1)) (hi : (j : Nat) = i) (hn : i + 1 < tL t) (hp : pv2 ls i = true) (hs : (ls.set i (.long x)).set (i + 1) .null = ls1) (k : R g d t (pc + 1) ls1 st h Q) : R g d t pc ls (.long x :: st) h Q := by
  intro w
  obtain ⟨o, h', a, b, c, n⟩ := k w
  refine ⟨o, h', a, b, c, fun _ _ _ _ _ _ _ _ _ _ _ _ _ _ _ _ X hr hS hl hf => ?_⟩
  exact lv_lstore_n X.1 X.2.1 D hi hl hn rfl (fun ls9 h9 => n X hr hS (lp_set2 (v := .long x) h9 hp hs) hf)
theorem r_lstore {i : Nat} {x : Int64} {ls1 : List Value} (D : decode (tB t) pc = .ok (.lstore i, 2))  (hn : i + 1 < tL t) (hp : pv2 ls i = true) (hs : (ls.set i (.long x)).set (i + 1) .null = ls1) (k : R g d t (pc + 2) ls1 st h Q) : R g d t pc ls (.long x :: st) h Q := by
  intro w
  obtain ⟨o, h', a, b, c, n⟩ := k w
  refine ⟨o, h', a, b, c, fun _ _ _ _ _ _ _ _ _ _ _ _ _ _ _ _ X hr hS hl hf => ?_⟩
  exact lv_lstore X.1 X.2.1 D hl hn rfl (fun ls9 h9 => n X hr hS (lp_set2 (v := .long x) h9 hp hs) hf)
theorem r_fstore_n {j : Fin 4} {i : Nat} {x : UInt32} {ls1 : List Value} (D : decode (tB t) pc = .ok (.fstore_n j, 1)) (hi : (j : Nat) = i) (hn : i < tL t) (hp : pv2 ls i = true) (hs : ls.set i (.float x) = ls1) (k : R g d t (pc + 1) ls1 st h Q) : R g d t pc ls (.float x :: st) h Q := by
  intro w
  obtain ⟨o, h', a, b, c, n⟩ := k w
  refine ⟨o, h', a, b, c, fun _ _ _ _ _ _ _ _ _ _ _ _ _ _ _ _ X hr hS hl hf => ?_⟩
  exact lv_fstore_n X.1 X.2.1 D hi hl hn rfl (fun ls9 h9 => n X hr hS (lp_set1 (v := .float x) h9 hp hs) hf)
theorem r_fstore {i : Nat} {x : UInt32} {ls1 : List Value} (D : decode (tB t) pc = .ok (.fstore i, 2))  (hn : i < tL t) (hp : pv2 ls i = true) (hs : ls.set i (.float x) = ls1) (k : R g d t (pc + 2) ls1 st h Q) : R g d t pc ls (.float x :: st) h Q := by
  intro w
  obtain ⟨o, h', a, b, c, n⟩ := k w
  refine ⟨o, h', a, b, c, fun _ _ _ _ _ _ _ _ _ _ _ _ _ _ _ _ X hr hS hl hf => ?_⟩
  exact lv_fstore X.1 X.2.1 D hl hn rfl (fun ls9 h9 => n X hr hS (lp_set1 (v := .float x) h9 hp hs) hf)
theorem r_dstore_n {j : Fin 4} {i : Nat} {x : UInt64} {ls1 : List Value} (D : decode (tB t) pc = .ok (.dstore_n j, 1)) (hi : (j : Nat) = i) (hn : i + 1 < tL t) (hp : pv2 ls i = true) (hs : (ls.set i (.double x)).set (i + 1) .null = ls1) (k : R g d t (pc + 1) ls1 st h Q) : R g d t pc ls (.double x :: st) h Q := by
  intro w
  obtain ⟨o, h', a, b, c, n⟩ := k w
  refine ⟨o, h', a, b, c, fun _ _ _ _ _ _ _ _ _ _ _ _ _ _ _ _ X hr hS hl hf => ?_⟩
  exact lv_dstore_n X.1 X.2.1 D hi hl hn rfl (fun ls9 h9 => n X hr hS (lp_set2 (v := .double x) h9 hp hs) hf)
theorem r_dstore {i : Nat} {x : UInt64} {ls1 : List Value} (D : decode (tB t) pc = .ok (.dstore i, 2))  (hn : i + 1 < tL t) (hp : pv2 ls i = true) (hs : (ls.set i (.double x)).set (i + 1) .null = ls1) (k : R g d t (pc + 2) ls1 st h Q) : R g d t pc ls (.double x :: st) h Q := by
  intro w
  obtain ⟨o, h', a, b, c, n⟩ := k w
  refine ⟨o, h', a, b, c, fun _ _ _ _ _ _ _ _ _ _ _ _ _ _ _ _ X hr hS hl hf => ?_⟩
  exact lv_dstore X.1 X.2.1 D hl hn rfl (fun ls9 h9 => n X hr hS (lp_set2 (v := .double x) h9 hp hs) hf)
theorem r_astore_n {j : Fin 4} {i x : Nat} {ls1 : List Value} (D : decode (tB t) pc = .ok (.astore_n j, 1)) (hi : (j : Nat) = i) (hn : i < tL t) (hp : pv2 ls i = true) (hs : ls.set i (.ref x) = ls1) (k : R g d t (pc + 1) ls1 st h Q) : R g d t pc ls (.ref x :: st) h Q := by
  intro w
  obtain ⟨o, h', a, b, c, n⟩ := k w
  refine ⟨o, h', a, b, c, fun _ _ _ _ _ _ _ _ _ _ _ _ _ _ _ _ X hr hS hl hf => ?_⟩
  cases x with
  | zero => exact lv_astore_nN X.1 X.2.1 D hi hl hn rfl (fun ls9 h9 => n X hr hS (lp_set1 (v := .ref 0) h9 hp hs) hf)
  | succ y => exact lv_astore_n X.1 X.2.1 D hi hl hn rfl (fun ls9 h9 => n X hr hS (lp_set1 (v := .ref (y + 1)) h9 hp hs) hf)
theorem r_astore {i x : Nat} {ls1 : List Value} (D : decode (tB t) pc = .ok (.astore i, 2))  (hn : i < tL t) (hp : pv2 ls i = true) (hs : ls.set i (.ref x) = ls1) (k : R g d t (pc + 2) ls1 st h Q) : R g d t pc ls (.ref x :: st) h Q := by
  intro w
  obtain ⟨o, h', a, b, c, n⟩ := k w
  refine ⟨o, h', a, b, c, fun _ _ _ _ _ _ _ _ _ _ _ _ _ _ _ _ X hr hS hl hf => ?_⟩
  cases x with
  | zero => exact lv_astoreN X.1 X.2.1 D hl hn rfl (fun ls9 h9 => n X hr hS (lp_set1 (v := .ref 0) h9 hp hs) hf)
  | succ y => exact lv_astore X.1 X.2.1 D hl hn rfl (fun ls9 h9 => n X hr hS (lp_set1 (v := .ref (y + 1)) h9 hp hs) hf)
theorem r_iinc {i : Nat} {n : Int} {x v : Int32} {ls1 : List Value} (D : decode (tB t) pc = .ok (.iinc i n, 3)) (hx : ls[i]? = some (.int x)) (hv : x + Int32.ofInt n = v) (hn : i < tL t) (hp : pv2 ls i = true) (hs : ls.set i (.int v) = ls1) (k : R g d t (pc + 3) ls1 st h Q) : R g d t pc ls st h Q := by
  intro w
  obtain ⟨o, h', a, b, c, n⟩ := k w
  refine ⟨o, h', a, b, c, fun _ _ _ _ _ _ _ _ _ _ _ _ _ _ _ _ X hr hS hl hf => ?_⟩
  obtain ⟨j, hj⟩ := List.getElem?_of_mem (lpr_get ls 0 i (.int x) hx (fun q => nomatch q))
  rw [Nat.zero_add] at hj
  exact lv_iinc X.1 X.2.1 D hl hj hv hn rfl (fun ls9 h9 => n X hr hS (lp_set1 (v := .int v) h9 hp hs) hf)
theorem r_iadd {x y : Int32} (D : decode (tB t) pc = .ok (.iadd, 1))  (k : R g d t (pc + 1) ls (.int (x + y) :: st) h Q) : R g d t pc ls (.int y :: .int x :: st) h Q := by
  intro w
  obtain ⟨o, h', a, b, c, n⟩ := k w
  exact ⟨o, h', a, b, c, fun _ _ _ _ _ _ _ _ _ _ _ _ _ _ _ _ X hr hS hl hf => lv_iadd X.1 X.2.1 D (n X hr hS hl hf)⟩
theorem r_isub {x y : Int32} (D : decode (tB t) pc = .ok (.isub, 1))  (k : R g d t (pc + 1) ls (.int (x - y) :: st) h Q) : R g d t pc ls (.int y :: .int x :: st) h Q := by
  intro w
  obtain ⟨o, h', a, b, c, n⟩ := k w
  exact ⟨o, h', a, b, c, fun _ _ _ _ _ _ _ _ _ _ _ _ _ _ _ _ X hr hS hl hf => lv_isub X.1 X.2.1 D (n X hr hS hl hf)⟩
theorem r_imul {x y : Int32} (D : decode (tB t) pc = .ok (.imul, 1))  (k : R g d t (pc + 1) ls (.int (x * y) :: st) h Q) : R g d t pc ls (.int y :: .int x :: st) h Q := by
  intro w
  obtain ⟨o, h', a, b, c, n⟩ := k w
  exact ⟨o, h', a, b, c, fun _ _ _ _ _ _ _ _ _ _ _ _ _ _ _ _ X hr hS hl hf => lv_imul X.1 X.2.1 D (n X hr hS hl hf)⟩
theorem r_iand {x y : Int32} (D : decode (tB t) pc = .ok (.iand, 1))  (k : R g d t (pc + 1) ls (.int (x &&& y) :: st) h Q) : R g d t pc ls (.int y :: .int x :: st) h Q := by
  intro w
  obtain ⟨o, h', a, b, c, n⟩ := k w
  exact ⟨o, h', a, b, c, fun _ _ _ _ _ _ _ _ _ _ _ _ _ _ _ _ X hr hS hl hf => lv_iand X.1 X.2.1 D (n X hr hS hl hf)⟩
theorem r_ior {x y : Int32} (D : decode (tB t) pc = .ok (.ior, 1))  (k : R g d t (pc + 1) ls (.int (x ||| y) :: st) h Q) : R g d t pc ls (.int y :: .int x :: st) h Q := by
  intro w
  obtain ⟨o, h', a, b, c, n⟩ := k w
  exact ⟨o, h', a, b, c, fun _ _ _ _ _ _ _ _ _ _ _ _ _ _ _ _ X hr hS hl hf => lv_ior X.1 X.2.1 D (n X hr hS hl hf)⟩
theorem r_ixor {x y : Int32} (D : decode (tB t) pc = .ok (.ixor, 1))  (k : R g d t (pc + 1) ls (.int (x ^^^ y) :: st) h Q) : R g d t pc ls (.int y :: .int x :: st) h Q := by
  intro w
  obtain ⟨o, h', a, b, c, n⟩ := k w
  exact ⟨o, h', a, b, c, fun _ _ _ _ _ _ _ _ _ _ _ _ _ _ _ _ X hr hS hl hf => lv_ixor X.1 X.2.1 D (n X hr hS hl hf)⟩
theorem r_idiv {x y : Int32} (D : decode (tB t) pc = .ok (.idiv, 1)) (hne : ¬ y = 0) (k : R g d t (pc + 1) ls (.int (x / y) :: st) h Q) : R g d t pc ls (.int y :: .int x :: st) h Q := by
  intro w
  obtain ⟨o, h', a, b, c, n⟩ := k w
  exact ⟨o, h', a, b, c, fun _ _ _ _ _ _ _ _ _ _ _ _ _ _ _ _ X hr hS hl hf => lv_idiv X.1 X.2.1 D hne (n X hr hS hl hf)⟩
theorem r_irem {x y : Int32} (D : decode (tB t) pc = .ok (.irem, 1)) (hne : ¬ y = 0) (k : R g d t (pc + 1) ls (.int (x - x / y * y) :: st) h Q) : R g d t pc ls (.int y :: .int x :: st) h Q := by
  intro w
  obtain ⟨o, h', a, b, c, n⟩ := k w
  exact ⟨o, h', a, b, c, fun _ _ _ _ _ _ _ _ _ _ _ _ _ _ _ _ X hr hS hl hf => lv_irem X.1 X.2.1 D hne (n X hr hS hl hf)⟩
theorem r_ineg {x : Int32} (D : decode (tB t) pc = .ok (.ineg, 1))  (k : R g d t (pc + 1) ls (.int (-x) :: st) h Q) : R g d t pc ls (.int x :: st) h Q := by
  intro w
  obtain ⟨o, h', a, b, c, n⟩ := k w
  exact ⟨o, h', a, b, c, fun _ _ _ _ _ _ _ _ _ _ _ _ _ _ _ _ X hr hS hl hf => lv_ineg X.1 X.2.1 D (n X hr hS hl hf)⟩
theorem r_ishl {x y : Int32} (D : decode (tB t) pc = .ok (.ishl, 1))  (k : R g d t (pc + 1) ls (.int (x <<< (y &&& 31)) :: st) h Q) : R g d t pc ls (.int y :: .int x :: st) h Q := by
  intro w
  obtain ⟨o, h', a, b, c, n⟩ := k w
  exact ⟨o, h', a, b, c, fun _ _ _ _ _ _ _ _ _ _ _ _ _ _ _ _ X hr hS hl hf => lv_ishl X.1 X.2.1 D (n X hr hS hl hf)⟩
theorem r_ishr {x y : Int32} (D : decode (tB t) pc = .ok (.ishr, 1))  (k : R g d t (pc + 1) ls (.int (x >>> (y &&& 31)) :: st) h Q) : R g d t pc ls (.int y :: .int x :: st) h Q := by
  intro w
  obtain ⟨o, h', a, b, c, n⟩ := k w
  exact ⟨o, h', a, b, c, fun _ _ _ _ _ _ _ _ _ _ _ _ _ _ _ _ X hr hS hl hf => lv_ishr X.1 X.2.1 D (n X hr hS hl hf)⟩
theorem r_iushr {x y v : Int32} (D : decode (tB t) pc = .ok (.iushr, 1)) (hv : (x.toUInt32 >>> (y.toUInt32 &&& Int32.toUInt32 31)).toInt32 = v) (k : R g d t (pc + 1) ls (.int v :: st) h Q) : R g d t pc ls (.int y :: .int x :: st) h Q := by
  intro w
  obtain ⟨o, h', a, b, c, n⟩ := k w
  exact ⟨o, h', a, b, c, fun _ _ _ _ _ _ _ _ _ _ _ _ _ _ _ _ X hr hS hl hf => lv_iushr X.1 X.2.1 D hv (n X hr hS hl hf)⟩
theorem r_i2l {x : Int32} (D : decode (tB t) pc = .ok (.i2l, 1))  (k : R g d t (pc + 1) ls (.long x.toInt64 :: st) h Q) : R g d t pc ls (.int x :: st) h Q := by
  intro w
  obtain ⟨o, h', a, b, c, n⟩ := k w
  exact ⟨o, h', a, b, c, fun _ _ _ _ _ _ _ _ _ _ _ _ _ _ _ _ X hr hS hl hf => lv_i2l X.1 X.2.1 D rfl (n X hr hS hl hf)⟩
theorem r_l2i {x : Int64} (D : decode (tB t) pc = .ok (.l2i, 1))  (k : R g d t (pc + 1) ls (.int x.toInt32 :: st) h Q) : R g d t pc ls (.long x :: st) h Q := by
  intro w
  obtain ⟨o, h', a, b, c, n⟩ := k w
  exact ⟨o, h', a, b, c, fun _ _ _ _ _ _ _ _ _ _ _ _ _ _ _ _ X hr hS hl hf => lv_l2i X.1 X.2.1 D rfl (n X hr hS hl hf)⟩
theorem r_i2b {x : Int32} (D : decode (tB t) pc = .ok (.i2b, 1))  (k : R g d t (pc + 1) ls (.int x.toInt8.toInt32 :: st) h Q) : R g d t pc ls (.int x :: st) h Q := by
  intro w
  obtain ⟨o, h', a, b, c, n⟩ := k w
  exact ⟨o, h', a, b, c, fun _ _ _ _ _ _ _ _ _ _ _ _ _ _ _ _ X hr hS hl hf => lv_i2b X.1 X.2.1 D rfl (n X hr hS hl hf)⟩
theorem r_i2c {x : Int32} (D : decode (tB t) pc = .ok (.i2c, 1))  (k : R g d t (pc + 1) ls (.int (x.toUInt32 % 65536).toInt32 :: st) h Q) : R g d t pc ls (.int x :: st) h Q := by
  intro w
  obtain ⟨o, h', a, b, c, n⟩ := k w
  exact ⟨o, h', a, b, c, fun _ _ _ _ _ _ _ _ _ _ _ _ _ _ _ _ X hr hS hl hf => lv_i2c X.1 X.2.1 D rfl (n X hr hS hl hf)⟩
theorem r_i2f {x : Int32} (D : decode (tB t) pc = .ok (.i2f, 1))  (k : R g d t (pc + 1) ls (.float (FP.i2f x) :: st) h Q) : R g d t pc ls (.int x :: st) h Q := by
  intro w
  obtain ⟨o, h', a, b, c, n⟩ := k w
  exact ⟨o, h', a, b, c, fun _ _ _ _ _ _ _ _ _ _ _ _ _ _ _ _ X hr hS hl hf => lv_i2f X.1 X.2.1 D (n X hr hS hl hf)⟩
theorem r_i2d {x : Int32} (D : decode (tB t) pc = .ok (.i2d, 1))  (k : R g d t (pc + 1) ls (.double (FP.i2d x) :: st) h Q) : R g d t pc ls (.int x :: st) h Q := by
  intro w
  obtain ⟨o, h', a, b, c, n⟩ := k w
  exact ⟨o, h', a, b, c, fun _ _ _ _ _ _ _ _ _ _ _ _ _ _ _ _ X hr hS hl hf => lv_i2d X.1 X.2.1 D (n X hr hS hl hf)⟩
theorem r_f2d {x : UInt32} (D : decode (tB t) pc = .ok (.f2d, 1)) (hne : vf_n64 (FP.f2d x)) (k : R g d t (pc + 1) ls (.double (FP.f2d x) :: st) h Q) : R g d t pc ls (.float x :: st) h Q := by
  intro w
  obtain ⟨o, h', a, b, c, n⟩ := k w
  exact ⟨o, h', a, b, c, fun _ _ _ _ _ _ _ _ _ _ _ _ _ _ _ _ X hr hS hl hf => lv_f2d X.1 X.2.1 D hne (n X hr hS hl hf)⟩
theorem r_fdiv {x y : UInt32} (D : decode (tB t) pc = .ok (.fdiv, 1)) (hne : vf_n32 (FP.fdiv x y)) (k : R g d t (pc + 1) ls (.float (FP.fdiv x y) :: st) h Q) : R g d t pc ls (.float y :: .float x :: st) h Q := by
  intro w
  obtain ⟨o, h', a, b, c, n⟩ := k w
  exact ⟨o, h', a, b, c, fun _ _ _ _ _ _ _ _ _ _ _ _ _ _ _ _ X hr hS hl hf => lv_fdiv X.1 X.2.1 D hne (n X hr hS hl hf)⟩
theorem r_ddiv {x y : UInt64} (D : decode (tB t) pc = .ok (.ddiv, 1)) (hne : vf_n64 (FP.ddiv x y)) (k : R g d t (pc + 1) ls (.double (FP.ddiv x y) :: st) h Q) : R g d t pc ls (.double y :: .double x :: st) h Q := by
  intro w
  obtain ⟨o, h', a, b, c, n⟩ := k w
  exact ⟨o, h', a, b, c, fun _ _ _ _ _ _ _ _ _ _ _ _ _ _ _ _ X hr hS hl hf => lv_ddiv X.1 X.2.1 D hne (n X hr hS hl hf)⟩
theorem r_lcmp {x y : Int64} (D : decode (tB t) pc = .ok (.lcmp, 1))  (k : R g d t (pc + 1) ls (.int (lg_cmp x y) :: st) h Q) : R g d t pc ls (.long y :: .long x :: st) h Q := by
  intro w
  obtain ⟨o, h', a, b, c, n⟩ := k w
  exact ⟨o, h', a, b, c, fun _ _ _ _ _ _ _ _ _ _ _ _ _ _ _ _ X hr hS hl hf => W.lcmp X.1 X.2.1 D (n X hr hS hl hf)⟩
theorem r_fcmp {x y : UInt32} {op : CmpOp} (D : decode (tB t) pc = .ok (.fcmp op, 1))  (k : R g d t (pc + 1) ls (.int (Op.cmpValue (FP.fcmp x y) op) :: st) h Q) : R g d t pc ls (.float y :: .float x :: st) h Q := by
  intro w
  obtain ⟨o, h', a, b, c, n⟩ := k w
  exact ⟨o, h', a, b, c, fun _ _ _ _ _ _ _ _ _ _ _ _ _ _ _ _ X hr hS hl hf => lv_fcmp X.1 X.2.1 D (n X hr hS hl hf)⟩
theorem r_dcmp {x y : UInt64} {op : CmpOp} (D : decode (tB t) pc = .ok (.dcmp op, 1))  (k : R g d t (pc + 1) ls (.int (Op.cmpValue (FP.dcmp x y) op) :: st) h Q) : R g d t pc ls (.double y :: .double x :: st) h Q := by
  intro w
  obtain ⟨o, h', a, b, c, n⟩ := k w
  exact ⟨o, h', a, b, c, fun _ _ _ _ _ _ _ _ _ _ _ _ _ _ _ _ X hr hS hl hf => lv_dcmp X.1 X.2.1 D (n X hr hS hl hf)⟩
theorem r_dup {v : Value} (D : decode (tB t) pc = .ok (.dup, 1)) (hv : v.category = 1) (k : R g d t (pc + 1) ls (v :: v :: st) h Q) : R g d t pc ls (v :: st) h Q := by
  intro w
  obtain ⟨o, h', a, b, c, n⟩ := k w
  exact ⟨o, h', a, b, c, fun _ _ _ _ _ _ _ _ _ _ _ _ _ _ _ _ X hr hS hl hf => lv_dup X.1 X.2.1 D ((mv_cat v).trans hv) (n X hr hS hl hf)⟩
theorem r_pop {v : Value} (D : decode (tB t) pc = .ok (.pop, 1)) (hv : v.category = 1) (k : R g d t (pc + 1) ls (st) h Q) : R g d t pc ls (v :: st) h Q := by
  intro w
  obtain ⟨o, h', a, b, c, n⟩ := k w
  exact ⟨o, h', a, b, c, fun _ _ _ _ _ _ _ _ _ _ _ _ _ _ _ _ X hr hS hl hf => lv_pop X.1 X.2.1 D ((mv_cat v).trans hv) (n X hr hS hl hf)⟩
theorem r_dup_x1 {v u : Value} (D : decode (tB t) pc = .ok (.dup_x1, 1)) (hv : v.category = 1) (hu : u.category = 1) (k : R g d t (pc + 1) ls (v :: u :: v :: st) h Q) : R g d t pc ls (v :: u :: st) h Q := by
  intro w
  obtain ⟨o, h', a, b, c, n⟩ := k w
  exact ⟨o, h', a, b, c, fun _ _ _ _ _ _ _ _ _ _ _ _ _ _ _ _ X hr hS hl hf => lv_dup_x1 X.1 X.2.1 D ((mv_cat v).trans hv) ((mv_cat u).trans hu) (n X hr hS hl hf)⟩
theorem r_dup_x2 {v u z : Value} (D : decode (tB t) pc = .ok (.dup_x2, 1)) (hv : v.category = 1) (hu : u.category = 1) (hz : z.category = 1) (k : R g d t (pc + 1) ls (v :: u :: z :: v :: st) h Q) : R g d t pc ls (v :: u :: z :: st) h Q := by
  intro w
  obtain ⟨o, h', a, b, c, n⟩ := k w
  exact ⟨o, h', a, b, c, fun _ _ _ _ _ _ _ _ _ _ _ _ _ _ _ _ X hr hS hl hf => lv_dup_x2 X.1 X.2.1 D ((mv_cat v).trans hv) ((mv_cat u).trans hu) ((mv_cat z).trans hz) (n X hr hS hl hf)⟩
theorem r_dup2 {v u : Value} (D : decode (tB t) pc = .ok (.dup2, 1)) (hv : v.category = 1) (hu : u.category = 1) (k : R g d t (pc + 1) ls (v :: u :: v :: u :: st) h Q) : R g d t pc ls (v :: u :: st) h Q := by
  intro w
  obtain ⟨o, h', a, b, c, n⟩ := k w
  exact ⟨o, h', a, b, c, fun _ _ _ _ _ _ _ _ _ _ _ _ _ _ _ _ X hr hS hl hf => lv_dup2_11 X.1 X.2.1 D ((mv_cat v).trans hv) ((mv_cat u).trans hu) (n X hr hS hl hf)⟩
theorem r_goto {off : Int} {tgt : Nat} (D : decode (tB t) pc = .ok (.goto off, 3)) (ht : (pc : Int) + off = (tgt : Int)) (k : R g d t tgt ls st h Q) : R g d t pc ls st h Q := by
  intro w
  obtain ⟨o, h', a, b, c, n⟩ := k w
  exact ⟨o, h', a, b, c, fun _ _ _ _ _ _ _ _ _ _ _ _ _ _ _ _ X hr hS hl hf => lv_goto X.1 X.2.1 D ht (n X hr hS hl hf)⟩
theorem r_if_eq {x : Int32} {off : Int} {tgt : Nat} (D : decode (tB t) pc = .ok (.ifCond .eq off, 3)) (ht : (pc : Int) + off = (tgt : Int)) (kt : (x = 0) → R g d t tgt ls st h Q) (kf : ¬ (x = 0) → R g d t (pc + 3) ls st h Q) : R g d t pc ls (.int x :: st) h Q := by
  by_cases q : (x = 0)
  · intro w
    obtain ⟨o, h', a, b, c, n⟩ := kt q w
    exact ⟨o, h', a, b, c, fun _ _ _ _ _ _ _ _ _ _ _ _ _ _ _ _ X hr hS hl hf => lv_if_eq X.1 X.2.1 D ht (fun _ => n X hr hS hl hf) (fun q' => absurd q q')⟩
  · intro w
    obtain ⟨o, h', a, b, c, n⟩ := kf q w
    exact ⟨o, h', a, b, c, fun _ _ _ _ _ _ _ _ _ _ _ _ _ _ _ _ X hr hS hl hf => lv_if_eq X.1 X.2.1 D ht (fun q' => absurd q' q) (fun _ => n X hr hS hl hf)⟩
theorem r_icmp_eq {x y : Int32} {off : Int} {tgt : Nat} (D : decode (tB t) pc = .ok (.if_icmp .eq off, 3)) (ht : (pc : Int) + off = (tgt : Int)) (kt : (x = y) → R g d t tgt ls st h Q) (kf : ¬ (x = y) → R g d t (pc + 3) ls st h Q) : R g d t pc ls (.int y :: .int x :: st) h Q := by
  by_cases q : (x = y)
  · intro w
    obtain ⟨o, h', a, b, c, n⟩ := kt q w
    exact ⟨o, h', a, b, c, fun _ _ _ _ _ _ _ _ _ _ _ _ _ _ _ _ X hr hS hl hf => lv_icmp_eq X.1 X.2.1 D ht (fun _ => n X hr hS hl hf) (fun q' => absurd q q')⟩
  · intro w
    obtain ⟨o, h', a, b, c, n⟩ := kf q w
    exact ⟨o, h', a, b, c, fun _ _ _ _ _ _ _ _ _ _ _ _ _ _ _ _ X hr hS hl hf => lv_icmp_eq X.1 X.2.1 D ht (fun q' => absurd q' q) (fun _ => n X hr hS hl hf)⟩
theorem r_if_lt {x : Int32} {off : Int} {tgt : Nat} (D : decode (tB t) pc = .ok (.ifCond .lt off, 3)) (ht : (pc : Int) + off = (tgt : Int)) (kt : (x < 0) → R g d t tgt ls st h Q) (kf : ¬ (x < 0) → R g d t (pc + 3) ls st h Q) : R g d t pc ls (.int x :: st) h Q := by
  by_cases q : (x < 0)
  · intro w
    obtain ⟨o, h', a, b, c, n⟩ := kt q w
    exact ⟨o, h', a, b, c, fun _ _ _ _ _ _ _ _ _ _ _ _ _ _ _ _ X hr hS hl hf => lv_if_lt X.1 X.2.1 D ht (fun _ => n X hr hS hl hf) (fun q' => absurd q q')⟩
  · intro w
    obtain ⟨o, h', a, b, c, n⟩ := kf q w
    exact ⟨o, h', a, b, c, fun _ _ _ _ _ _ _ _ _ _ _ _ _ _ _ _ X hr hS hl hf => lv_if_lt X.1 X.2.1 D ht (fun q' => absurd q' q) (fun _ => n X hr hS hl hf)⟩
theorem r_icmp_lt {x y : Int32} {off : Int} {tgt : Nat} (D : decode (tB t) pc = .ok (.if_icmp .lt off, 3)) (ht : (pc : Int) + off = (tgt : Int)) (kt : (x < y) → R g d t tgt ls st h Q) (kf : ¬ (x < y) → R g d t (pc + 3) ls st h Q) : R g d t pc ls (.int y :: .int x :: st) h Q := by
  by_cases q : (x < y)
  · intro w
    obtain ⟨o, h', a, b, c, n⟩ := kt q w
    exact ⟨o, h', a, b, c, fun _ _ _ _ _ _ _ _ _ _ _ _ _ _ _ _ X hr hS hl hf => lv_icmp_lt X.1 X.2.1 D ht (fun _ => n X hr hS hl hf) (fun q' => absurd q q')⟩
  · intro w
    obtain ⟨o, h', a, b, c, n⟩ := kf q w
    exact ⟨o, h', a, b, c, fun _ _ _ _ _ _ _ _ _ _ _ _ _ _ _ _ X hr hS hl hf => lv_icmp_lt X.1 X.2.1 D ht (fun q' => absurd q' q) (fun _ => n X hr hS hl hf)⟩
theorem r_if_ge {x : Int32} {off : Int} {tgt : Nat} (D : decode (tB t) pc = .ok (.ifCond .ge off, 3)) (ht : (pc : Int) + off = (tgt : Int)) (kt : (0 ≤ x) → R g d t tgt ls st h Q) (kf : ¬ (0 ≤ x) → R g d t (pc + 3) ls st h Q) : R g d t pc ls (.int x :: st) h Q := by
  by_cases q : (0 ≤ x)
  · intro w
    obtain ⟨o, h', a, b, c, n⟩ := kt q w
    exact ⟨o, h', a, b, c, fun _ _ _ _ _ _ _ _ _ _ _ _ _ _ _ _ X hr hS hl hf => lv_if_ge X.1 X.2.1 D ht (fun _ => n X hr hS hl hf) (fun q' => absurd q q')⟩
  · intro w
    obtain ⟨o, h', a, b, c, n⟩ := kf q w
    exact ⟨o, h', a, b, c, fun _ _ _ _ _ _ _ _ _ _ _ _ _ _ _ _ X hr hS hl hf => lv_if_ge X.1 X.2.1 D ht (fun q' => absurd q' q) (fun _ => n X hr hS hl hf)⟩
theorem r_icmp_ge {x y : Int32} {off : Int} {tgt : Nat} (D : decode (tB t) pc = .ok (.if_icmp .ge off, 3)) (ht : (pc : Int) + off = (tgt : Int)) (kt : (y ≤ x) → R g d t tgt ls st h Q) (kf : ¬ (y ≤ x) → R g d t (pc + 3) ls st h Q) : R g d t pc ls (.int y :: .int x :: st) h Q := by
  by_cases q : (y ≤ x)
  · intro w
    obtain ⟨o, h', a, b, c, n⟩ := kt q w
    exact ⟨o, h', a, b, c, fun _ _ _ _ _ _ _ _ _ _ _ _ _ _ _ _ X hr hS hl hf => lv_icmp_ge X.1 X.2.1 D ht (fun _ => n X hr hS hl hf) (fun q' => absurd q q')⟩
  · intro w
    obtain ⟨o, h', a, b, c, n⟩ := kf q w
    exact ⟨o, h', a, b, c, fun _ _ _ _ _ _ _ _ _ _ _ _ _ _ _ _ X hr hS hl hf => lv_icmp_ge X.1 X.2.1 D ht (fun q' => absurd q' q) (fun _ => n X hr hS hl hf)⟩
theorem r_if_gt {x : Int32} {off : Int} {tgt : Nat} (D : decode (tB t) pc = .ok (.ifCond .gt off, 3)) (ht : (pc : Int) + off = (tgt : Int)) (kt : (0 < x) → R g d t tgt ls st h Q) (kf : ¬ (0 < x) → R g d t (pc + 3) ls st h Q) : R g d t pc ls (.int x :: st) h Q := by
  by_cases q : (0 < x)
  · intro w
    obtain ⟨o, h', a, b, c, n⟩ := kt q w
    exact ⟨o, h', a, b, c, fun _ _ _ _ _ _ _ _ _ _ _ _ _ _ _ _ X hr hS hl hf => lv_if_gt X.1 X.2.1 D ht (fun _ => n X hr hS hl hf) (fun q' => absurd q q')⟩
  · intro w
    obtain ⟨o, h', a, b, c, n⟩ := kf q w
    exact ⟨o, h', a, b, c, fun _ _ _ _ _ _ _ _ _ _ _ _ _ _ _ _ X hr hS hl hf => lv_if_gt X.1 X.2.1 D ht (fun q' => absurd q' q) (fun _ => n X hr hS hl hf)⟩
theorem r_icmp_gt {x y : Int32} {off : Int} {tgt : Nat} (D : decode (tB t) pc = .ok (.if_icmp .gt off, 3)) (ht : (pc : Int) + off = (tgt : Int)) (kt : (y < x) → R g d t tgt ls st h Q) (kf : ¬ (y < x) → R g d t (pc + 3) ls st h Q) : R g d t pc ls (.int y :: .int x :: st) h Q := by
  by_cases q : (y < x)
  · intro w
    obtain ⟨o, h', a, b, c, n⟩ := kt q w
    exact ⟨o, h', a, b, c, fun _ _ _ _ _ _ _ _ _ _ _ _ _ _ _ _ X hr hS hl hf => lv_icmp_gt X.1 X.2.1 D ht (fun _ => n X hr hS hl hf) (fun q' => absurd q q')⟩
  · intro w
    obtain ⟨o, h', a, b, c, n⟩ := kf q w
    exact ⟨o, h', a, b, c, fun _ _ _ _ _ _ _ _ _ _ _ _ _ _ _ _ X hr hS hl hf => lv_icmp_gt X.1 X.2.1 D ht (fun q' => absurd q' q) (fun _ => n X hr hS hl hf)⟩
theorem r_if_le {x : Int32} {off : Int} {tgt : Nat} (D : decode (tB t) pc = .ok (.ifCond .le off, 3)) (ht : (pc : Int) + off = (tgt : Int)) (kt : (x ≤ 0) → R g d t tgt ls st h Q) (kf : ¬ (x ≤ 0) → R g d t (pc + 3) ls st h Q) : R g d t pc ls (.int x :: st) h Q := by
  by_cases q : (x ≤ 0)
  · intro w
    obtain ⟨o, h', a, b, c, n⟩ := kt q w
    exact ⟨o, h', a, b, c, fun _ _ _ _ _ _ _ _ _ _ _ _ _ _ _ _ X hr hS hl hf => lv_if_le X.1 X.2.1 D ht (fun _ => n X hr hS hl hf) (fun q' => absurd q q')⟩
  · intro w
    obtain ⟨o, h', a, b, c, n⟩ := kf q w
    exact ⟨o, h', a, b, c, fun _ _ _ _ _ _ _ _ _ _ _ _ _ _ _ _ X hr hS hl hf => lv_if_le X.1 X.2.1 D ht (fun q' => absurd q' q) (fun _ => n X hr hS hl hf)⟩
theorem r_icmp_le {x y : Int32} {off : Int} {tgt : Nat} (D : decode (tB t) pc = .ok (.if_icmp .le off, 3)) (ht : (pc : Int) + off = (tgt : Int)) (kt : (x ≤ y) → R g d t tgt ls st h Q) (kf : ¬ (x ≤ y) → R g d t (pc + 3) ls st h Q) : R g d t pc ls (.int y :: .int x :: st) h Q := by
  by_cases q : (x ≤ y)
  · intro w
    obtain ⟨o, h', a, b, c, n⟩ := kt q w
    exact ⟨o, h', a, b, c, fun _ _ _ _ _ _ _ _ _ _ _ _ _ _ _ _ X hr hS hl hf => lv_icmp_le X.1 X.2.1 D ht (fun _ => n X hr hS hl hf) (fun q' => absurd q q')⟩
  · intro w
    obtain ⟨o, h', a, b, c, n⟩ := kf q w
    exact ⟨o, h', a, b, c, fun _ _ _ _ _ _ _ _ _ _ _ _ _ _ _ _ X hr hS hl hf => lv_icmp_le X.1 X.2.1 D ht (fun q' => absurd q' q) (fun _ => n X hr hS hl hf)⟩
theorem r_if_ne {x : Int32} {off : Int} {tgt : Nat} (D : decode (tB t) pc = .ok (.ifCond .ne off, 3)) (ht : (pc : Int) + off = (tgt : Int)) (kt : ¬ x = 0 → R g d t tgt ls st h Q) (kf : x = 0 → R g d t (pc + 3) ls st h Q) : R g d t pc ls (.int x :: st) h Q := by
  by_cases q : x = 0
  · intro w
    obtain ⟨o, h', a, b, c, n⟩ := kf q w
    exact ⟨o, h', a, b, c, fun _ _ _ _ _ _ _ _ _ _ _ _ _ _ _ _ X hr hS hl hf => lv_if_ne X.1 X.2.1 D ht (fun q' => absurd q q') (fun _ => n X hr hS hl hf)⟩
  · intro w
    obtain ⟨o, h', a, b, c, n⟩ := kt q w
    exact ⟨o, h', a, b, c, fun _ _ _ _ _ _ _ _ _ _ _ _ _ _ _ _ X hr hS hl hf => lv_if_ne X.1 X.2.1 D ht (fun _ => n X hr hS hl hf) (fun q' => absurd q' q)⟩
theorem r_icmp_ne {x y : Int32} {off : Int} {tgt : Nat} (D : decode (tB t) pc = .ok (.if_icmp .ne off, 3)) (ht : (pc : Int) + off = (tgt : Int)) (kt : ¬ x = y → R g d t tgt ls st h Q) (kf : x = y → R g d t (pc + 3) ls st h Q) : R g d t pc ls (.int y :: .int x :: st) h Q := by
  by_cases q : x = y
  · intro w
    obtain ⟨o, h', a, b, c, n⟩ := kf q w
    exact ⟨o, h', a, b, c, fun _ _ _ _ _ _ _ _ _ _ _ _ _ _ _ _ X hr hS hl hf => lv_icmp_ne X.1 X.2.1 D ht (fun q' => absurd q q') (fun _ => n X hr hS hl hf)⟩
  · intro w
    obtain ⟨o, h', a, b, c, n⟩ := kt q w
    exact ⟨o, h', a, b, c, fun _ _ _ _ _ _ _ _ _ _ _ _ _ _ _ _ X hr hS hl hf => lv_icmp_ne X.1 X.2.1 D ht (fun _ => n X hr hS hl hf) (fun q' => absurd q' q)⟩
theorem arrO_inj {a b : Nat} : arrO a = arrO b ↔ a = b := by
  constructor
  · intro q
    cases a <;> cases b <;> simp_all [arrO]
  · intro q; rw [q]
theorem r_acmp_eq {x y : Nat} {off : Int} {tgt : Nat} (D : decode (tB t) pc = .ok (.if_acmp .eq off, 3)) (ht : (pc : Int) + off = (tgt : Int)) (kt : x = y → R g d t tgt ls st h Q) (kf : ¬ x = y → R g d t (pc + 3) ls st h Q) : R g d t pc ls (.ref y :: .ref x :: st) h Q := by
  have e : ∀ r, mv (.ref r) = va_rf (arrO r) := fun r => (va_rf_arrO r).symm
  by_cases q : x = y
  · intro w
    obtain ⟨o, h', a, b, c, n⟩ := kt q w
    refine ⟨o, h', a, b, c, fun _ _ _ _ _ _ _ _ _ _ _ _ _ _ _ _ X hr hS hl hf => ?_⟩
    rw [List.map_cons, List.map_cons, e, e]
    exact lv_acmp_eq X.1 X.2.1 D ht (fun _ => n X hr hS hl hf) (fun q' => absurd (arrO_inj.mpr q) q')
  · intro w
    obtain ⟨o, h', a, b, c, n⟩ := kf q w
    refine ⟨o, h', a, b, c, fun _ _ _ _ _ _ _ _ _ _ _ _ _ _ _ _ X hr hS hl hf => ?_⟩
    rw [List.map_cons, List.map_cons, e, e]
    exact lv_acmp_eq X.1 X.2.1 D ht (fun q' => absurd (arrO_inj.mp q') q) (fun _ => n X hr hS hl hf)
theorem r_acmp_ne {x y : Nat} {off : Int} {tgt : Nat} (D : decode (tB t) pc = .ok (.if_acmp .ne off, 3)) (ht : (pc : Int) + off = (tgt : Int)) (kt : ¬ x = y → R g d t tgt ls st h Q) (kf : x = y → R g d t (pc + 3) ls st h Q) : R g d t pc ls (.ref y :: .ref x :: st) h Q := by
  have e : ∀ r, mv (.ref r) = va_rf (arrO r) := fun r => (va_rf_arrO r).symm
  by_cases q : x = y
  · intro w
    obtain ⟨o, h', a, b, c, n⟩ := kf q w
    refine ⟨o, h', a, b, c, fun _ _ _ _ _ _ _ _ _ _ _ _ _ _ _ _ X hr hS hl hf => ?_⟩
    rw [List.map_cons, List.map_cons, e, e]
    exact lv_acmp_ne X.1 X.2.1 D ht (fun q' => absurd (arrO_inj.mpr q) q') (fun _ => n X hr hS hl hf)
  · intro w
    obtain ⟨o, h', a, b, c, n⟩ := kt q w
    refine ⟨o, h', a, b, c, fun _ _ _ _ _ _ _ _ _ _ _ _ _ _ _ _ X hr hS hl hf => ?_⟩
    rw [List.map_cons, List.map_cons, e, e]
    exact lv_acmp_ne X.1 X.2.1 D ht (fun _ => n X hr hS hl hf) (fun q' => absurd (arrO_inj.mp q') q)
theorem r_ifnull {x : Nat} {off : Int} {tgt : Nat} (D : decode (tB t) pc = .ok (.ifnull off, 3)) (ht : (pc : Int) + off = (tgt : Int)) (kt : x = 0 → R g d t tgt ls st h Q) (kf : ¬ x = 0 → R g d t (pc + 3) ls st h Q) : R g d t pc ls (.ref x :: st) h Q := by
  cases x with
  | zero =>
    intro w
    obtain ⟨o, h', a, b, c, n⟩ := kt rfl w
    exact ⟨o, h', a, b, c, fun _ _ _ _ _ _ _ _ _ _ _ _ _ _ _ _ X hr hS hl hf => lv_ifnullN X.1 X.2.1 D ht (n X hr hS hl hf)⟩
  | succ y =>
    intro w
    obtain ⟨o, h', a, b, c, n⟩ := kf (Nat.succ_ne_zero y) w
    exact ⟨o, h', a, b, c, fun _ _ _ _ _ _ _ _ _ _ _ _ _ _ _ _ X hr hS hl hf => lv_ifnull X.1 X.2.1 D (n X hr hS hl hf)⟩
theorem r_ifnonnull {x : Nat} {off : Int} {tgt : Nat} (D : decode (tB t) pc = .ok (.ifnonnull off, 3)) (ht : (pc : Int) + off = (tgt : Int)) (kt : ¬ x = 0 → R g d t tgt ls st h Q) (kf : x = 0 → R g d t (pc + 3) ls st h Q) : R g d t pc ls (.ref x :: st) h Q := by
  cases x with
  | zero =>
    intro w
    obtain ⟨o, h', a, b, c, n⟩ := kf rfl w
    exact ⟨o, h', a, b, c, fun _ _ _ _ _ _ _ _ _ _ _ _ _ _ _ _ X hr hS hl hf => lv_ifnonnullN X.1 X.2.1 D (n X hr hS hl hf)⟩
  | succ y =>
    intro w
    obtain ⟨o, h', a, b, c, n⟩ := kt (Nat.succ_ne_zero y) w
    exact ⟨o, h', a, b, c, fun _ _ _ _ _ _ _ _ _ _ _ _ _ _ _ _ X hr hS hl hf => lv_ifnonnull X.1 X.2.1 D ht (n X hr hS hl hf)⟩
theorem r_lookup {dflt : Int} {ps : Array (Int × Int)} {len : Nat} {x : Int32} {off : Int} {tgt : Nat} (D : decode (tB t) pc = .ok (.lookupswitch dflt ps, len)) (hp : (ps.toList.zip (ps.toList.drop 1)).all (fun (a, next) => a.1 < next.1) = true) (ho : Op.lookupswitch.offset ps.toList dflt x.toInt = off) (ht : (pc : Int) + off = (tgt : Int)) (k : R g d t tgt ls st h Q) : R g d t pc ls (.int x :: st) h Q := by
  intro w
  obtain ⟨o, h', a, b, c, n⟩ := k w
  exact ⟨o, h', a, b, c, fun _ _ _ _ _ _ _ _ _ _ _ _ _ _ _ _ X hr hS hl hf => lv_lookup X.1 X.2.1 D hp ho ht (n X hr hS hl hf)⟩
theorem r_tableOut {dflt lo hi : Int} {offs : Array Int} {len : Nat} {x : Int32} {tgt : Nat} (D : decode (tB t) pc = .ok (.tableswitch dflt lo hi offs, len)) (hx : x.toInt < lo ∨ hi < x.toInt) (ht : (pc : Int) + dflt = (tgt : Int)) (k : R g d t tgt ls st h Q) : R g d t pc ls (.int x :: st) h Q := by
  intro w
  obtain ⟨o, h', a, b, c, n⟩ := k w
  exact ⟨o, h', a, b, c, fun _ _ _ _ _ _ _ _ _ _ _ _ _ _ _ _ X hr hS hl hf => lv_tableOut X.1 X.2.1 D hx ht (n X hr hS hl hf)⟩
theorem r_tableIn {dflt lo hi : Int} {offs : Array Int} {len : Nat} {x : Int32} {off : Int} {tgt : Nat} (D : decode (tB t) pc = .ok (.tableswitch dflt lo hi offs, len)) (h1 : ¬ x.toInt < lo) (h2 : ¬ hi < x.toInt) (ho : offs[(x.toInt - lo).toNat]? = some off) (ht : (pc : Int) + off = (tgt : Int)) (k : R g d t tgt ls st h Q) : R g d t pc ls (.int x :: st) h Q := by
  intro w
  obtain ⟨o, h', a, b, c, n⟩ := k w
  exact ⟨o, h', a, b, c, fun _ _ _ _ _ _ _ _ _ _ _ _ _ _ _ _ X hr hS hl hf => lv_tableIn X.1 X.2.1 D h1 h2 ho ht (n X hr hS hl hf)⟩
theorem r_iret {x : Int32} (D : decode (tB t) pc = .ok (.ireturn, 1)) (hrt : tR t = some .int) (k : Q (.inl (some (.int x))) h) : R g d t pc ls [.int x] h Q := by
  intro w
  refine ⟨_, h, k, w, Ext.rf h, fun _ _ _ _ _ _ _ _ _ _ _ _ _ _ _ _ X hr hS hl hf => ?_⟩
  refine W.widen (Nat.le_trans (Nat.le_add_right _ _) hr.2.2.1) (Nat.le_trans (Nat.le_add_right _ _) hr.2.2.2.1) (vx_ret ?_)
  exact W.iret X.1 X.2.1 (X.2.2.1.trans hrt) (fun u hu hW => ⟨some (.int x), rfl, rfl, by rw [hu]; exact hS⟩) hf D X.2.2.2.1
theorem r_lret {x : Int64} (D : decode (tB t) pc = .ok (.lreturn, 1)) (hrt : tR t = some .long) (k : Q (.inl (some (.long x))) h) : R g d t pc ls [.long x] h Q := by
  intro w
  refine ⟨_, h, k, w, Ext.rf h, fun _ _ _ _ _ _ _ _ _ _ _ _ _ _ _ _ X hr hS hl hf => ?_⟩
  refine W.widen (Nat.le_trans (Nat.le_add_right _ _) hr.2.2.1) (Nat.le_trans (Nat.le_add_right _ _) hr.2.2.2.1) (vx_ret ?_)
  exact W.lret X.1 X.2.1 (X.2.2.1.trans hrt) (fun u hu hW => ⟨some (.long x), rfl, rfl, by rw [hu]; exact hS⟩) hf D X.2.2.2.1
theorem r_fret {x : UInt32} (D : decode (tB t) pc = .ok (.freturn, 1)) (hrt : tR t = some .float) (k : Q (.inl (some (.float x))) h) : R g d t pc ls [.float x] h Q := by
  intro w
  refine ⟨_, h, k, w, Ext.rf h, fun _ _ _ _ _ _ _ _ _ _ _ _ _ _ _ _ X hr hS hl hf => ?_⟩
  refine W.widen (Nat.le_trans (Nat.le_add_right _ _) hr.2.2.1) (Nat.le_trans (Nat.le_add_right _ _) hr.2.2.2.1) (vx_ret ?_)
  exact W.fret X.1 X.2.1 (X.2.2.1.trans hrt) (fun u hu hW => ⟨some (.float x), rfl, rfl, by rw [hu]; exact hS⟩) hf D X.2.2.2.1
theorem r_dret {x : UInt64} (D : decode (tB t) pc = .ok (.dreturn, 1)) (hrt : tR t = some .double) (k : Q (.inl (some (.double x))) h) : R g d t pc ls [.double x] h Q := by
  intro w
  refine ⟨_, h, k, w, Ext.rf h, fun _ _ _ _ _ _ _ _ _ _ _ _ _ _ _ _ X hr hS hl hf => ?_⟩
  refine W.widen (Nat.le_trans (Nat.le_add_right _ _) hr.2.2.1) (Nat.le_trans (Nat.le_add_right _ _) hr.2.2.2.1) (vx_ret ?_)
  exact W.dret X.1 X.2.1 (X.2.2.1.trans hrt) (fun u hu hW => ⟨some (.double x), rfl, rfl, by rw [hu]; exact hS⟩) hf D X.2.2.2.1
theorem r_zret {x : Int32} {ty : FieldType} (D : decode (tB t) pc = .ok (.ireturn, 1)) (hrt : tR t = some ty) (hn : narrow ty (.int x) = .int x) (k : Q (.inl (some (.int x))) h) : R g d t pc ls [.int x] h Q := by
  intro w
  refine ⟨_, h, k, w, Ext.rf h, fun _ _ _ _ _ _ _ _ _ _ _ _ _ _ _ _ X hr hS hl hf => ?_⟩
  refine W.widen (Nat.le_trans (Nat.le_add_right _ _) hr.2.2.1) (Nat.le_trans (Nat.le_add_right _ _) hr.2.2.2.1) (vx_ret ?_)
  exact W.zret X.1 X.2.1 (X.2.2.1.trans hrt) hn (fun u hu hW => ⟨some (.int x), rfl, rfl, by rw [hu]; exact hS⟩) hf D X.2.2.2.1
theorem r_vret (D : decode (tB t) pc = .ok (.return_, 1)) (hrt : tR t = none) (k : Q (.inl none) h) : R g d t pc ls [] h Q := by
  intro w
  refine ⟨_, h, k, w, Ext.rf h, fun _ _ _ _ _ _ _ _ _ _ _ _ _ _ _ _ X hr hS hl hf => ?_⟩
  refine W.widen (Nat.le_trans (Nat.le_add_right _ _) hr.2.2.1) (Nat.le_trans (Nat.le_add_right _ _) hr.2.2.2.1) (vx_ret ?_)
  exact W.vret X.1 X.2.1 (X.2.2.1.trans hrt) (fun u hu hW => ⟨none, rfl, rfl, by rw [hu]; exact hS⟩) hf D X.2.2.2.1
/-- an answer's type: a class or an array -/
def isRT (o : Option FieldType) : Bool := match o with
  | some (.object _) => true
  | some (.array _) => true
  | _ => false
theorem r_aret {x : Nat} (D : decode (tB t) pc = .ok (.areturn, 1)) (hrt : isRT (tR t) = true) (k : Q (.inl (some (.ref x))) h) : R g d t pc ls [.ref x] h Q := by
  intro w
  refine ⟨_, h, k, w, Ext.rf h, fun _ _ _ _ _ _ _ _ _ _ _ _ _ _ _ _ X hr hS hl hf => ?_⟩
  refine W.widen (Nat.le_trans (Nat.le_add_right _ _) hr.2.2.1) (Nat.le_trans (Nat.le_add_right _ _) hr.2.2.2.1) (vx_ret ?_)
  have hq : ∃ rt, tR t = some rt ∧ ((∃ n, rt = .object n) ∨ ∃ z, rt = .array z) := by
    cases e : tR t with
    | none => rw [e] at hrt; cases hrt
    | some rt =>
      rw [e] at hrt
      refine ⟨rt, rfl, ?_⟩
      cases rt <;> first | exact Or.inl ⟨_, rfl⟩ | exact Or.inr ⟨_, rfl⟩ | cases hrt
  obtain ⟨rt, e1, e2⟩ := hq
  exact W.aret X.1 X.2.1 (X.2.2.1.trans e1) e2 (mvr_or x) (fun u hu hW => ⟨some (.ref x), rfl, rfl, by rw [hu]; exact hS⟩) hf D X.2.2.2.1
/-- a string constant, by its place in srT -/
theorem r_ldcS {i n : Nat} {tx : String} (D : decode (tB t) pc = .ok (.ldc i, 2)) (hs : srT[n]? = some (tO t, i, tx)) (k : R g d t (pc + 2) ls (.ref (gSr g n + 1) :: st) h Q) : R g d t pc ls st h Q := by
  intro w
  obtain ⟨o, h', a, b, c, m⟩ := k w
  exact ⟨o, h', a, b, c, fun _ _ _ _ _ _ _ _ _ _ _ _ _ _ _ _ X hr hS hl hf => va_ldcS X.1 X.2.1 X.2.2.2.2.2.1 (X.2.2.2.2.2.2.2.1.2.2.2.2.2.1 n _ hs) D (m X hr hS hl hf)⟩
/-- a static that nobody writes, by its place in stT -/
theorem r_gets {i n : Nat} {C nm ds ref : String} (D : decode (tB t) pc = .ok (.getstatic i, 3)) (hs : stT[n]? = some (C, nm, ds)) (hl0 : Cond.fieldLink (tO t) i C nm ds ∈ lw_all) (k : R g d t (pc + 3) ls (unmv (gSt g n) :: st) h Q) : R g d t pc ls st h Q := by
  intro w
  obtain ⟨o, h', a, b, c, m⟩ := k w
  refine ⟨o, h', a, b, c, fun _ _ _ _ _ _ _ _ _ _ _ _ _ _ _ _ X hr hS hl hf => ?_⟩
  obtain ⟨cf, kf, fi, f, a1, cell, h1, h2, h3, h4, h5, h6, h7, h8⟩ := X.2.2.2.2.2.2.2.1.2.2.2.2.1 n _ hs
  refine W.gets X.1 X.2.1 X.2.2.2.2.2.1 (X.2.2.2.2.2.2.1 _ hl0) h1 h2 h3 h4 (by rw [hS.2.2.1 a1 (Array.getElem?_eq_some_iff.mp h5).1]; exact h5) (fun e => by rw [e] at h6; cases h6) h7 rfl D ?_
  have e9 : mv (unmv (gSt g n)) = gSt g n := mv_unmv _
  rw [← e9]
  exact m X hr hS hl hf
end RULES
