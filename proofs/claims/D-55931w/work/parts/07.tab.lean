/-! ===== the tables: kinds, fields, statics, strings (printed by gen/mk_tab.py) ===== -/
set_option maxRecDepth 100000
def cl_ : List vw_C := [(RX3, TX3, 0), (RX1, TX1, 7), (RX2, TX2, 10), (RX3, TX3, 3), (RX6, TX6, 7), (RX8, TX8, 5), (RX5, TX5, 4), (RX7, TX7, 8), (RX12, TX12, 7), (RX11, TX11, 2), (RX9, TX9, 1), (RX10, TX3, 0), (RX4, TX4, 17), (RJ2, TJ2, 3), (RJ18, TJ18, 4), (RJ4, TJ4, 9), (RJ34, TJ34, 6), (RJ30, TJ30, 1), (RJ46, TJ46, 1), (RJ49, TJ49, 1), (RJ32, TJ32, 4), (RJ33, TJ33, 4), (RJ43, TJ43, 4), (RJ6, TJ6, 4), (RJ44, TJ44, 3), (RJ41, TJ41, 5), (RJ7, TJ7, 3), (RJ48, TJ48, 4), (RJ9, TJ9, 4), (RJ10, TJ10, 4), (RJ26, TJ26, 1), (RJ27, TJ27, 0), (RJ45, TJ45, 0), (RJ15, TJ15, 0), (RJ28, TJ28, 0), (RJ51, TJ51, 0), (RJ35, TJ35, 0)]
def fidsL : List (List Nat) := [[], [500, 501, 502, 503, 504, 505, 0], [1, 2, 3, 506, 507, 508, 509, 510, 511, 512], [4, 5, 6], [7, 8, 9, 10, 11, 12, 13], [14, 15, 16, 17, 18], [513, 19, 20, 21], [514, 515, 516, 517, 518, 22, 23, 24], [514, 515, 516, 517, 518, 22, 25], [26, 519], [520], [], [521, 522, 523, 524, 27, 525, 28, 526, 29, 527, 30, 31, 528, 529, 530, 32, 33], [34, 531, 35], [36, 37, 38, 532], [533, 534, 535, 536, 39, 40, 537, 538, 539], [540, 541, 542, 543, 544, 41], [545], [546], [547], [548, 549, 42, 550], [548, 549, 42, 550], [548, 549, 42, 550], [34, 43, 551, 552], [553, 554, 555], [556, 557, 44, 45, 558], [559, 46, 47], [560, 48, 561, 49], [562, 50, 51, 52], [563, 53, 54, 55], [56], [], [], [], [], [], []]
def fids (ci : Nat) : List Nat := fidsL.getD ci []
theorem fids_len : ∀ (ci : Nat) (q : vw_C), cl_[ci]? = some q → (fids ci).length = q.2.2 := by
  intro ci q h
  match ci, h with
  | 0, h => cases h; rfl
  | 1, h => cases h; rfl
  | 2, h => cases h; rfl
  | 3, h => cases h; rfl
  | 4, h => cases h; rfl
  | 5, h => cases h; rfl
  | 6, h => cases h; rfl
  | 7, h => cases h; rfl
  | 8, h => cases h; rfl
  | 9, h => cases h; rfl
  | 10, h => cases h; rfl
  | 11, h => cases h; rfl
  | 12, h => cases h; rfl
  | 13, h => cases h; rfl
  | 14, h => cases h; rfl
  | 15, h => cases h; rfl
  | 16, h => cases h; rfl
  | 17, h => cases h; rfl
  | 18, h => cases h; rfl
  | 19, h => cases h; rfl
  | 20, h => cases h; rfl
  | 21, h => cases h; rfl
  | 22, h => cases h; rfl
  | 23, h => cases h; rfl
  | 24, h => cases h; rfl
  | 25, h => cases h; rfl
  | 26, h => cases h; rfl
  | 27, h => cases h; rfl
  | 28, h => cases h; rfl
  | 29, h => cases h; rfl
  | 30, h => cases h; rfl
  | 31, h => cases h; rfl
  | 32, h => cases h; rfl
  | 33, h => cases h; rfl
  | 34, h => cases h; rfl
  | 35, h => cases h; rfl
  | 36, h => cases h; rfl
  | n + 37, h => cases h
theorem fids_nd : ∀ ci : Nat, ci < 37 → (fids ci).Nodup := by decide +kernel
theorem cl_in : ∀ (ci : Nat) (q : vw_C), cl_[ci]? = some q → ∀ w ∈ u_ws q.1 q.2.1 q.2.2, w ∈ lw_all := by
  intro ci q h
  match ci, h with
  | 0, h => cases h; exact fun w hw => absurd hw List.not_mem_nil
  | 1, h => cases h; exact in_X1
  | 2, h => cases h; exact in_X2
  | 3, h => cases h; exact in_X3
  | 4, h => cases h; exact in_X6
  | 5, h => cases h; exact in_X8
  | 6, h => cases h; exact in_X5
  | 7, h => cases h; exact in_X7
  | 8, h => cases h; exact in_X12
  | 9, h => cases h; exact in_X11
  | 10, h => cases h; exact in_X9
  | 11, h => cases h; exact fun w hw => absurd hw List.not_mem_nil
  | 12, h => cases h; exact in_X4
  | 13, h => cases h; exact in_J2
  | 14, h => cases h; exact in_J18
  | 15, h => cases h; exact in_J4
  | 16, h => cases h; exact in_J34
  | 17, h => cases h; exact in_J30
  | 18, h => cases h; exact in_J46
  | 19, h => cases h; exact in_J49
  | 20, h => cases h; exact in_J32
  | 21, h => cases h; exact in_J33
  | 22, h => cases h; exact in_J43
  | 23, h => cases h; exact in_J6
  | 24, h => cases h; exact in_J44
  | 25, h => cases h; exact in_J41
  | 26, h => cases h; exact in_J7
  | 27, h => cases h; exact in_J48
  | 28, h => cases h; exact in_J9
  | 29, h => cases h; exact in_J10
  | 30, h => cases h; exact in_J26
  | 31, h => cases h; exact fun w hw => absurd hw List.not_mem_nil
  | 32, h => cases h; exact fun w hw => absurd hw List.not_mem_nil
  | 33, h => cases h; exact fun w hw => absurd hw List.not_mem_nil
  | 34, h => cases h; exact fun w hw => absurd hw List.not_mem_nil
  | 35, h => cases h; exact fun w hw => absurd hw List.not_mem_nil
  | 36, h => cases h; exact fun w hw => absurd hw List.not_mem_nil
  | n + 37, h => cases h
theorem cl_nm : ∀ (ci : Nat) (q : vw_C), cl_[ci]? = some q → ∀ a : Nat, a < q.2.2 → ∀ b : Nat, b < q.2.2 → a ≠ b → (q.2.1 a).2.1 ≠ (q.2.1 b).2.1 := by
  intro ci q h
  match ci, h with
  | 0, h => cases h; exact fun a ha => absurd ha (Nat.not_lt_zero a)
  | 1, h => cases h; exact nmX1
  | 2, h => cases h; exact nmX2
  | 3, h => cases h; exact nmX3
  | 4, h => cases h; exact nmX6
  | 5, h => cases h; exact nmX8
  | 6, h => cases h; exact nmX5
  | 7, h => cases h; exact nmX7
  | 8, h => cases h; exact nmX12
  | 9, h => cases h; exact nmX11
  | 10, h => cases h; exact nmX9
  | 11, h => cases h; exact fun a ha => absurd ha (Nat.not_lt_zero a)
  | 12, h => cases h; exact nmX4
  | 13, h => cases h; exact nmJ2
  | 14, h => cases h; exact nmJ18
  | 15, h => cases h; exact nmJ4
  | 16, h => cases h; exact nmJ34
  | 17, h => cases h; exact nmJ30
  | 18, h => cases h; exact nmJ46
  | 19, h => cases h; exact nmJ49
  | 20, h => cases h; exact nmJ32
  | 21, h => cases h; exact nmJ33
  | 22, h => cases h; exact nmJ43
  | 23, h => cases h; exact nmJ6
  | 24, h => cases h; exact nmJ44
  | 25, h => cases h; exact nmJ41
  | 26, h => cases h; exact nmJ7
  | 27, h => cases h; exact nmJ48
  | 28, h => cases h; exact nmJ9
  | 29, h => cases h; exact nmJ10
  | 30, h => cases h; exact nmJ26
  | 31, h => cases h; exact fun a ha => absurd ha (Nat.not_lt_zero a)
  | 32, h => cases h; exact fun a ha => absurd ha (Nat.not_lt_zero a)
  | 33, h => cases h; exact fun a ha => absurd ha (Nat.not_lt_zero a)
  | 34, h => cases h; exact fun a ha => absurd ha (Nat.not_lt_zero a)
  | 35, h => cases h; exact fun a ha => absurd ha (Nat.not_lt_zero a)
  | 36, h => cases h; exact fun a ha => absurd ha (Nat.not_lt_zero a)
  | n + 37, h => cases h
/-- the type of a class's field -/
def clty (ci : Nat) : Nat → FieldType := match ci with
  | 1 => tyX1
  | 2 => tyX2
  | 3 => tyX3
  | 4 => tyX6
  | 5 => tyX8
  | 6 => tyX5
  | 7 => tyX7
  | 8 => tyX12
  | 9 => tyX11
  | 10 => tyX9
  | 12 => tyX4
  | 13 => tyJ2
  | 14 => tyJ18
  | 15 => tyJ4
  | 16 => tyJ34
  | 17 => tyJ30
  | 18 => tyJ46
  | 19 => tyJ49
  | 20 => tyJ32
  | 21 => tyJ33
  | 22 => tyJ43
  | 23 => tyJ6
  | 24 => tyJ44
  | 25 => tyJ41
  | 26 => tyJ7
  | 27 => tyJ48
  | 28 => tyJ9
  | 29 => tyJ10
  | 30 => tyJ26
  | _ => fun _ => .int
theorem cl_ty : ∀ (ci : Nat) (q : vw_C), cl_[ci]? = some q → ∀ k : Nat, k < q.2.2 → parseFieldDescriptor (q.2.1 k).2.2.1 = some (clty ci k) := by
  intro ci q h
  match ci, h with
  | 0, h => cases h; exact fun a ha => absurd ha (Nat.not_lt_zero a)
  | 1, h => cases h; exact tyX1_ok
  | 2, h => cases h; exact tyX2_ok
  | 3, h => cases h; exact tyX3_ok
  | 4, h => cases h; exact tyX6_ok
  | 5, h => cases h; exact tyX8_ok
  | 6, h => cases h; exact tyX5_ok
  | 7, h => cases h; exact tyX7_ok
  | 8, h => cases h; exact tyX12_ok
  | 9, h => cases h; exact tyX11_ok
  | 10, h => cases h; exact tyX9_ok
  | 11, h => cases h; exact fun a ha => absurd ha (Nat.not_lt_zero a)
  | 12, h => cases h; exact tyX4_ok
  | 13, h => cases h; exact tyJ2_ok
  | 14, h => cases h; exact tyJ18_ok
  | 15, h => cases h; exact tyJ4_ok
  | 16, h => cases h; exact tyJ34_ok
  | 17, h => cases h; exact tyJ30_ok
  | 18, h => cases h; exact tyJ46_ok
  | 19, h => cases h; exact tyJ49_ok
  | 20, h => cases h; exact tyJ32_ok
  | 21, h => cases h; exact tyJ33_ok
  | 22, h => cases h; exact tyJ43_ok
  | 23, h => cases h; exact tyJ6_ok
  | 24, h => cases h; exact tyJ44_ok
  | 25, h => cases h; exact tyJ41_ok
  | 26, h => cases h; exact tyJ7_ok
  | 27, h => cases h; exact tyJ48_ok
  | 28, h => cases h; exact tyJ9_ok
  | 29, h => cases h; exact tyJ10_ok
  | 30, h => cases h; exact tyJ26_ok
  | 31, h => cases h; exact fun a ha => absurd ha (Nat.not_lt_zero a)
  | 32, h => cases h; exact fun a ha => absurd ha (Nat.not_lt_zero a)
  | 33, h => cases h; exact fun a ha => absurd ha (Nat.not_lt_zero a)
  | 34, h => cases h; exact fun a ha => absurd ha (Nat.not_lt_zero a)
  | 35, h => cases h; exact fun a ha => absurd ha (Nat.not_lt_zero a)
  | 36, h => cases h; exact fun a ha => absurd ha (Nat.not_lt_zero a)
  | n + 37, h => cases h
theorem cl_def : ∀ (ci : Nat) (q : vw_C), cl_[ci]? = some q → ∀ (k f : Nat), k < q.2.2 → (fids ci)[k]? = some f → defaultValue (clty ci k) = if f < 500 then .int 0 else .null := by
  intro ci q h
  match ci, h with
  | 0, h => cases h; exact fun k f hk => absurd hk (Nat.not_lt_zero k)
  | 1, h =>
    cases h
    intro k f hk hf
    match k, hk, hf with
    | 0, _, hf => cases hf; rfl
    | 1, _, hf => cases hf; rfl
    | 2, _, hf => cases hf; rfl
    | 3, _, hf => cases hf; rfl
    | 4, _, hf => cases hf; rfl
    | 5, _, hf => cases hf; rfl
    | 6, _, hf => cases hf; rfl
    | n + 7, hk, _ => exact absurd hk (by show ¬ n + 7 < 7; omega)
  | 2, h =>
    cases h
    intro k f hk hf
    match k, hk, hf with
    | 0, _, hf => cases hf; rfl
    | 1, _, hf => cases hf; rfl
    | 2, _, hf => cases hf; rfl
    | 3, _, hf => cases hf; rfl
    | 4, _, hf => cases hf; rfl
    | 5, _, hf => cases hf; rfl
    | 6, _, hf => cases hf; rfl
    | 7, _, hf => cases hf; rfl
    | 8, _, hf => cases hf; rfl
    | 9, _, hf => cases hf; rfl
    | n + 10, hk, _ => exact absurd hk (by show ¬ n + 10 < 10; omega)
  | 3, h =>
    cases h
    intro k f hk hf
    match k, hk, hf with
    | 0, _, hf => cases hf; rfl
    | 1, _, hf => cases hf; rfl
    | 2, _, hf => cases hf; rfl
    | n + 3, hk, _ => exact absurd hk (by show ¬ n + 3 < 3; omega)
  | 4, h =>
    cases h
    intro k f hk hf
    match k, hk, hf with
    | 0, _, hf => cases hf; rfl
    | 1, _, hf => cases hf; rfl
    | 2, _, hf => cases hf; rfl
    | 3, _, hf => cases hf; rfl
    | 4, _, hf => cases hf; rfl
    | 5, _, hf => cases hf; rfl
    | 6, _, hf => cases hf; rfl
    | n + 7, hk, _ => exact absurd hk (by show ¬ n + 7 < 7; omega)
  | 5, h =>
    cases h
    intro k f hk hf
    match k, hk, hf with
    | 0, _, hf => cases hf; rfl
    | 1, _, hf => cases hf; rfl
    | 2, _, hf => cases hf; rfl
    | 3, _, hf => cases hf; rfl
    | 4, _, hf => cases hf; rfl
    | n + 5, hk, _ => exact absurd hk (by show ¬ n + 5 < 5; omega)
  | 6, h =>
    cases h
    intro k f hk hf
    match k, hk, hf with
    | 0, _, hf => cases hf; rfl
    | 1, _, hf => cases hf; rfl
    | 2, _, hf => cases hf; rfl
    | 3, _, hf => cases hf; rfl
    | n + 4, hk, _ => exact absurd hk (by show ¬ n + 4 < 4; omega)
  | 7, h =>
    cases h
    intro k f hk hf
    match k, hk, hf with
    | 0, _, hf => cases hf; rfl
    | 1, _, hf => cases hf; rfl
    | 2, _, hf => cases hf; rfl
    | 3, _, hf => cases hf; rfl
    | 4, _, hf => cases hf; rfl
    | 5, _, hf => cases hf; rfl
    | 6, _, hf => cases hf; rfl
    | 7, _, hf => cases hf; rfl
    | n + 8, hk, _ => exact absurd hk (by show ¬ n + 8 < 8; omega)
  | 8, h =>
    cases h
    intro k f hk hf
    match k, hk, hf with
    | 0, _, hf => cases hf; rfl
    | 1, _, hf => cases hf; rfl
    | 2, _, hf => cases hf; rfl
    | 3, _, hf => cases hf; rfl
    | 4, _, hf => cases hf; rfl
    | 5, _, hf => cases hf; rfl
    | 6, _, hf => cases hf; rfl
    | n + 7, hk, _ => exact absurd hk (by show ¬ n + 7 < 7; omega)
  | 9, h =>
    cases h
    intro k f hk hf
    match k, hk, hf with
    | 0, _, hf => cases hf; rfl
    | 1, _, hf => cases hf; rfl
    | n + 2, hk, _ => exact absurd hk (by show ¬ n + 2 < 2; omega)
  | 10, h =>
    cases h
    intro k f hk hf
    match k, hk, hf with
    | 0, _, hf => cases hf; rfl
    | n + 1, hk, _ => exact absurd hk (by show ¬ n + 1 < 1; omega)
  | 11, h => cases h; exact fun k f hk => absurd hk (Nat.not_lt_zero k)
  | 12, h =>
    cases h
    intro k f hk hf
    match k, hk, hf with
    | 0, _, hf => cases hf; rfl
    | 1, _, hf => cases hf; rfl
    | 2, _, hf => cases hf; rfl
    | 3, _, hf => cases hf; rfl
    | 4, _, hf => cases hf; rfl
    | 5, _, hf => cases hf; rfl
    | 6, _, hf => cases hf; rfl
    | 7, _, hf => cases hf; rfl
    | 8, _, hf => cases hf; rfl
    | 9, _, hf => cases hf; rfl
    | 10, _, hf => cases hf; rfl
    | 11, _, hf => cases hf; rfl
    | 12, _, hf => cases hf; rfl
    | 13, _, hf => cases hf; rfl
    | 14, _, hf => cases hf; rfl
    | 15, _, hf => cases hf; rfl
    | 16, _, hf => cases hf; rfl
    | n + 17, hk, _ => exact absurd hk (by show ¬ n + 17 < 17; omega)
  | 13, h =>
    cases h
    intro k f hk hf
    match k, hk, hf with
    | 0, _, hf => cases hf; rfl
    | 1, _, hf => cases hf; rfl
    | 2, _, hf => cases hf; rfl
    | n + 3, hk, _ => exact absurd hk (by show ¬ n + 3 < 3; omega)
  | 14, h =>
    cases h
    intro k f hk hf
    match k, hk, hf with
    | 0, _, hf => cases hf; rfl
    | 1, _, hf => cases hf; rfl
    | 2, _, hf => cases hf; rfl
    | 3, _, hf => cases hf; rfl
    | n + 4, hk, _ => exact absurd hk (by show ¬ n + 4 < 4; omega)
  | 15, h =>
    cases h
    intro k f hk hf
    match k, hk, hf with
    | 0, _, hf => cases hf; rfl
    | 1, _, hf => cases hf; rfl
    | 2, _, hf => cases hf; rfl
    | 3, _, hf => cases hf; rfl
    | 4, _, hf => cases hf; rfl
    | 5, _, hf => cases hf; rfl
    | 6, _, hf => cases hf; rfl
    | 7, _, hf => cases hf; rfl
    | 8, _, hf => cases hf; rfl
    | n + 9, hk, _ => exact absurd hk (by show ¬ n + 9 < 9; omega)
  | 16, h =>
    cases h
    intro k f hk hf
    match k, hk, hf with
    | 0, _, hf => cases hf; rfl
    | 1, _, hf => cases hf; rfl
    | 2, _, hf => cases hf; rfl
    | 3, _, hf => cases hf; rfl
    | 4, _, hf => cases hf; rfl
    | 5, _, hf => cases hf; rfl
    | n + 6, hk, _ => exact absurd hk (by show ¬ n + 6 < 6; omega)
  | 17, h =>
    cases h
    intro k f hk hf
    match k, hk, hf with
    | 0, _, hf => cases hf; rfl
    | n + 1, hk, _ => exact absurd hk (by show ¬ n + 1 < 1; omega)
  | 18, h =>
    cases h
    intro k f hk hf
    match k, hk, hf with
    | 0, _, hf => cases hf; rfl
    | n + 1, hk, _ => exact absurd hk (by show ¬ n + 1 < 1; omega)
  | 19, h =>
    cases h
    intro k f hk hf
    match k, hk, hf with
    | 0, _, hf => cases hf; rfl
    | n + 1, hk, _ => exact absurd hk (by show ¬ n + 1 < 1; omega)
  | 20, h =>
    cases h
    intro k f hk hf
    match k, hk, hf with
    | 0, _, hf => cases hf; rfl
    | 1, _, hf => cases hf; rfl
    | 2, _, hf => cases hf; rfl
    | 3, _, hf => cases hf; rfl
    | n + 4, hk, _ => exact absurd hk (by show ¬ n + 4 < 4; omega)
  | 21, h =>
    cases h
    intro k f hk hf
    match k, hk, hf with
    | 0, _, hf => cases hf; rfl
    | 1, _, hf => cases hf; rfl
    | 2, _, hf => cases hf; rfl
    | 3, _, hf => cases hf; rfl
    | n + 4, hk, _ => exact absurd hk (by show ¬ n + 4 < 4; omega)
  | 22, h =>
    cases h
    intro k f hk hf
    match k, hk, hf with
    | 0, _, hf => cases hf; rfl
    | 1, _, hf => cases hf; rfl
    | 2, _, hf => cases hf; rfl
    | 3, _, hf => cases hf; rfl
    | n + 4, hk, _ => exact absurd hk (by show ¬ n + 4 < 4; omega)
  | 23, h =>
    cases h
    intro k f hk hf
    match k, hk, hf with
    | 0, _, hf => cases hf; rfl
    | 1, _, hf => cases hf; rfl
    | 2, _, hf => cases hf; rfl
    | 3, _, hf => cases hf; rfl
    | n + 4, hk, _ => exact absurd hk (by show ¬ n + 4 < 4; omega)
  | 24, h =>
    cases h
    intro k f hk hf
    match k, hk, hf with
    | 0, _, hf => cases hf; rfl
    | 1, _, hf => cases hf; rfl
    | 2, _, hf => cases hf; rfl
    | n + 3, hk, _ => exact absurd hk (by show ¬ n + 3 < 3; omega)
  | 25, h =>
    cases h
    intro k f hk hf
    match k, hk, hf with
    | 0, _, hf => cases hf; rfl
    | 1, _, hf => cases hf; rfl
    | 2, _, hf => cases hf; rfl
    | 3, _, hf => cases hf; rfl
    | 4, _, hf => cases hf; rfl
    | n + 5, hk, _ => exact absurd hk (by show ¬ n + 5 < 5; omega)
  | 26, h =>
    cases h
    intro k f hk hf
    match k, hk, hf with
    | 0, _, hf => cases hf; rfl
    | 1, _, hf => cases hf; rfl
    | 2, _, hf => cases hf; rfl
    | n + 3, hk, _ => exact absurd hk (by show ¬ n + 3 < 3; omega)
  | 27, h =>
    cases h
    intro k f hk hf
    match k, hk, hf with
    | 0, _, hf => cases hf; rfl
    | 1, _, hf => cases hf; rfl
    | 2, _, hf => cases hf; rfl
    | 3, _, hf => cases hf; rfl
    | n + 4, hk, _ => exact absurd hk (by show ¬ n + 4 < 4; omega)
  | 28, h =>
    cases h
    intro k f hk hf
    match k, hk, hf with
    | 0, _, hf => cases hf; rfl
    | 1, _, hf => cases hf; rfl
    | 2, _, hf => cases hf; rfl
    | 3, _, hf => cases hf; rfl
    | n + 4, hk, _ => exact absurd hk (by show ¬ n + 4 < 4; omega)
  | 29, h =>
    cases h
    intro k f hk hf
    match k, hk, hf with
    | 0, _, hf => cases hf; rfl
    | 1, _, hf => cases hf; rfl
    | 2, _, hf => cases hf; rfl
    | 3, _, hf => cases hf; rfl
    | n + 4, hk, _ => exact absurd hk (by show ¬ n + 4 < 4; omega)
  | 30, h =>
    cases h
    intro k f hk hf
    match k, hk, hf with
    | 0, _, hf => cases hf; rfl
    | n + 1, hk, _ => exact absurd hk (by show ¬ n + 1 < 1; omega)
  | 31, h => cases h; exact fun k f hk => absurd hk (Nat.not_lt_zero k)
  | 32, h => cases h; exact fun k f hk => absurd hk (Nat.not_lt_zero k)
  | 33, h => cases h; exact fun k f hk => absurd hk (Nat.not_lt_zero k)
  | 34, h => cases h; exact fun k f hk => absurd hk (Nat.not_lt_zero k)
  | 35, h => cases h; exact fun k f hk => absurd hk (Nat.not_lt_zero k)
  | 36, h => cases h; exact fun k f hk => absurd hk (Nat.not_lt_zero k)
  | n + 37, h => cases h
/-- a kind of objects: its place in cl_ (50..99: constants, there from the start) -/
def kci (k : Nat) : Nat := if k < 50 then k else k - 50
/-- arrays: the kind's hundred -/
def aty (t : Nat) : FieldType := match t with
  | 1 => .int
  | 2 => .char
  | 3 => .byte
  | 4 => .long
  | 5 => .double
  | 6 => .object "java/lang/Object"
  | 7 => .object "SnowRelay$Plank"
  | _ => .object "java/lang/Integer"
def stT : List (String × String × String) := [("java/util/ArrayList", "DEFAULTCAPACITY_EMPTY_ELEMENTDATA", "[Ljava/lang/Object;"), ("java/lang/String", "COMPACT_STRINGS", "Z"), ("jdk/internal/util/Preconditions", "SIOOBE_FORMATTER", "Ljava/util/function/BiFunction;"), ("java/lang/StringUTF16", "$assertionsDisabled", "Z"), ("java/lang/StringUTF16", "HI_BYTE_SHIFT", "I"), ("java/lang/StringUTF16", "LO_BYTE_SHIFT", "I"), ("java/lang/Integer", "DigitOnes", "[B"), ("java/lang/Integer", "DigitTens", "[B"), ("java/lang/Throwable", "UNASSIGNED_STACK", "[Ljava/lang/StackTraceElement;"), ("java/lang/Throwable", "SUPPRESSED_SENTINEL", "Ljava/util/List;"), ("java/lang/Integer$IntegerCache", "high", "I"), ("java/lang/Integer$IntegerCache", "cache", "[Ljava/lang/Integer;"), ("jdk/internal/misc/Unsafe", "ARRAY_BYTE_BASE_OFFSET", "I"), ("jdk/internal/util/ArraysSupport", "LOG2_ARRAY_BYTE_INDEX_SCALE", "I"), ("jdk/internal/util/ArraysSupport", "LOG2_ARRAY_LONG_INDEX_SCALE", "I"), ("jdk/internal/util/ArraysSupport", "U", "Ljdk/internal/misc/Unsafe;"), ("jdk/internal/misc/UnsafeConstants", "BIG_ENDIAN", "Z"), ("jdk/internal/util/ArraysSupport", "BIG_ENDIAN", "Z"), ("jdk/internal/util/ArraysSupport", "LOG2_BYTE_BIT_SIZE", "I"), ("jdk/internal/util/ArraysSupport", "LOG2_ARRAY_INT_INDEX_SCALE", "I"), ("jdk/internal/util/ArraysSupport", "JLA", "Ljdk/internal/access/JavaLangAccess;")]
def srT : List (String × Nat × String) := [("java/lang/StringIndexOutOfBoundsException", 13, "String index out of range: "), ("java/util/Arrays", 337, " > "), ("java/util/Arrays", 48, "fromIndex("), ("java/util/Arrays", 57, ") > toIndex("), ("java/util/Arrays", 59, ")"), ("java/lang/ArrayIndexOutOfBoundsException", 13, "Array index out of range: "), ("SnowRelay", 350, " "), ("SnowRelay", 352, ""), ("SnowRelay", 360, "~"), ("java/util/LinkedList", 100, "Index: "), ("java/util/LinkedList", 109, ", Size: "), ("java/lang/Throwable", 81, ": "), ("java/util/ArrayList", 201, "Index: "), ("java/util/ArrayList", 203, ", Size: "), ("SnowRelay", 94, "come"), ("jdk/internal/util/ArraysSupport", 92, "unrecognized basic type: "), ("SnowRelay$Deed", 34, "come"), ("SnowRelay$Deed", 40, "run"), ("SnowRelay$Deed", 42, "pass"), ("SnowRelay$Deed", 44, "pick"), ("SnowRelay$Deed", 46, "warm"), ("java/util/ArrayDeque", 35, "Sorry, deque too big"), ("SnowRelay", 102, "run"), ("SnowRelay", 107, "pass"), ("SnowRelay", 109, "pick"), ("SnowRelay", 111, "warm"), ("SnowRelay", 113, "hour"), ("SnowRelay", 372, "abc"), ("SnowRelay", 380, "'"), ("SnowRelay", 382, "^"), ("SnowRelay$Parser", 71, "come"), ("SnowRelay$Parser", 73, "run"), ("SnowRelay$Parser", 75, "pick"), ("SnowRelay$Parser", 77, "pass"), ("SnowRelay$Parser", 79, "warm"), ("SnowRelay$Parser", 81, "hour"), ("SnowRelay$Parser", 83, ""), ("SnowRelay$Parser", 93, " "), ("SnowRelay$Parser", 85, "@"), ("SnowRelay$Parser", 119, ">"), ("SnowRelay$Parser", 98, "="), ("SnowRelayModel", 32, ""), ("SnowRelayModel", 213, "come _run _pass _pick _warm _hour_"), ("java/lang/StringLatin1", 151, ""), ("java/lang/StringUTF16", 295, ""), ("SnowRelayModel", 222, "come "), ("SnowRelayModel", 228, "run "), ("SnowRelayModel", 230, "pass "), ("SnowRelayModel", 232, "warm "), ("SnowRelayModel", 234, "hour")]
def fwT : List (String × MethodName × MethodName) := [("java/util/TreeMap$EntrySet", ⟨"java/util/Set", "iterator", "()Ljava/util/Iterator;"⟩, ⟨"java/util/TreeMap$EntrySet", "iterator", "()Ljava/util/Iterator;"⟩), ("java/util/TreeMap$KeySet", ⟨"java/util/Set", "iterator", "()Ljava/util/Iterator;"⟩, ⟨"java/util/TreeMap$KeySet", "iterator", "()Ljava/util/Iterator;"⟩), ("java/util/ArrayList$Itr", ⟨"java/util/Iterator", "hasNext", "()Z"⟩, ⟨"java/util/ArrayList$Itr", "hasNext", "()Z"⟩), ("java/util/LinkedList$ListItr", ⟨"java/util/Iterator", "hasNext", "()Z"⟩, ⟨"java/util/LinkedList$ListItr", "hasNext", "()Z"⟩), ("java/util/TreeMap$EntryIterator", ⟨"java/util/Iterator", "hasNext", "()Z"⟩, ⟨"java/util/TreeMap$PrivateEntryIterator", "hasNext", "()Z"⟩), ("java/util/TreeMap$KeyIterator", ⟨"java/util/Iterator", "hasNext", "()Z"⟩, ⟨"java/util/TreeMap$PrivateEntryIterator", "hasNext", "()Z"⟩), ("java/util/TreeMap$ValueIterator", ⟨"java/util/Iterator", "hasNext", "()Z"⟩, ⟨"java/util/TreeMap$PrivateEntryIterator", "hasNext", "()Z"⟩), ("java/util/ArrayList$Itr", ⟨"java/util/Iterator", "next", "()Ljava/lang/Object;"⟩, ⟨"java/util/ArrayList$Itr", "next", "()Ljava/lang/Object;"⟩), ("java/util/LinkedList$ListItr", ⟨"java/util/Iterator", "next", "()Ljava/lang/Object;"⟩, ⟨"java/util/LinkedList$ListItr", "next", "()Ljava/lang/Object;"⟩), ("java/util/TreeMap$EntryIterator", ⟨"java/util/Iterator", "next", "()Ljava/lang/Object;"⟩, ⟨"java/util/TreeMap$EntryIterator", "next", "()Ljava/lang/Object;"⟩), ("java/util/TreeMap$KeyIterator", ⟨"java/util/Iterator", "next", "()Ljava/lang/Object;"⟩, ⟨"java/util/TreeMap$KeyIterator", "next", "()Ljava/lang/Object;"⟩), ("java/util/TreeMap$ValueIterator", ⟨"java/util/Iterator", "next", "()Ljava/lang/Object;"⟩, ⟨"java/util/TreeMap$ValueIterator", "next", "()Ljava/lang/Object;"⟩), ("SnowRelay$1", ⟨"java/util/Comparator", "compare", "(Ljava/lang/Object;Ljava/lang/Object;)I"⟩, ⟨"SnowRelay$1", "compare", "(Ljava/lang/Object;Ljava/lang/Object;)I"⟩), ("SnowRelay$ByMass", ⟨"java/util/Comparator", "compare", "(Ljava/lang/Object;Ljava/lang/Object;)I"⟩, ⟨"SnowRelay$ByMass", "compare", "(Ljava/lang/Object;Ljava/lang/Object;)I"⟩), ("java/lang/Integer", ⟨"java/lang/Comparable", "compareTo", "(Ljava/lang/Object;)I"⟩, ⟨"java/lang/Integer", "compareTo", "(Ljava/lang/Object;)I"⟩), ("java/lang/String", ⟨"java/lang/Comparable", "compareTo", "(Ljava/lang/Object;)I"⟩, ⟨"java/lang/String", "compareTo", "(Ljava/lang/Object;)I"⟩), ("java/lang/StringBuilder", ⟨"java/lang/Comparable", "compareTo", "(Ljava/lang/Object;)I"⟩, ⟨"java/lang/StringBuilder", "compareTo", "(Ljava/lang/Object;)I"⟩), ("java/util/ArrayDeque", ⟨"java/util/Collection", "iterator", "()Ljava/util/Iterator;"⟩, ⟨"java/util/ArrayDeque", "iterator", "()Ljava/util/Iterator;"⟩), ("java/util/ArrayList", ⟨"java/util/Collection", "iterator", "()Ljava/util/Iterator;"⟩, ⟨"java/util/ArrayList", "iterator", "()Ljava/util/Iterator;"⟩), ("java/util/LinkedList", ⟨"java/util/Collection", "iterator", "()Ljava/util/Iterator;"⟩, ⟨"java/util/AbstractSequentialList", "iterator", "()Ljava/util/Iterator;"⟩), ("java/util/PriorityQueue", ⟨"java/util/Collection", "iterator", "()Ljava/util/Iterator;"⟩, ⟨"java/util/PriorityQueue", "iterator", "()Ljava/util/Iterator;"⟩), ("java/util/TreeMap$EntrySet", ⟨"java/util/Collection", "iterator", "()Ljava/util/Iterator;"⟩, ⟨"java/util/TreeMap$EntrySet", "iterator", "()Ljava/util/Iterator;"⟩), ("java/util/TreeMap$KeySet", ⟨"java/util/Collection", "iterator", "()Ljava/util/Iterator;"⟩, ⟨"java/util/TreeMap$KeySet", "iterator", "()Ljava/util/Iterator;"⟩), ("java/util/TreeMap$Values", ⟨"java/util/Collection", "iterator", "()Ljava/util/Iterator;"⟩, ⟨"java/util/TreeMap$Values", "iterator", "()Ljava/util/Iterator;"⟩), ("java/util/ArrayDeque", ⟨"java/util/Collection", "toArray", "()[Ljava/lang/Object;"⟩, ⟨"java/util/ArrayDeque", "toArray", "()[Ljava/lang/Object;"⟩), ("java/util/ArrayList", ⟨"java/util/Collection", "toArray", "()[Ljava/lang/Object;"⟩, ⟨"java/util/ArrayList", "toArray", "()[Ljava/lang/Object;"⟩), ("java/util/LinkedList", ⟨"java/util/Collection", "toArray", "()[Ljava/lang/Object;"⟩, ⟨"java/util/LinkedList", "toArray", "()[Ljava/lang/Object;"⟩), ("java/util/PriorityQueue", ⟨"java/util/Collection", "toArray", "()[Ljava/lang/Object;"⟩, ⟨"java/util/PriorityQueue", "toArray", "()[Ljava/lang/Object;"⟩), ("java/util/TreeMap$EntrySet", ⟨"java/util/Collection", "toArray", "()[Ljava/lang/Object;"⟩, ⟨"java/util/AbstractCollection", "toArray", "()[Ljava/lang/Object;"⟩), ("java/util/TreeMap", ⟨"java/util/Map", "size", "()I"⟩, ⟨"java/util/TreeMap", "size", "()I"⟩), ("java/util/TreeMap$KeySet", ⟨"java/util/Collection", "toArray", "()[Ljava/lang/Object;"⟩, ⟨"java/util/AbstractCollection", "toArray", "()[Ljava/lang/Object;"⟩), ("java/util/TreeMap$Values", ⟨"java/util/Collection", "toArray", "()[Ljava/lang/Object;"⟩, ⟨"java/util/AbstractCollection", "toArray", "()[Ljava/lang/Object;"⟩), ("java/util/TreeMap", ⟨"java/util/SortedMap", "comparator", "()Ljava/util/Comparator;"⟩, ⟨"java/util/TreeMap", "comparator", "()Ljava/util/Comparator;"⟩), ("java/util/TreeMap", ⟨"java/util/Map", "entrySet", "()Ljava/util/Set;"⟩, ⟨"java/util/TreeMap", "entrySet", "()Ljava/util/Set;"⟩), ("java/util/TreeMap$Entry", ⟨"java/util/Map$Entry", "getKey", "()Ljava/lang/Object;"⟩, ⟨"java/util/TreeMap$Entry", "getKey", "()Ljava/lang/Object;"⟩), ("java/util/TreeMap$Entry", ⟨"java/util/Map$Entry", "getValue", "()Ljava/lang/Object;"⟩, ⟨"java/util/TreeMap$Entry", "getValue", "()Ljava/lang/Object;"⟩), ("java/lang/String", ⟨"java/lang/CharSequence", "length", "()I"⟩, ⟨"java/lang/String", "length", "()I"⟩), ("java/lang/StringBuilder", ⟨"java/lang/CharSequence", "length", "()I"⟩, ⟨"java/lang/StringBuilder", "length", "()I"⟩), ("java/lang/String", ⟨"java/lang/CharSequence", "charAt", "(I)C"⟩, ⟨"java/lang/String", "charAt", "(I)C"⟩), ("java/lang/StringBuilder", ⟨"java/lang/CharSequence", "charAt", "(I)C"⟩, ⟨"java/lang/StringBuilder", "charAt", "(I)C"⟩)]
theorem fwT_ok : ∀ q ∈ fwT, (q.2.1.cls ≠ "java/lang/invoke/MethodHandle" ∧ q.2.1.cls ≠ "java/lang/invoke/VarHandle") ∧ Cond.declares q.2.1 ∈ lw_tbl ∧ Cond.interfaceMethod q.2.1.cls q.2.1.cls q.2.1.name q.2.1.desc ∈ lw_tbl ∧ Cond.publicMethod q.2.2 ∈ lw_tbl ∧ Cond.unhidden q.1 q.2.1.name q.2.1.desc ∈ lw_tbl ∧ Cond.castable q.1 q.2.1.cls ∈ lw_tbl :=
  List.forall_mem_cons.mpr ⟨⟨⟨by decide +kernel, by decide +kernel⟩, q839, q838, q844, q842, q840⟩, List.forall_mem_cons.mpr ⟨⟨⟨by decide +kernel, by decide +kernel⟩, q839, q838, q876, q874, q872⟩, List.forall_mem_cons.mpr ⟨⟨⟨by decide +kernel, by decide +kernel⟩, q902, q901, q928, q926, q924⟩, List.forall_mem_cons.mpr ⟨⟨⟨by decide +kernel, by decide +kernel⟩, q902, q901, q937, q935, q933⟩, List.forall_mem_cons.mpr ⟨⟨⟨by decide +kernel, by decide +kernel⟩, q902, q901, q953, q951, q949⟩, List.forall_mem_cons.mpr ⟨⟨⟨by decide +kernel, by decide +kernel⟩, q902, q901, q953, q957, q955⟩, List.forall_mem_cons.mpr ⟨⟨⟨by decide +kernel, by decide +kernel⟩, q902, q901, q953, q960, q958⟩, List.forall_mem_cons.mpr ⟨⟨⟨by decide +kernel, by decide +kernel⟩, q964, q963, q1170, q1168, q924⟩, List.forall_mem_cons.mpr ⟨⟨⟨by decide +kernel, by decide +kernel⟩, q964, q963, q1185, q1183, q933⟩, List.forall_mem_cons.mpr ⟨⟨⟨by decide +kernel, by decide +kernel⟩, q964, q963, q1216, q1214, q949⟩, List.forall_mem_cons.mpr ⟨⟨⟨by decide +kernel, by decide +kernel⟩, q964, q963, q1236, q1234, q955⟩, List.forall_mem_cons.mpr ⟨⟨⟨by decide +kernel, by decide +kernel⟩, q964, q963, q1244, q1242, q958⟩, List.forall_mem_cons.mpr ⟨⟨⟨by decide +kernel, by decide +kernel⟩, q1289, q1288, q1294, q1292, q1290⟩, List.forall_mem_cons.mpr ⟨⟨⟨by decide +kernel, by decide +kernel⟩, q1289, q1288, q1327, q1325, q1323⟩, List.forall_mem_cons.mpr ⟨⟨⟨by decide +kernel, by decide +kernel⟩, q1342, q1341, q1347, q1345, q1343⟩, List.forall_mem_cons.mpr ⟨⟨⟨by decide +kernel, by decide +kernel⟩, q1342, q1341, q1358, q1356, q1354⟩, List.forall_mem_cons.mpr ⟨⟨⟨by decide +kernel, by decide +kernel⟩, q1342, q1341, q1505, q1503, q1501⟩, List.forall_mem_cons.mpr ⟨⟨⟨by decide +kernel, by decide +kernel⟩, q1768, q1767, q1773, q1771, q1769⟩, List.forall_mem_cons.mpr ⟨⟨⟨by decide +kernel, by decide +kernel⟩, q1768, q1767, q1804, q1803, q1801⟩, List.forall_mem_cons.mpr ⟨⟨⟨by decide +kernel, by decide +kernel⟩, q1768, q1767, q1809, q1807, q1805⟩, List.forall_mem_cons.mpr ⟨⟨⟨by decide +kernel, by decide +kernel⟩, q1768, q1767, q1893, q1891, q1889⟩, List.forall_mem_cons.mpr ⟨⟨⟨by decide +kernel, by decide +kernel⟩, q1768, q1767, q844, q842, q1920⟩, List.forall_mem_cons.mpr ⟨⟨⟨by decide +kernel, by decide +kernel⟩, q1768, q1767, q876, q874, q1922⟩, List.forall_mem_cons.mpr ⟨⟨⟨by decide +kernel, by decide +kernel⟩, q1768, q1767, q1928, q1926, q1924⟩, List.forall_mem_cons.mpr ⟨⟨⟨by decide +kernel, by decide +kernel⟩, q1953, q1952, q1957, q1955, q1769⟩, List.forall_mem_cons.mpr ⟨⟨⟨by decide +kernel, by decide +kernel⟩, q1953, q1952, q1973, q1971, q1801⟩, List.forall_mem_cons.mpr ⟨⟨⟨by decide +kernel, by decide +kernel⟩, q1953, q1952, q1985, q1983, q1805⟩, List.forall_mem_cons.mpr ⟨⟨⟨by decide +kernel, by decide +kernel⟩, q1953, q1952, q1991, q1989, q1889⟩, List.forall_mem_cons.mpr ⟨⟨⟨by decide +kernel, by decide +kernel⟩, q1953, q1952, q1997, q1995, q1920⟩, List.forall_mem_cons.mpr ⟨⟨⟨by decide +kernel, by decide +kernel⟩, q2012, q2146, q2016, q2015, q2147⟩, List.forall_mem_cons.mpr ⟨⟨⟨by decide +kernel, by decide +kernel⟩, q1953, q1952, q1997, q2041, q1922⟩, List.forall_mem_cons.mpr ⟨⟨⟨by decide +kernel, by decide +kernel⟩, q1953, q1952, q1997, q2043, q1924⟩, List.forall_mem_cons.mpr ⟨⟨⟨by decide +kernel, by decide +kernel⟩, q2152, q2151, q2157, q2155, q2153⟩, List.forall_mem_cons.mpr ⟨⟨⟨by decide +kernel, by decide +kernel⟩, q2206, q2205, q2210, q2208, q2147⟩, List.forall_mem_cons.mpr ⟨⟨⟨by decide +kernel, by decide +kernel⟩, q2242, q2241, q2247, q2245, q2243⟩, List.forall_mem_cons.mpr ⟨⟨⟨by decide +kernel, by decide +kernel⟩, q2252, q2251, q2256, q2254, q2243⟩, List.forall_mem_cons.mpr ⟨⟨⟨by decide +kernel, by decide +kernel⟩, q3123, q3122, q3127, q3126, q3124⟩, List.forall_mem_cons.mpr ⟨⟨⟨by decide +kernel, by decide +kernel⟩, q3123, q3122, q3131, q3130, q3128⟩, List.forall_mem_cons.mpr ⟨⟨⟨by decide +kernel, by decide +kernel⟩, q3135, q3134, q3138, q3137, q3124⟩, List.forall_mem_cons.mpr ⟨⟨⟨by decide +kernel, by decide +kernel⟩, q3135, q3134, q3141, q3140, q3128⟩, fun _ h => absurd h List.not_mem_nil⟩⟩⟩⟩⟩⟩⟩⟩⟩⟩⟩⟩⟩⟩⟩⟩⟩⟩⟩⟩⟩⟩⟩⟩⟩⟩⟩⟩⟩⟩⟩⟩⟩⟩⟩⟩⟩⟩⟩⟩
def ncT : List (String × String) := [("java/lang/IndexOutOfBoundsException", "java/lang/IllegalArgumentException"), ("java/lang/IndexOutOfBoundsException", "java/lang/UnsupportedOperationException"), ("java/lang/IndexOutOfBoundsException", "java/util/NoSuchElementException"), ("java/lang/IndexOutOfBoundsException", "SnowRelay$RefusedException"), ("java/lang/IndexOutOfBoundsException", "SnowRelay$TextException"), ("java/lang/IllegalArgumentException", "java/lang/IndexOutOfBoundsException"), ("java/lang/IllegalArgumentException", "java/lang/UnsupportedOperationException"), ("java/lang/IllegalArgumentException", "java/util/NoSuchElementException"), ("java/lang/IllegalArgumentException", "SnowRelay$RefusedException"), ("java/lang/IllegalArgumentException", "SnowRelay$TextException"), ("java/lang/UnsupportedOperationException", "java/lang/IndexOutOfBoundsException"), ("java/lang/UnsupportedOperationException", "java/lang/IllegalArgumentException"), ("java/lang/UnsupportedOperationException", "java/util/NoSuchElementException"), ("java/lang/UnsupportedOperationException", "SnowRelay$RefusedException"), ("java/lang/UnsupportedOperationException", "SnowRelay$TextException"), ("java/util/NoSuchElementException", "java/lang/IndexOutOfBoundsException"), ("java/util/NoSuchElementException", "java/lang/IllegalArgumentException"), ("java/util/NoSuchElementException", "java/lang/UnsupportedOperationException"), ("java/util/NoSuchElementException", "SnowRelay$RefusedException"), ("java/util/NoSuchElementException", "SnowRelay$TextException"), ("SnowRelay$RefusedException", "java/lang/IndexOutOfBoundsException"), ("SnowRelay$RefusedException", "java/lang/IllegalArgumentException"), ("SnowRelay$RefusedException", "java/lang/UnsupportedOperationException"), ("SnowRelay$RefusedException", "java/util/NoSuchElementException"), ("SnowRelay$RefusedException", "SnowRelay$TextException"), ("SnowRelay$TextException", "java/lang/IndexOutOfBoundsException"), ("SnowRelay$TextException", "java/lang/IllegalArgumentException"), ("SnowRelay$TextException", "java/lang/UnsupportedOperationException"), ("SnowRelay$TextException", "java/util/NoSuchElementException"), ("SnowRelay$TextException", "SnowRelay$RefusedException")]
