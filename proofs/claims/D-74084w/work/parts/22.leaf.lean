/-! X8_init:  -/
abbrev rmX8_init : Room := { frames := 1, cells := 0, slots := 0, locals := 12 }
set_option maxHeartbeats 4000000 in
set_option maxRecDepth 100000 in
theorem mX8_init (l : Launch) (g : Gx) (A : Nat → Prop) (a i : Nat) (X : va_W) :
    cx_G l yX8_init cX8_init 2 none rmX8_init [.ref a, .ref i] g A ((a, .inr (6, [.null, .null, .null])) :: X) (ζ := Unit) (fun _ => True) (fun _ => none) (fun _ => (a, .inr (6, [.ref i, .null, .null])) :: X) 0 0 := by
  refine cx_G_of (by decide) (Nat.le_of_ble_eq_true rfl) ?_
  intro p e s m av below meth c Q E hmn hretV hretI hretR H hw ls hl
  have E : cx_E p m meth c cX8_init 2 s av RX8 g A := E
  have hx := E.1.1
  have hb := E.1.2.1
  have hmn : meth.name = "<init>" := hmn
  have hl : lv_has ls 2 [(0, .ref a), (1, .ref i)] := hl
  generalize hlc : ([] : List Loc) = locs at hw ⊢
  clear hlc
  refine lv_aload_n hx hb dX8_init_0 rfl (lv_at hl 0 rfl) ?_
  refine W.objInit hx hb E.1.2.2.2.1 (E.1.2.2.2.2 _ q579) (E.1.2.2.2.2 _ q330) (E.1.2.2.2.2 _ q331) rfl (by rw [E.1.2.2.1]; exact hl.1) rfl dX8_init_1 (Nat.le_of_ble_eq_true rfl) (Nat.le_of_ble_eq_true rfl) ?_
  refine W.eq (g2 := F0 m 4 ls []) rfl ?_
  refine lv_aload_n hx hb dX8_init_4 rfl (lv_at hl 0 rfl) ?_
  refine lv_aload_n hx hb dX8_init_5 rfl (lv_at hl 1 rfl) ?_
  refine opX8_X8_0 0 hmn E hw rfl rfl rfl (Nat.le_of_ble_eq_true rfl) dX8_init_6 (fun H locs hw => ?_)
  have hw : cx_W g A s ((a, .inr (6, [.ref i, .null, .null])) :: X) H locs := hw
  have hw : cx_W g A s ((fun _ => (a, .inr (6, [.ref i, .null, .null])) :: X) ()) H locs := hw
  exact hretV _ _ _ _ () rfl trivial rfl hw dX8_init_9
theorem kwX5_X8_init {p : Program} {m : MethodId} {meth : Method} {cd : Code} {cc : ByteArray} {nL : Nat} {s : State} {args : Array Value} {g : Gx} {A : Nat → Prop} {R : Room} (E : cx_E p m meth cd cc nL s args RX5 g A) (hR : rmX8_init.frames + 1 ≤ R.frames ∧ 8 + (2 + 11) + rmX8_init.locals ≤ R.locals) : CallB R s args RX5 9 yX8_init cX8_init 2 none (ws_ yX8_init cX8_init 2 none) rmX8_init rmX8_init.cells rmX8_init.slots 1 ∧ yX8_init.name = "<init>" ∧ (Cond.instanceMethod yX8_init).before args s = true := cwI 1 E.1.2.2.2.2 (lw_meth q578) rfl rfl rfl (E.1.2.2.2.2 _ q152) (E.1.2.2.2.2 _ q576) (E.1.2.2.2.2 _ q577) rfl (by decide +kernel) hR
/-! X10_init:  -/
abbrev rmX10_init : Room := { frames := 1, cells := 0, slots := 0, locals := 12 }
set_option maxHeartbeats 4000000 in
set_option maxRecDepth 100000 in
theorem mX10_init (l : Launch) (g : Gx) (A : Nat → Prop) (a : Nat) (x y z0 : Int32) (X : va_W) :
    cx_G l yX10_init cX10_init 4 none rmX10_init [.ref a, .int x, .int y, .int z0] g A ((a, .inr (8, [.int 0, .int 0, .int 0])) :: X) (ζ := Unit) (fun _ => True) (fun _ => none) (fun _ => (a, .inr (8, [.int x, .int y, .int z0])) :: X) 0 0 := by
  refine cx_G_of (by decide) (Nat.le_of_ble_eq_true rfl) ?_
  intro p e s m av below meth c Q E hmn hretV hretI hretR H hw ls hl
  have E : cx_E p m meth c cX10_init 4 s av RX10 g A := E
  have hx := E.1.1
  have hb := E.1.2.1
  have hmn : meth.name = "<init>" := hmn
  have hl : lv_has ls 4 [(0, .ref a), (1, .int x), (2, .int y), (3, .int z0)] := hl
  generalize hlc : ([] : List Loc) = locs at hw ⊢
  clear hlc
  refine lv_aload_n hx hb dX10_init_0 rfl (lv_at hl 0 rfl) ?_
  refine W.objInit hx hb E.1.2.2.2.1 (E.1.2.2.2.2 _ q764) (E.1.2.2.2.2 _ q330) (E.1.2.2.2.2 _ q331) rfl (by rw [E.1.2.2.1]; exact hl.1) rfl dX10_init_1 (Nat.le_of_ble_eq_true rfl) (Nat.le_of_ble_eq_true rfl) ?_
  refine W.eq (g2 := F0 m 4 ls []) rfl ?_
  refine lv_aload_n hx hb dX10_init_4 rfl (lv_at hl 0 rfl) ?_
  refine lv_iload_n hx hb dX10_init_5 rfl (lv_at hl 1 rfl) ?_
  refine opX10_X10_0 0 hmn E hw rfl rfl rfl (Nat.le_of_ble_eq_true rfl) dX10_init_6 (fun H locs hw => ?_)
  have hw : cx_W g A s ((a, .inr (8, [.int x, .int 0, .int 0])) :: X) H locs := hw
  refine lv_aload_n hx hb dX10_init_9 rfl (lv_at hl 0 rfl) ?_
  refine lv_iload_n hx hb dX10_init_10 rfl (lv_at hl 2 rfl) ?_
  refine opX10_X10_1 0 hmn E hw rfl rfl rfl (Nat.le_of_ble_eq_true rfl) dX10_init_11 (fun H locs hw => ?_)
  have hw : cx_W g A s ((a, .inr (8, [.int x, .int y, .int 0])) :: X) H locs := hw
  refine lv_aload_n hx hb dX10_init_14 rfl (lv_at hl 0 rfl) ?_
  refine lv_iload_n hx hb dX10_init_15 rfl (lv_at hl 3 rfl) ?_
  refine opX10_X10_2 0 hmn E hw rfl rfl rfl (Nat.le_of_ble_eq_true rfl) dX10_init_16 (fun H locs hw => ?_)
  have hw : cx_W g A s ((a, .inr (8, [.int x, .int y, .int z0])) :: X) H locs := hw
  have hw : cx_W g A s ((fun _ => (a, .inr (8, [.int x, .int y, .int z0])) :: X) ()) H locs := hw
  exact hretV _ _ _ _ () rfl trivial rfl hw dX10_init_19
theorem kwX1_X10_init {p : Program} {m : MethodId} {meth : Method} {cd : Code} {cc : ByteArray} {nL : Nat} {s : State} {args : Array Value} {g : Gx} {A : Nat → Prop} {R : Room} (E : cx_E p m meth cd cc nL s args RX1 g A) (hR : rmX10_init.frames + 1 ≤ R.frames ∧ 8 + (4 + 11) + rmX10_init.locals ≤ R.locals) : CallB R s args RX1 462 yX10_init cX10_init 4 none (ws_ yX10_init cX10_init 4 none) rmX10_init rmX10_init.cells rmX10_init.slots 3 ∧ yX10_init.name = "<init>" ∧ (Cond.instanceMethod yX10_init).before args s = true := cwI 3 E.1.2.2.2.2 (lw_meth q763) rfl rfl rfl (E.1.2.2.2.2 _ q154) (E.1.2.2.2.2 _ q761) (E.1.2.2.2.2 _ q762) rfl (by decide +kernel) hR
/-! X9_init:  -/
abbrev rmX9_init : Room := { frames := 1, cells := 0, slots := 0, locals := 12 }
set_option maxHeartbeats 4000000 in
set_option maxRecDepth 100000 in
theorem mX9_init (l : Launch) (g : Gx) (A : Nat → Prop) (a : Nat) (x y z0 : Int32) (X : va_W) :
    cx_G l yX9_init cX9_init 4 none rmX9_init [.ref a, .int x, .int y, .int z0] g A ((a, .inr (7, [.int 0, .int 0, .int 0])) :: X) (ζ := Unit) (fun _ => True) (fun _ => none) (fun _ => (a, .inr (7, [.int x, .int y, .int z0])) :: X) 0 0 := by
  refine cx_G_of (by decide) (Nat.le_of_ble_eq_true rfl) ?_
  intro p e s m av below meth c Q E hmn hretV hretI hretR H hw ls hl
  have E : cx_E p m meth c cX9_init 4 s av RX9 g A := E
  have hx := E.1.1
  have hb := E.1.2.1
  have hmn : meth.name = "<init>" := hmn
  have hl : lv_has ls 4 [(0, .ref a), (1, .int x), (2, .int y), (3, .int z0)] := hl
  generalize hlc : ([] : List Loc) = locs at hw ⊢
  clear hlc
  refine lv_aload_n hx hb dX9_init_0 rfl (lv_at hl 0 rfl) ?_
  refine W.objInit hx hb E.1.2.2.2.1 (E.1.2.2.2.2 _ q654) (E.1.2.2.2.2 _ q330) (E.1.2.2.2.2 _ q331) rfl (by rw [E.1.2.2.1]; exact hl.1) rfl dX9_init_1 (Nat.le_of_ble_eq_true rfl) (Nat.le_of_ble_eq_true rfl) ?_
  refine W.eq (g2 := F0 m 4 ls []) rfl ?_
  refine lv_aload_n hx hb dX9_init_4 rfl (lv_at hl 0 rfl) ?_
  refine lv_iload_n hx hb dX9_init_5 rfl (lv_at hl 1 rfl) ?_
  refine opX9_X9_0 0 hmn E hw rfl rfl rfl (Nat.le_of_ble_eq_true rfl) dX9_init_6 (fun H locs hw => ?_)
  have hw : cx_W g A s ((a, .inr (7, [.int x, .int 0, .int 0])) :: X) H locs := hw
  refine lv_aload_n hx hb dX9_init_9 rfl (lv_at hl 0 rfl) ?_
  refine lv_iload_n hx hb dX9_init_10 rfl (lv_at hl 2 rfl) ?_
  refine opX9_X9_1 0 hmn E hw rfl rfl rfl (Nat.le_of_ble_eq_true rfl) dX9_init_11 (fun H locs hw => ?_)
  have hw : cx_W g A s ((a, .inr (7, [.int x, .int y, .int 0])) :: X) H locs := hw
  refine lv_aload_n hx hb dX9_init_14 rfl (lv_at hl 0 rfl) ?_
  refine lv_iload_n hx hb dX9_init_15 rfl (lv_at hl 3 rfl) ?_
  refine opX9_X9_2 0 hmn E hw rfl rfl rfl (Nat.le_of_ble_eq_true rfl) dX9_init_16 (fun H locs hw => ?_)
  have hw : cx_W g A s ((a, .inr (7, [.int x, .int y, .int z0])) :: X) H locs := hw
  have hw : cx_W g A s ((fun _ => (a, .inr (7, [.int x, .int y, .int z0])) :: X) ()) H locs := hw
  exact hretV _ _ _ _ () rfl trivial rfl hw dX9_init_19
theorem kwX1_X9_init {p : Program} {m : MethodId} {meth : Method} {cd : Code} {cc : ByteArray} {nL : Nat} {s : State} {args : Array Value} {g : Gx} {A : Nat → Prop} {R : Room} (E : cx_E p m meth cd cc nL s args RX1 g A) (hR : rmX9_init.frames + 1 ≤ R.frames ∧ 8 + (4 + 11) + rmX9_init.locals ≤ R.locals) : CallB R s args RX1 304 yX9_init cX9_init 4 none (ws_ yX9_init cX9_init 4 none) rmX9_init rmX9_init.cells rmX9_init.slots 3 ∧ yX9_init.name = "<init>" ∧ (Cond.instanceMethod yX9_init).before args s = true := cwI 3 E.1.2.2.2.2 (lw_meth q653) rfl rfl rfl (E.1.2.2.2.2 _ q153) (E.1.2.2.2.2 _ q651) (E.1.2.2.2.2 _ q652) rfl (by decide +kernel) hR
/-! X5_init:  -/
abbrev rmX5_init : Room := { frames := 1, cells := 0, slots := 0, locals := 12 }
set_option maxHeartbeats 4000000 in
set_option maxRecDepth 100000 in
theorem mX5_init (l : Launch) (g : Gx) (A : Nat → Prop) (a : Nat) (f la vi : Value) (X : va_W) :
    cx_G l yX5_init cX5_init 1 none rmX5_init [.ref a] g A ((a, .inr (5, [f, la, vi])) :: X) (ζ := Unit) (fun _ => True) (fun _ => none) (fun _ => (a, .inr (5, [f, la, vi])) :: X) 0 0 := by
  refine cx_G_of (by decide) (Nat.le_of_ble_eq_true rfl) ?_
  intro p e s m av below meth c Q E hmn hretV hretI hretR H hw ls hl
  have E : cx_E p m meth c cX5_init 1 s av RX5 g A := E
  have hx := E.1.1
  have hb := E.1.2.1
  have hmn : meth.name = "<init>" := hmn
  have hl : lv_has ls 1 [(0, .ref a)] := hl
  generalize hlc : ([] : List Loc) = locs at hw ⊢
  clear hlc
  refine lv_aload_n hx hb dX5_init_0 rfl (lv_at hl 0 rfl) ?_
  refine W.objInit hx hb E.1.2.2.2.1 (E.1.2.2.2.2 _ q337) (E.1.2.2.2.2 _ q330) (E.1.2.2.2.2 _ q331) rfl (by rw [E.1.2.2.1]; exact hl.1) rfl dX5_init_1 (Nat.le_of_ble_eq_true rfl) (Nat.le_of_ble_eq_true rfl) ?_
  refine W.eq (g2 := F0 m 4 ls []) rfl ?_
  have hw : cx_W g A s ((fun _ => (a, .inr (5, [f, la, vi])) :: X) ()) H locs := hw
  exact hretV _ _ _ _ () rfl trivial rfl hw dX5_init_4
theorem kwX1_X5_init {p : Program} {m : MethodId} {meth : Method} {cd : Code} {cc : ByteArray} {nL : Nat} {s : State} {args : Array Value} {g : Gx} {A : Nat → Prop} {R : Room} (E : cx_E p m meth cd cc nL s args RX1 g A) (hR : rmX5_init.frames + 1 ≤ R.frames ∧ 8 + (1 + 11) + rmX5_init.locals ≤ R.locals) : va_CN R s args RX1 556 yX5_init "StripeShelf" cX5_init 1 none (ws_ yX5_init cX5_init 1 none) rmX5_init rmX5_init.cells rmX5_init.slots 0 ∧ yX5_init.name = "<init>" ∧ (Cond.instanceMethod yX5_init).before args s = true := ⟨va_cnB 0 E.1.2.2.2.2 (lw_meth q336) rfl rfl rfl (E.2.2.1.2.1 _ (List.mem_filter.mpr ⟨q1073, rfl⟩)) (E.1.2.2.2.2 _ q138) (by decide +kernel) hR, rfl, E.1.2.2.2.2 _ q335⟩
theorem kwX4_X5_init {p : Program} {m : MethodId} {meth : Method} {cd : Code} {cc : ByteArray} {nL : Nat} {s : State} {args : Array Value} {g : Gx} {A : Nat → Prop} {R : Room} (E : cx_E p m meth cd cc nL s args RX4 g A) (hR : rmX5_init.frames + 1 ≤ R.frames ∧ 8 + (1 + 11) + rmX5_init.locals ≤ R.locals) : va_CN R s args RX4 9 yX5_init "StripeShelf" cX5_init 1 none (ws_ yX5_init cX5_init 1 none) rmX5_init rmX5_init.cells rmX5_init.slots 0 ∧ yX5_init.name = "<init>" ∧ (Cond.instanceMethod yX5_init).before args s = true := ⟨va_cnB 0 E.1.2.2.2.2 (lw_meth q336) rfl rfl rfl (E.2.2.1.2.1 _ (List.mem_filter.mpr ⟨q1063, rfl⟩)) (E.1.2.2.2.2 _ q138) (by decide +kernel) hR, rfl, E.1.2.2.2.2 _ q335⟩
theorem kwX7_X5_init {p : Program} {m : MethodId} {meth : Method} {cd : Code} {cc : ByteArray} {nL : Nat} {s : State} {args : Array Value} {g : Gx} {A : Nat → Prop} {R : Room} (E : cx_E p m meth cd cc nL s args RX7 g A) (hR : rmX5_init.frames + 1 ≤ R.frames ∧ 8 + (1 + 11) + rmX5_init.locals ≤ R.locals) : va_CN R s args RX7 42 yX5_init "StripeShelf" cX5_init 1 none (ws_ yX5_init cX5_init 1 none) rmX5_init rmX5_init.cells rmX5_init.slots 0 ∧ yX5_init.name = "<init>" ∧ (Cond.instanceMethod yX5_init).before args s = true := ⟨va_cnB 0 E.1.2.2.2.2 (lw_meth q336) rfl rfl rfl (E.2.2.1.2.1 _ (List.mem_filter.mpr ⟨q334, rfl⟩)) (E.1.2.2.2.2 _ q138) (by decide +kernel) hR, rfl, E.1.2.2.2.2 _ q335⟩
/-! X5_empties:  -/
abbrev rmX5_empties : Room := { frames := 0, cells := 0, slots := 0, locals := 0 }
set_option maxHeartbeats 4000000 in
set_option maxRecDepth 100000 in
theorem mX5_empties (l : Launch) (g : Gx) (A : Nat → Prop) (r : Nat) (f la vi : Value) (X : va_W) :
    cx_G l yX5_empties cX5_empties 1 none rmX5_empties [.ref r] g A ((r, .inr (5, [f, la, vi])) :: X) (ζ := Unit) (fun _ => True) (fun _ => none) (fun _ => (r, .inr (5, [.null, .null, .int (0 : Int32)])) :: X) 0 0 := by
  refine cx_G_of (by decide) (Nat.le_of_ble_eq_true rfl) ?_
  intro p e s m av below meth c Q E hmn hretV hretI hretR H hw ls hl
  have E : cx_E p m meth c cX5_empties 1 s av RX5 g A := E
  have hx := E.1.1
  have hb := E.1.2.1
  have hmn : meth.name = "empties" := hmn
  have hl : lv_has ls 1 [(0, .ref r)] := hl
  generalize hlc : ([] : List Loc) = locs at hw ⊢
  clear hlc
  refine lv_aload_n hx hb dX5_empties_0 rfl (lv_at hl 0 rfl) ?_
  refine lv_null hx hb dX5_empties_1 ?_
  refine opX5_X5_0 0 E hw rfl rfl rfl (Nat.le_of_ble_eq_true rfl) dX5_empties_2 (fun H locs hw => ?_)
  have hw : cx_W g A s ((r, .inr (5, [.null, la, vi])) :: X) H locs := hw
  refine lv_aload_n hx hb dX5_empties_5 rfl (lv_at hl 0 rfl) ?_
  refine lv_null hx hb dX5_empties_6 ?_
  refine opX5_X5_1 0 E hw rfl rfl rfl (Nat.le_of_ble_eq_true rfl) dX5_empties_7 (fun H locs hw => ?_)
  have hw : cx_W g A s ((r, .inr (5, [.null, .null, vi])) :: X) H locs := hw
  refine lv_aload_n hx hb dX5_empties_10 rfl (lv_at hl 0 rfl) ?_
  refine lv_iconst (v := (0 : Int32)) hx hb dX5_empties_11 (by decide) ?_
  refine opX5_X5_2 0 E hw rfl rfl rfl (Nat.le_of_ble_eq_true rfl) dX5_empties_12 (fun H locs hw => ?_)
  have hw : cx_W g A s ((r, .inr (5, [.null, .null, .int (0 : Int32)])) :: X) H locs := hw
  have hw : cx_W g A s ((fun _ => (r, .inr (5, [.null, .null, .int (0 : Int32)])) :: X) ()) H locs := hw
  exact hretV _ _ _ _ () rfl trivial rfl hw dX5_empties_15
theorem kwX1_X5_empties {p : Program} {m : MethodId} {meth : Method} {cd : Code} {cc : ByteArray} {nL : Nat} {s : State} {args : Array Value} {g : Gx} {A : Nat → Prop} {R : Room} (E : cx_E p m meth cd cc nL s args RX1 g A) (hR : rmX5_empties.frames + 1 ≤ R.frames ∧ 8 + (1 + 11) + rmX5_empties.locals ≤ R.locals) : CallW R s args RX1 yX5_empties.cls 220 yX5_empties cX5_empties 1 none (ws_ yX5_empties cX5_empties 1 none) rmX5_empties rmX5_empties.cells rmX5_empties.slots 0 := cwV 0 E.1.2.2.2.2 (lw_V q476 q477 q478 q138 q479) rfl rfl rfl (by decide +kernel) hR
theorem kwX7_X5_empties {p : Program} {m : MethodId} {meth : Method} {cd : Code} {cc : ByteArray} {nL : Nat} {s : State} {args : Array Value} {g : Gx} {A : Nat → Prop} {R : Room} (E : cx_E p m meth cd cc nL s args RX7 g A) (hR : rmX5_empties.frames + 1 ≤ R.frames ∧ 8 + (1 + 11) + rmX5_empties.locals ≤ R.locals) : CallW R s args RX7 yX5_empties.cls 73 yX5_empties cX5_empties 1 none (ws_ yX5_empties cX5_empties 1 none) rmX5_empties rmX5_empties.cells rmX5_empties.slots 0 := cwV 0 E.1.2.2.2.2 (lw_V q565 q477 q478 q138 q479) rfl rfl rfl (by decide +kernel) hR
/-! X5_adds_0:  -/
abbrev rmX5_adds_0 : Room := { frames := 2, cells := 1, slots := 3, locals := 33 }
set_option maxHeartbeats 4000000 in
set_option maxRecDepth 100000 in
theorem mX5_adds_0 (l : Launch) (g : Gx) (A : Nat → Prop) (r i : Nat) (n : Int32) (X : va_W) :
    cx_G l yX5_adds cX5_adds 3 none rmX5_adds_0 [.ref r, .ref i] g A ((r, .inr (5, [.null, .null, .int n])) :: X) (ζ := Nat) (fun _ => True) (fun _ => none) (fun q => (r, .inr (5, [.ref q, .ref q, .int (n + (1 : Int32))])) :: (q, .inr (6, [.ref i, .null, .null])) :: X) 1 3 := by
  refine cx_G_of (by decide) (Nat.le_of_ble_eq_true rfl) ?_
  intro p e s m av below meth c Q E hmn hretV hretI hretR H hw ls hl
  have E : cx_E p m meth c cX5_adds 3 s av RX5 g A := E
  have hx := E.1.1
  have hb := E.1.2.1
  have hmn : meth.name = "adds" := hmn
  have hl : lv_has ls 3 [(0, .ref r), (1, .ref i)] := hl
  generalize hlc : ([] : List Loc) = locs at hw ⊢
  clear hlc
  refine onX5_X8 E hw (Nat.le_of_ble_eq_true rfl) (Nat.le_of_ble_eq_true rfl) dX5_adds_0 (fun q_1 H hw => ?_)
  have hw : cx_W g A s ((q_1, .inr (6, [.null, .null, .null])) :: (r, .inr (5, [.null, .null, .int n])) :: X) H locs := hw
  refine lv_dup hx hb dX5_adds_3 rfl ?_
  refine lv_aload_n hx hb dX5_adds_4 rfl (lv_at hl 1 rfl) ?_
  refine cx_cGI (As := [.ref i]) (rest := [.ref q_1]) E (mX8_init l g A q_1 i _) (kwX5_X8_init E ⟨Nat.le_of_ble_eq_true rfl, Nat.le_of_ble_eq_true rfl⟩) hw rfl hl.1 rfl (Nat.le_of_ble_eq_true rfl) dX5_adds_5 ⟨Nat.le_of_ble_eq_true rfl, Nat.le_of_ble_eq_true rfl⟩ (fun _ H locs _ hw => ?_)
  have hw : cx_W g A s ((q_1, .inr (6, [.ref i, .null, .null])) :: (r, .inr (5, [.null, .null, .int n])) :: X) H locs := hw
  refine lv_astore_n hx hb dX5_adds_8 rfl hl (by decide) rfl (fun ls hl => ?_)
  have hl : lv_has ls 3 [(2, .ref q_1), (0, .ref r), (1, .ref i)] := hl
  refine lv_aload_n hx hb dX5_adds_9 rfl (lv_at hl 0 rfl) ?_
  refine lv_aload_n hx hb dX5_adds_10 rfl (lv_at hl 1 rfl) ?_
  refine ogX5_X5_1 1 E hw rfl rfl dX5_adds_11 ?_
  refine opX5_X8_1 0 E hw rfl rfl rfl (Nat.le_of_ble_eq_true rfl) dX5_adds_14 (fun H locs hw => ?_)
  have hw : cx_W g A s ((q_1, .inr (6, [.ref i, .null, .null])) :: (r, .inr (5, [.null, .null, .int n])) :: X) H locs := hw
  refine lv_aload_n hx hb dX5_adds_17 rfl (lv_at hl 1 rfl) ?_
  refine ogX5_X5_1 1 E hw rfl rfl dX5_adds_18 ?_
  refine lv_ifnonnullN hx hb dX5_adds_21 ?_
  refine lv_aload_n hx hb dX5_adds_24 rfl (lv_at hl 1 rfl) ?_
  refine lv_aload_n hx hb dX5_adds_25 rfl (lv_at hl 0 rfl) ?_
  refine opX5_X5_0 1 E hw rfl rfl rfl (Nat.le_of_ble_eq_true rfl) dX5_adds_26 (fun H locs hw => ?_)
  have hw : cx_W g A s ((q_1, .inr (6, [.ref i, .null, .null])) :: (r, .inr (5, [.ref q_1, .null, .int n])) :: X) H locs := hw
  refine lv_goto (tgt := 40) hx hb dX5_adds_29 (by decide) ?_
  refine lv_aload_n hx hb dX5_adds_40 rfl (lv_at hl 1 rfl) ?_
  refine lv_aload_n hx hb dX5_adds_41 rfl (lv_at hl 0 rfl) ?_
  refine opX5_X5_1 1 E hw rfl rfl rfl (Nat.le_of_ble_eq_true rfl) dX5_adds_42 (fun H locs hw => ?_)
  have hw : cx_W g A s ((q_1, .inr (6, [.ref i, .null, .null])) :: (r, .inr (5, [.ref q_1, .ref q_1, .int n])) :: X) H locs := hw
  refine lv_aload_n hx hb dX5_adds_45 rfl (lv_at hl 1 rfl) ?_
  refine lv_dup hx hb dX5_adds_46 rfl ?_
  refine ogX5_X5_2 1 E hw rfl rfl dX5_adds_47 ?_
  refine lv_iconst (v := (1 : Int32)) hx hb dX5_adds_50 (by decide) ?_
  refine lv_iadd hx hb dX5_adds_51 ?_
  refine opX5_X5_2 1 E hw rfl rfl rfl (Nat.le_of_ble_eq_true rfl) dX5_adds_52 (fun H locs hw => ?_)
  have hw : cx_W g A s ((q_1, .inr (6, [.ref i, .null, .null])) :: (r, .inr (5, [.ref q_1, .ref q_1, .int (n + (1 : Int32))])) :: X) H locs := hw
  have hw := cx_W.perm hw (List.Perm.swap _ _ _)
  have hw : cx_W g A s ((r, .inr (5, [.ref q_1, .ref q_1, .int (n + (1 : Int32))])) :: (q_1, .inr (6, [.ref i, .null, .null])) :: X) H locs := hw
  have hw : cx_W g A s ((fun q => (r, .inr (5, [.ref q, .ref q, .int (n + (1 : Int32))])) :: (q, .inr (6, [.ref i, .null, .null])) :: X) q_1) H locs := hw
  exact hretV _ _ _ _ q_1 rfl trivial rfl hw dX5_adds_55
/-! X5_adds_1:  -/
set_option maxHeartbeats 4000000 in
set_option maxRecDepth 100000 in
theorem mX5_adds_1 (l : Launch) (g : Gx) (A : Nat → Prop) (r a i : Nat) (f vi pa nb : Value) (n : Int32) (X : va_W) :
    cx_G l yX5_adds cX5_adds 3 none rmX5_adds_0 [.ref r, .ref i] g A ((r, .inr (5, [f, .ref a, .int n])) :: (a, .inr (6, [vi, pa, nb])) :: X) (ζ := Nat) (fun _ => True) (fun _ => none) (fun q => (r, .inr (5, [f, .ref q, .int (n + (1 : Int32))])) :: (a, .inr (6, [vi, pa, .ref q])) :: (q, .inr (6, [.ref i, .ref a, .null])) :: X) 1 3 := by
  refine cx_G_of (by decide) (Nat.le_of_ble_eq_true rfl) ?_
  intro p e s m av below meth c Q E hmn hretV hretI hretR H hw ls hl
  have E : cx_E p m meth c cX5_adds 3 s av RX5 g A := E
  have hx := E.1.1
  have hb := E.1.2.1
  have hmn : meth.name = "adds" := hmn
  have hl : lv_has ls 3 [(0, .ref r), (1, .ref i)] := hl
  generalize hlc : ([] : List Loc) = locs at hw ⊢
  clear hlc
  refine onX5_X8 E hw (Nat.le_of_ble_eq_true rfl) (Nat.le_of_ble_eq_true rfl) dX5_adds_0 (fun q_1 H hw => ?_)
  have hw : cx_W g A s ((q_1, .inr (6, [.null, .null, .null])) :: (r, .inr (5, [f, .ref a, .int n])) :: (a, .inr (6, [vi, pa, nb])) :: X) H locs := hw
  refine lv_dup hx hb dX5_adds_3 rfl ?_
  refine lv_aload_n hx hb dX5_adds_4 rfl (lv_at hl 1 rfl) ?_
  refine cx_cGI (As := [.ref i]) (rest := [.ref q_1]) E (mX8_init l g A q_1 i _) (kwX5_X8_init E ⟨Nat.le_of_ble_eq_true rfl, Nat.le_of_ble_eq_true rfl⟩) hw rfl hl.1 rfl (Nat.le_of_ble_eq_true rfl) dX5_adds_5 ⟨Nat.le_of_ble_eq_true rfl, Nat.le_of_ble_eq_true rfl⟩ (fun _ H locs _ hw => ?_)
  have hw : cx_W g A s ((q_1, .inr (6, [.ref i, .null, .null])) :: (r, .inr (5, [f, .ref a, .int n])) :: (a, .inr (6, [vi, pa, nb])) :: X) H locs := hw
  refine lv_astore_n hx hb dX5_adds_8 rfl hl (by decide) rfl (fun ls hl => ?_)
  have hl : lv_has ls 3 [(2, .ref q_1), (0, .ref r), (1, .ref i)] := hl
  refine lv_aload_n hx hb dX5_adds_9 rfl (lv_at hl 0 rfl) ?_
  refine lv_aload_n hx hb dX5_adds_10 rfl (lv_at hl 1 rfl) ?_
  refine ogX5_X5_1 1 E hw rfl rfl dX5_adds_11 ?_
  refine opX5_X8_1 0 E hw rfl rfl rfl (Nat.le_of_ble_eq_true rfl) dX5_adds_14 (fun H locs hw => ?_)
  have hw : cx_W g A s ((q_1, .inr (6, [.ref i, .ref a, .null])) :: (r, .inr (5, [f, .ref a, .int n])) :: (a, .inr (6, [vi, pa, nb])) :: X) H locs := hw
  refine lv_aload_n hx hb dX5_adds_17 rfl (lv_at hl 1 rfl) ?_
  refine ogX5_X5_1 1 E hw rfl rfl dX5_adds_18 ?_
  refine lv_ifnonnull (tgt := 32) hx hb dX5_adds_21 (by decide) ?_
  refine lv_aload_n hx hb dX5_adds_32 rfl (lv_at hl 1 rfl) ?_
  refine ogX5_X5_1 1 E hw rfl rfl dX5_adds_33 ?_
  refine lv_aload_n hx hb dX5_adds_36 rfl (lv_at hl 0 rfl) ?_
  refine opX5_X8_2 2 E hw rfl rfl rfl (Nat.le_of_ble_eq_true rfl) dX5_adds_37 (fun H locs hw => ?_)
  have hw : cx_W g A s ((q_1, .inr (6, [.ref i, .ref a, .null])) :: (r, .inr (5, [f, .ref a, .int n])) :: (a, .inr (6, [vi, pa, .ref q_1])) :: X) H locs := hw
  refine lv_aload_n hx hb dX5_adds_40 rfl (lv_at hl 1 rfl) ?_
  refine lv_aload_n hx hb dX5_adds_41 rfl (lv_at hl 0 rfl) ?_
  refine opX5_X5_1 1 E hw rfl rfl rfl (Nat.le_of_ble_eq_true rfl) dX5_adds_42 (fun H locs hw => ?_)
  have hw : cx_W g A s ((q_1, .inr (6, [.ref i, .ref a, .null])) :: (r, .inr (5, [f, .ref q_1, .int n])) :: (a, .inr (6, [vi, pa, .ref q_1])) :: X) H locs := hw
  refine lv_aload_n hx hb dX5_adds_45 rfl (lv_at hl 1 rfl) ?_
  refine lv_dup hx hb dX5_adds_46 rfl ?_
  refine ogX5_X5_2 1 E hw rfl rfl dX5_adds_47 ?_
  refine lv_iconst (v := (1 : Int32)) hx hb dX5_adds_50 (by decide) ?_
  refine lv_iadd hx hb dX5_adds_51 ?_
  refine opX5_X5_2 1 E hw rfl rfl rfl (Nat.le_of_ble_eq_true rfl) dX5_adds_52 (fun H locs hw => ?_)
  have hw : cx_W g A s ((q_1, .inr (6, [.ref i, .ref a, .null])) :: (r, .inr (5, [f, .ref q_1, .int (n + (1 : Int32))])) :: (a, .inr (6, [vi, pa, .ref q_1])) :: X) H locs := hw
  have hw := cx_W.perm hw (List.Perm.trans (List.Perm.swap _ _ _) (List.Perm.cons _ (List.Perm.swap _ _ _)))
  have hw : cx_W g A s ((r, .inr (5, [f, .ref q_1, .int (n + (1 : Int32))])) :: (a, .inr (6, [vi, pa, .ref q_1])) :: (q_1, .inr (6, [.ref i, .ref a, .null])) :: X) H locs := hw
  have hw : cx_W g A s ((fun q => (r, .inr (5, [f, .ref q, .int (n + (1 : Int32))])) :: (a, .inr (6, [vi, pa, .ref q])) :: (q, .inr (6, [.ref i, .ref a, .null])) :: X) q_1) H locs := hw
  exact hretV _ _ _ _ q_1 rfl trivial rfl hw dX5_adds_55
/-! X5_takesLast_1:  -/
abbrev rmX5_takesLast_1 : Room := { frames := 0, cells := 0, slots := 0, locals := 0 }
set_option maxHeartbeats 4000000 in
set_option maxRecDepth 100000 in
theorem mX5_takesLast_1 (l : Launch) (g : Gx) (A : Nat → Prop) (r a i : Nat) (f nb : Value) (n : Int32) (X : va_W) :
    cx_G l yX5_takesLast cX5_takesLast 2 (some (.object "java/lang/Object")) rmX5_takesLast_1 [.ref r] g A ((r, .inr (5, [f, .ref a, .int n])) :: (a, .inr (6, [.ref i, .null, nb])) :: X) (ζ := Unit) (fun _ => True) (fun _ => some (.ref i)) (fun _ => (r, .inr (5, [.null, .null, .int (n - (1 : Int32))])) :: (a, .inr (6, [.ref i, .null, nb])) :: X) 0 0 := by
  refine cx_G_of (by decide) (Nat.le_of_ble_eq_true rfl) ?_
  intro p e s m av below meth c Q E hmn hretV hretI hretR H hw ls hl
  have E : cx_E p m meth c cX5_takesLast 2 s av RX5 g A := E
  have hx := E.1.1
  have hb := E.1.2.1
  have hmn : meth.name = "takesLast" := hmn
  have hl : lv_has ls 2 [(0, .ref r)] := hl
  generalize hlc : ([] : List Loc) = locs at hw ⊢
  clear hlc
  refine lv_aload_n hx hb dX5_takesLast_0 rfl (lv_at hl 0 rfl) ?_
  refine ogX5_X5_1 0 E hw rfl rfl dX5_takesLast_1 ?_
  refine lv_astore_n hx hb dX5_takesLast_4 rfl hl (by decide) rfl (fun ls hl => ?_)
  have hl : lv_has ls 2 [(1, .ref a), (0, .ref r)] := hl
  refine lv_aload_n hx hb dX5_takesLast_5 rfl (lv_at hl 1 rfl) ?_
  refine lv_aload_n hx hb dX5_takesLast_6 rfl (lv_at hl 0 rfl) ?_
  refine ogX5_X8_1 1 E hw rfl rfl dX5_takesLast_7 ?_
  refine opX5_X5_1 0 E hw rfl rfl rfl (Nat.le_of_ble_eq_true rfl) dX5_takesLast_10 (fun H locs hw => ?_)
  have hw : cx_W g A s ((r, .inr (5, [f, .null, .int n])) :: (a, .inr (6, [.ref i, .null, nb])) :: X) H locs := hw
  refine lv_aload_n hx hb dX5_takesLast_13 rfl (lv_at hl 1 rfl) ?_
  refine ogX5_X5_1 0 E hw rfl rfl dX5_takesLast_14 ?_
  refine lv_ifnonnullN hx hb dX5_takesLast_17 ?_
  refine lv_aload_n hx hb dX5_takesLast_20 rfl (lv_at hl 1 rfl) ?_
  refine lv_null hx hb dX5_takesLast_21 ?_
  refine opX5_X5_0 0 E hw rfl rfl rfl (Nat.le_of_ble_eq_true rfl) dX5_takesLast_22 (fun H locs hw => ?_)
  have hw : cx_W g A s ((r, .inr (5, [.null, .null, .int n])) :: (a, .inr (6, [.ref i, .null, nb])) :: X) H locs := hw
  refine lv_goto (tgt := 36) hx hb dX5_takesLast_25 (by decide) ?_
  refine lv_aload_n hx hb dX5_takesLast_36 rfl (lv_at hl 1 rfl) ?_
  refine lv_dup hx hb dX5_takesLast_37 rfl ?_
  refine ogX5_X5_2 0 E hw rfl rfl dX5_takesLast_38 ?_
  refine lv_iconst (v := (1 : Int32)) hx hb dX5_takesLast_41 (by decide) ?_
  refine lv_isub hx hb dX5_takesLast_42 ?_
  refine opX5_X5_2 0 E hw rfl rfl rfl (Nat.le_of_ble_eq_true rfl) dX5_takesLast_43 (fun H locs hw => ?_)
  have hw : cx_W g A s ((r, .inr (5, [.null, .null, .int (n - (1 : Int32))])) :: (a, .inr (6, [.ref i, .null, nb])) :: X) H locs := hw
  refine lv_aload_n hx hb dX5_takesLast_46 rfl (lv_at hl 0 rfl) ?_
  refine ogX5_X8_0 1 E hw rfl rfl dX5_takesLast_47 ?_
  have hw : cx_W g A s ((fun _ => (r, .inr (5, [.null, .null, .int (n - (1 : Int32))])) :: (a, .inr (6, [.ref i, .null, nb])) :: X) ()) H locs := hw
  exact hretR _ _ _ _ () _ _ rfl trivial rfl hw dX5_takesLast_50
/-! X5_takesLast_2:  -/
set_option maxHeartbeats 4000000 in
set_option maxRecDepth 100000 in
theorem mX5_takesLast_2 (l : Launch) (g : Gx) (A : Nat → Prop) (r a b i : Nat) (f nb vj pb nc : Value) (n : Int32) (X : va_W) :
    cx_G l yX5_takesLast cX5_takesLast 2 (some (.object "java/lang/Object")) rmX5_takesLast_1 [.ref r] g A ((r, .inr (5, [f, .ref a, .int n])) :: (a, .inr (6, [.ref i, .ref b, nb])) :: (b, .inr (6, [vj, pb, nc])) :: X) (ζ := Unit) (fun _ => True) (fun _ => some (.ref i)) (fun _ => (r, .inr (5, [f, .ref b, .int (n - (1 : Int32))])) :: (a, .inr (6, [.ref i, .ref b, nb])) :: (b, .inr (6, [vj, pb, .null])) :: X) 0 0 := by
  refine cx_G_of (by decide) (Nat.le_of_ble_eq_true rfl) ?_
  intro p e s m av below meth c Q E hmn hretV hretI hretR H hw ls hl
  have E : cx_E p m meth c cX5_takesLast 2 s av RX5 g A := E
  have hx := E.1.1
  have hb := E.1.2.1
  have hmn : meth.name = "takesLast" := hmn
  have hl : lv_has ls 2 [(0, .ref r)] := hl
  generalize hlc : ([] : List Loc) = locs at hw ⊢
  clear hlc
  refine lv_aload_n hx hb dX5_takesLast_0 rfl (lv_at hl 0 rfl) ?_
  refine ogX5_X5_1 0 E hw rfl rfl dX5_takesLast_1 ?_
  refine lv_astore_n hx hb dX5_takesLast_4 rfl hl (by decide) rfl (fun ls hl => ?_)
  have hl : lv_has ls 2 [(1, .ref a), (0, .ref r)] := hl
  refine lv_aload_n hx hb dX5_takesLast_5 rfl (lv_at hl 1 rfl) ?_
  refine lv_aload_n hx hb dX5_takesLast_6 rfl (lv_at hl 0 rfl) ?_
  refine ogX5_X8_1 1 E hw rfl rfl dX5_takesLast_7 ?_
  refine opX5_X5_1 0 E hw rfl rfl rfl (Nat.le_of_ble_eq_true rfl) dX5_takesLast_10 (fun H locs hw => ?_)
  have hw : cx_W g A s ((r, .inr (5, [f, .ref b, .int n])) :: (a, .inr (6, [.ref i, .ref b, nb])) :: (b, .inr (6, [vj, pb, nc])) :: X) H locs := hw
  refine lv_aload_n hx hb dX5_takesLast_13 rfl (lv_at hl 1 rfl) ?_
  refine ogX5_X5_1 0 E hw rfl rfl dX5_takesLast_14 ?_
  refine lv_ifnonnull (tgt := 28) hx hb dX5_takesLast_17 (by decide) ?_
  refine lv_aload_n hx hb dX5_takesLast_28 rfl (lv_at hl 1 rfl) ?_
  refine ogX5_X5_1 0 E hw rfl rfl dX5_takesLast_29 ?_
  refine lv_null hx hb dX5_takesLast_32 ?_
  refine opX5_X8_2 2 E hw rfl rfl rfl (Nat.le_of_ble_eq_true rfl) dX5_takesLast_33 (fun H locs hw => ?_)
  have hw : cx_W g A s ((r, .inr (5, [f, .ref b, .int n])) :: (a, .inr (6, [.ref i, .ref b, nb])) :: (b, .inr (6, [vj, pb, .null])) :: X) H locs := hw
  refine lv_aload_n hx hb dX5_takesLast_36 rfl (lv_at hl 1 rfl) ?_
  refine lv_dup hx hb dX5_takesLast_37 rfl ?_
  refine ogX5_X5_2 0 E hw rfl rfl dX5_takesLast_38 ?_
  refine lv_iconst (v := (1 : Int32)) hx hb dX5_takesLast_41 (by decide) ?_
  refine lv_isub hx hb dX5_takesLast_42 ?_
  refine opX5_X5_2 0 E hw rfl rfl rfl (Nat.le_of_ble_eq_true rfl) dX5_takesLast_43 (fun H locs hw => ?_)
  have hw : cx_W g A s ((r, .inr (5, [f, .ref b, .int (n - (1 : Int32))])) :: (a, .inr (6, [.ref i, .ref b, nb])) :: (b, .inr (6, [vj, pb, .null])) :: X) H locs := hw
  refine lv_aload_n hx hb dX5_takesLast_46 rfl (lv_at hl 0 rfl) ?_
  refine ogX5_X8_0 1 E hw rfl rfl dX5_takesLast_47 ?_
  have hw : cx_W g A s ((fun _ => (r, .inr (5, [f, .ref b, .int (n - (1 : Int32))])) :: (a, .inr (6, [.ref i, .ref b, nb])) :: (b, .inr (6, [vj, pb, .null])) :: X) ()) H locs := hw
  exact hretR _ _ _ _ () _ _ rfl trivial rfl hw dX5_takesLast_50
/-! X5_dropsFirst_1:  -/
abbrev rmX5_dropsFirst_1 : Room := { frames := 0, cells := 0, slots := 0, locals := 0 }
set_option maxHeartbeats 4000000 in
set_option maxRecDepth 100000 in
theorem mX5_dropsFirst_1 (l : Launch) (g : Gx) (A : Nat → Prop) (r a : Nat) (la vi pa : Value) (n : Int32) (X : va_W) :
    cx_G l yX5_dropsFirst cX5_dropsFirst 1 none rmX5_dropsFirst_1 [.ref r] g A ((r, .inr (5, [.ref a, la, .int n])) :: (a, .inr (6, [vi, pa, .null])) :: X) (ζ := Unit) (fun _ => True) (fun _ => none) (fun _ => (r, .inr (5, [.null, .null, .int (n - (1 : Int32))])) :: (a, .inr (6, [vi, pa, .null])) :: X) 0 0 := by
  refine cx_G_of (by decide) (Nat.le_of_ble_eq_true rfl) ?_
  intro p e s m av below meth c Q E hmn hretV hretI hretR H hw ls hl
  have E : cx_E p m meth c cX5_dropsFirst 1 s av RX5 g A := E
  have hx := E.1.1
  have hb := E.1.2.1
  have hmn : meth.name = "dropsFirst" := hmn
  have hl : lv_has ls 1 [(0, .ref r)] := hl
  generalize hlc : ([] : List Loc) = locs at hw ⊢
  clear hlc
  refine lv_aload_n hx hb dX5_dropsFirst_0 rfl (lv_at hl 0 rfl) ?_
  refine lv_aload_n hx hb dX5_dropsFirst_1 rfl (lv_at hl 0 rfl) ?_
  refine ogX5_X5_0 0 E hw rfl rfl dX5_dropsFirst_2 ?_
  refine ogX5_X8_2 1 E hw rfl rfl dX5_dropsFirst_5 ?_
  refine opX5_X5_0 0 E hw rfl rfl rfl (Nat.le_of_ble_eq_true rfl) dX5_dropsFirst_8 (fun H locs hw => ?_)
  have hw : cx_W g A s ((r, .inr (5, [.null, la, .int n])) :: (a, .inr (6, [vi, pa, .null])) :: X) H locs := hw
  refine lv_aload_n hx hb dX5_dropsFirst_11 rfl (lv_at hl 0 rfl) ?_
  refine ogX5_X5_0 0 E hw rfl rfl dX5_dropsFirst_12 ?_
  refine lv_ifnonnullN hx hb dX5_dropsFirst_15 ?_
  refine lv_aload_n hx hb dX5_dropsFirst_18 rfl (lv_at hl 0 rfl) ?_
  refine lv_null hx hb dX5_dropsFirst_19 ?_
  refine opX5_X5_1 0 E hw rfl rfl rfl (Nat.le_of_ble_eq_true rfl) dX5_dropsFirst_20 (fun H locs hw => ?_)
  have hw : cx_W g A s ((r, .inr (5, [.null, .null, .int n])) :: (a, .inr (6, [vi, pa, .null])) :: X) H locs := hw
  refine lv_goto (tgt := 34) hx hb dX5_dropsFirst_23 (by decide) ?_
  refine lv_aload_n hx hb dX5_dropsFirst_34 rfl (lv_at hl 0 rfl) ?_
  refine lv_dup hx hb dX5_dropsFirst_35 rfl ?_
  refine ogX5_X5_2 0 E hw rfl rfl dX5_dropsFirst_36 ?_
  refine lv_iconst (v := (1 : Int32)) hx hb dX5_dropsFirst_39 (by decide) ?_
  refine lv_isub hx hb dX5_dropsFirst_40 ?_
  refine opX5_X5_2 0 E hw rfl rfl rfl (Nat.le_of_ble_eq_true rfl) dX5_dropsFirst_41 (fun H locs hw => ?_)
  have hw : cx_W g A s ((r, .inr (5, [.null, .null, .int (n - (1 : Int32))])) :: (a, .inr (6, [vi, pa, .null])) :: X) H locs := hw
  have hw : cx_W g A s ((fun _ => (r, .inr (5, [.null, .null, .int (n - (1 : Int32))])) :: (a, .inr (6, [vi, pa, .null])) :: X) ()) H locs := hw
  exact hretV _ _ _ _ () rfl trivial rfl hw dX5_dropsFirst_44
/-! X5_dropsFirst_2:  -/
set_option maxHeartbeats 4000000 in
set_option maxRecDepth 100000 in
theorem mX5_dropsFirst_2 (l : Launch) (g : Gx) (A : Nat → Prop) (r a b : Nat) (la vi pa vj pb nc : Value) (n : Int32) (X : va_W) :
    cx_G l yX5_dropsFirst cX5_dropsFirst 1 none rmX5_dropsFirst_1 [.ref r] g A ((r, .inr (5, [.ref a, la, .int n])) :: (a, .inr (6, [vi, pa, .ref b])) :: (b, .inr (6, [vj, pb, nc])) :: X) (ζ := Unit) (fun _ => True) (fun _ => none) (fun _ => (r, .inr (5, [.ref b, la, .int (n - (1 : Int32))])) :: (a, .inr (6, [vi, pa, .ref b])) :: (b, .inr (6, [vj, .null, nc])) :: X) 0 0 := by
  refine cx_G_of (by decide) (Nat.le_of_ble_eq_true rfl) ?_
  intro p e s m av below meth c Q E hmn hretV hretI hretR H hw ls hl
  have E : cx_E p m meth c cX5_dropsFirst 1 s av RX5 g A := E
  have hx := E.1.1
  have hb := E.1.2.1
  have hmn : meth.name = "dropsFirst" := hmn
  have hl : lv_has ls 1 [(0, .ref r)] := hl
  generalize hlc : ([] : List Loc) = locs at hw ⊢
  clear hlc
  refine lv_aload_n hx hb dX5_dropsFirst_0 rfl (lv_at hl 0 rfl) ?_
  refine lv_aload_n hx hb dX5_dropsFirst_1 rfl (lv_at hl 0 rfl) ?_
  refine ogX5_X5_0 0 E hw rfl rfl dX5_dropsFirst_2 ?_
  refine ogX5_X8_2 1 E hw rfl rfl dX5_dropsFirst_5 ?_
  refine opX5_X5_0 0 E hw rfl rfl rfl (Nat.le_of_ble_eq_true rfl) dX5_dropsFirst_8 (fun H locs hw => ?_)
  have hw : cx_W g A s ((r, .inr (5, [.ref b, la, .int n])) :: (a, .inr (6, [vi, pa, .ref b])) :: (b, .inr (6, [vj, pb, nc])) :: X) H locs := hw
  refine lv_aload_n hx hb dX5_dropsFirst_11 rfl (lv_at hl 0 rfl) ?_
  refine ogX5_X5_0 0 E hw rfl rfl dX5_dropsFirst_12 ?_
  refine lv_ifnonnull (tgt := 26) hx hb dX5_dropsFirst_15 (by decide) ?_
  refine lv_aload_n hx hb dX5_dropsFirst_26 rfl (lv_at hl 0 rfl) ?_
  refine ogX5_X5_0 0 E hw rfl rfl dX5_dropsFirst_27 ?_
  refine lv_null hx hb dX5_dropsFirst_30 ?_
  refine opX5_X8_1 2 E hw rfl rfl rfl (Nat.le_of_ble_eq_true rfl) dX5_dropsFirst_31 (fun H locs hw => ?_)
  have hw : cx_W g A s ((r, .inr (5, [.ref b, la, .int n])) :: (a, .inr (6, [vi, pa, .ref b])) :: (b, .inr (6, [vj, .null, nc])) :: X) H locs := hw
  refine lv_aload_n hx hb dX5_dropsFirst_34 rfl (lv_at hl 0 rfl) ?_
  refine lv_dup hx hb dX5_dropsFirst_35 rfl ?_
  refine ogX5_X5_2 0 E hw rfl rfl dX5_dropsFirst_36 ?_
  refine lv_iconst (v := (1 : Int32)) hx hb dX5_dropsFirst_39 (by decide) ?_
  refine lv_isub hx hb dX5_dropsFirst_40 ?_
  refine opX5_X5_2 0 E hw rfl rfl rfl (Nat.le_of_ble_eq_true rfl) dX5_dropsFirst_41 (fun H locs hw => ?_)
  have hw : cx_W g A s ((r, .inr (5, [.ref b, la, .int (n - (1 : Int32))])) :: (a, .inr (6, [vi, pa, .ref b])) :: (b, .inr (6, [vj, .null, nc])) :: X) H locs := hw
  have hw : cx_W g A s ((fun _ => (r, .inr (5, [.ref b, la, .int (n - (1 : Int32))])) :: (a, .inr (6, [vi, pa, .ref b])) :: (b, .inr (6, [vj, .null, nc])) :: X) ()) H locs := hw
  exact hretV _ _ _ _ () rfl trivial rfl hw dX5_dropsFirst_44
/-! X9_compareTo_2:  -/
abbrev rmX9_compareTo_2 : Room := { frames := 0, cells := 0, slots := 0, locals := 0 }
set_option maxHeartbeats 4000000 in
set_option maxRecDepth 100000 in
theorem mX9_compareTo_2 (l : Launch) (g : Gx) (A : Nat → Prop) (a b : Nat) (vi vj : Value) (x y u w : Int32) (X : va_W) :
    cx_G l yX9_compareTo_2 cX9_compareTo_2 2 (some .int) rmX9_compareTo_2 [.ref a, .ref b] g A ((a, .inr (7, [vi, .int x, .int y])) :: (b, .inr (7, [vj, .int u, .int w])) :: X) (ζ := Unit) (fun _ => True) (fun _ => some (.int (((x + y) - u) - w))) (fun _ => (a, .inr (7, [vi, .int x, .int y])) :: (b, .inr (7, [vj, .int u, .int w])) :: X) 0 0 := by
  refine cx_G_of (by decide) (Nat.le_of_ble_eq_true rfl) ?_
  intro p e s m av below meth c Q E hmn hretV hretI hretR H hw ls hl
  have E : cx_E p m meth c cX9_compareTo_2 2 s av RX9 g A := E
  have hx := E.1.1
  have hb := E.1.2.1
  have hmn : meth.name = "compareTo" := hmn
  have hl : lv_has ls 2 [(0, .ref a), (1, .ref b)] := hl
  generalize hlc : ([] : List Loc) = locs at hw ⊢
  clear hlc
  refine lv_aload_n hx hb dX9_compareTo_2_0 rfl (lv_at hl 0 rfl) ?_
  refine ogX9_X9_1 0 E hw rfl rfl dX9_compareTo_2_1 ?_
  refine lv_aload_n hx hb dX9_compareTo_2_4 rfl (lv_at hl 0 rfl) ?_
  refine ogX9_X9_2 0 E hw rfl rfl dX9_compareTo_2_5 ?_
  refine lv_iadd hx hb dX9_compareTo_2_8 ?_
  refine lv_aload_n hx hb dX9_compareTo_2_9 rfl (lv_at hl 1 rfl) ?_
  refine ogX9_X9_1 1 E hw rfl rfl dX9_compareTo_2_10 ?_
  refine lv_isub hx hb dX9_compareTo_2_13 ?_
  refine lv_aload_n hx hb dX9_compareTo_2_14 rfl (lv_at hl 1 rfl) ?_
  refine ogX9_X9_2 1 E hw rfl rfl dX9_compareTo_2_15 ?_
  refine lv_isub hx hb dX9_compareTo_2_18 ?_
  have hw : cx_W g A s ((fun _ => (a, .inr (7, [vi, .int x, .int y])) :: (b, .inr (7, [vj, .int u, .int w])) :: X) ()) H locs := hw
  exact hretI _ _ _ _ () _ _ rfl rfl trivial rfl hw dX9_compareTo_2_19
theorem kwX9_X9_compareTo_2 {p : Program} {m : MethodId} {meth : Method} {cd : Code} {cc : ByteArray} {nL : Nat} {s : State} {args : Array Value} {g : Gx} {A : Nat → Prop} {R : Room} (E : cx_E p m meth cd cc nL s args RX9 g A) (hR : rmX9_compareTo_2.frames + 1 ≤ R.frames ∧ 8 + (2 + 11) + rmX9_compareTo_2.locals ≤ R.locals) : CallW R s args RX9 yX9_compareTo_2.cls 19 yX9_compareTo_2 cX9_compareTo_2 2 (some .int) (ws_ yX9_compareTo_2 cX9_compareTo_2 2 (some .int)) rmX9_compareTo_2 rmX9_compareTo_2.cells rmX9_compareTo_2.slots 1 := cwV 1 E.1.2.2.2.2 (lw_V q683 q684 q685 q153 q686) rfl rfl rfl (by decide +kernel) hR
/-! X9_compareTo:  -/
abbrev rmX9_compareTo : Room := { frames := 1, cells := 0, slots := 0, locals := 25 }
set_option maxHeartbeats 4000000 in
set_option maxRecDepth 100000 in
theorem mX9_compareTo (l : Launch) (g : Gx) (A : Nat → Prop) (a b : Nat) (vi vj : Value) (x y u w : Int32) (X : va_W) :
    cx_G l yX9_compareTo cX9_compareTo 2 (some .int) rmX9_compareTo [.ref a, .ref b] g A ((a, .inr (7, [vi, .int x, .int y])) :: (b, .inr (7, [vj, .int u, .int w])) :: X) (ζ := Unit) (fun _ => True) (fun _ => some (.int (((x + y) - u) - w))) (fun _ => (a, .inr (7, [vi, .int x, .int y])) :: (b, .inr (7, [vj, .int u, .int w])) :: X) 0 0 := by
  refine cx_G_of (by decide) (Nat.le_of_ble_eq_true rfl) ?_
  intro p e s m av below meth c Q E hmn hretV hretI hretR H hw ls hl
  have E : cx_E p m meth c cX9_compareTo 2 s av RX9 g A := E
  have hx := E.1.1
  have hb := E.1.2.1
  have hmn : meth.name = "compareTo" := hmn
  have hl : lv_has ls 2 [(0, .ref a), (1, .ref b)] := hl
  generalize hlc : ([] : List Loc) = locs at hw ⊢
  clear hlc
  refine lv_aload_n hx hb dX9_compareTo_0 rfl (lv_at hl 0 rfl) ?_
  refine lv_aload_n hx hb dX9_compareTo_1 rfl (lv_at hl 1 rfl) ?_
  refine va_castS (nm := RX9) (own := RX9) hx hb E.1.2.2.2.1 (E.1.2.2.2.2 _ q682) (E.2.2.1.1.1 7 _ rfl).2 (cx_recv E hw (q0 := 1) rfl rfl) dX9_compareTo_2 ?_
  refine cx_cGV (As := [.ref b]) (rest := []) E (mX9_compareTo_2 l g A a b _ _ x y u w _) (kwX9_X9_compareTo_2 E ⟨Nat.le_of_ble_eq_true rfl, Nat.le_of_ble_eq_true rfl⟩) (cx_recv E hw (q0 := 0) rfl rfl) hw rfl hl.1 rfl (Nat.le_of_ble_eq_true rfl) dX9_compareTo_5 ⟨Nat.le_of_ble_eq_true rfl, Nat.le_of_ble_eq_true rfl⟩ (fun _ H locs _ hw => ?_)
  have hw : cx_W g A s ((a, .inr (7, [vi, .int x, .int y])) :: (b, .inr (7, [vj, .int u, .int w])) :: X) H locs := hw
  have hw : cx_W g A s ((fun _ => (a, .inr (7, [vi, .int x, .int y])) :: (b, .inr (7, [vj, .int u, .int w])) :: X) ()) H locs := hw
  exact hretI _ _ _ _ () _ _ rfl rfl trivial rfl hw dX9_compareTo_8
