abbrev rmX1_must : Room := { frames := 0, cells := 0, slots := 0, locals := 0 }
abbrev rmX1_sign : Room := { frames := 2, cells := 0, slots := 0, locals := 40 }
abbrev rmX1_number : Room := { frames := 2, cells := 0, slots := 0, locals := 42 }
abbrev rmX1_items : Room := { frames := 4, cells := 0, slots := 0, locals := 91 }
abbrev rmX1_wholeShelf : Room := { frames := 5, cells := 0, slots := 0, locals := 119 }
abbrev rmX1_stepRead : Room := { frames := 4, cells := 0, slots := 0, locals := 91 }
abbrev rmX1_wholeScript : Room := { frames := 5, cells := 0, slots := 0, locals := 114 }
theorem kwX1_X1_must {p : Program} {m : MethodId} {meth : Method} {cd : Code} {cc : ByteArray} {nL : Nat} {s : State} {args : Array Value} {g : Gx} {A : Nat → Prop} {R : Room} (E : cx_E p m meth cd cc nL s args RX1 g A) (hR : rmX1_must.frames + 1 ≤ R.frames ∧ 8 + (2 + 11) + rmX1_must.locals ≤ R.locals) : CallW R s args RX1 yX1_must.cls 65 yX1_must cX1_must 2 none (ws_ yX1_must cX1_must 2 none) rmX1_must 0 0 1 := cwV 1 E.1.2.2.2.2 (lw_V q187 q189 qs3 q132 q190) rfl rfl rfl (by decide +kernel) hR
theorem kwX1_X1_number {p : Program} {m : MethodId} {meth : Method} {cd : Code} {cc : ByteArray} {nL : Nat} {s : State} {args : Array Value} {g : Gx} {A : Nat → Prop} {R : Room} (E : cx_E p m meth cd cc nL s args RX1 g A) (hR : rmX1_number.frames + 1 ≤ R.frames ∧ 8 + (5 + 11) + rmX1_number.locals ≤ R.locals) : CallW R s args RX1 yX1_number.cls 86 yX1_number cX1_number 5 (some .int) (ws_ yX1_number cX1_number 5 (some .int)) rmX1_number 0 0 2 := cwV 2 E.1.2.2.2.2 (lw_V q286 q288 qs5 q132 q289) rfl rfl rfl (by decide +kernel) hR
theorem kwX1_X1_items {p : Program} {m : MethodId} {meth : Method} {cd : Code} {cc : ByteArray} {nL : Nat} {s : State} {args : Array Value} {g : Gx} {A : Nat → Prop} {R : Room} (E : cx_E p m meth cd cc nL s args RX1 g A) (hR : rmX1_items.frames + 1 ≤ R.frames ∧ 8 + (9 + 11) + rmX1_items.locals ≤ R.locals) : CallW R s args RX1 yX1_items.cls 108 yX1_items cX1_items 9 none (ws_ yX1_items cX1_items 9 none) rmX1_items 0 0 6 := cwV 6 E.1.2.2.2.2 (lw_V q192 q194 qs4 q132 q195) rfl rfl rfl (by decide +kernel) hR
theorem kwX1_X1_sign {p : Program} {m : MethodId} {meth : Method} {cd : Code} {cc : ByteArray} {nL : Nat} {s : State} {args : Array Value} {g : Gx} {A : Nat → Prop} {R : Room} (E : cx_E p m meth cd cc nL s args RX1 g A) (hR : rmX1_sign.frames + 1 ≤ R.frames ∧ 8 + (2 + 11) + rmX1_sign.locals ≤ R.locals) : CallW R s args RX1 yX1_sign.cls 134 yX1_sign cX1_sign 2 none (ws_ yX1_sign cX1_sign 2 none) rmX1_sign 0 0 1 := cwV 1 E.1.2.2.2.2 (lw_V q303 q305 qs8 q132 q306) rfl rfl rfl (by decide +kernel) hR
theorem kwX1_X1_stepRead {p : Program} {m : MethodId} {meth : Method} {cd : Code} {cc : ByteArray} {nL : Nat} {s : State} {args : Array Value} {g : Gx} {A : Nat → Prop} {R : Room} (E : cx_E p m meth cd cc nL s args RX1 g A) (hR : rmX1_stepRead.frames + 1 ≤ R.frames ∧ 8 + (4 + 11) + rmX1_stepRead.locals ≤ R.locals) : CallW R s args RX1 yX1_stepRead.cls 141 yX1_stepRead cX1_stepRead 4 none (ws_ yX1_stepRead cX1_stepRead 4 none) rmX1_stepRead 0 0 1 := cwV 1 E.1.2.2.2.2 (lw_V q298 q300 qs7 q132 q301) rfl rfl rfl (by decide +kernel) hR
theorem kwX1_X1_wholeShelf {p : Program} {m : MethodId} {meth : Method} {cd : Code} {cc : ByteArray} {nL : Nat} {s : State} {args : Array Value} {g : Gx} {A : Nat → Prop} {R : Room} (E : cx_E p m meth cd cc nL s args RX1 g A) (hR : rmX1_wholeShelf.frames + 1 ≤ R.frames ∧ 8 + (4 + 11) + rmX1_wholeShelf.locals ≤ R.locals) : CallW R s args RX1 yX1_wholeShelf.cls 144 yX1_wholeShelf cX1_wholeShelf 4 none (ws_ yX1_wholeShelf cX1_wholeShelf 4 none) rmX1_wholeShelf 0 0 0 := cwV 0 E.1.2.2.2.2 (lw_V q174 q176 qs0 q132 q178) rfl rfl rfl (by decide +kernel) hR
theorem kwX1_X1_wholeScript {p : Program} {m : MethodId} {meth : Method} {cd : Code} {cc : ByteArray} {nL : Nat} {s : State} {args : Array Value} {g : Gx} {A : Nat → Prop} {R : Room} (E : cx_E p m meth cd cc nL s args RX1 g A) (hR : rmX1_wholeScript.frames + 1 ≤ R.frames ∧ 8 + (3 + 11) + rmX1_wholeScript.locals ≤ R.locals) : CallW R s args RX1 yX1_wholeScript.cls 147 yX1_wholeScript cX1_wholeScript 3 none (ws_ yX1_wholeScript cX1_wholeScript 3 none) rmX1_wholeScript 0 0 1 := cwV 1 E.1.2.2.2.2 (lw_V q294 q296 qs6 q132 q297) rfl rfl rfl (by decide +kernel) hR
/-! X1_must -/
def FX1_must (S : Sx) (p1 : Int32) : Option (Sx ⊕ Sx) :=
  if p1 = 0 then (some (.inr S)) else (some (.inl S))
set_option maxHeartbeats 4000000 in
set_option maxRecDepth 100000 in
theorem mX1_must (l : Launch) (g : Gx) (A : Nat → Prop) (Rs : Nat → Nat) (nw im : Option Nat) (X : va_W) (S : Sx) (p1 : Int32) {o : Sx ⊕ Sx} (hF : FX1_must S p1 = some o) :
    cx_xv l yX1_must cX1_must 2 rmX1_must [.ref (Rs 100), .int p1] g A (sC g Rs nw im S ++ ((Rs 0, .inr (9, [])) :: X)) (xo_v (fun S => sC g Rs nw im S ++ ((Rs 0, .inr (9, [])) :: X)) o) := by
  refine cx_xv_of (by decide) (Nat.le_of_ble_eq_true rfl) ?_
  intro p e s m av below meth c Q E hret hthrow H hw ls hl
  have E : cx_E p m meth c cX1_must 2 s av RX1 g A := E
  have hx := E.1.1
  have hb := E.1.2.1
  have hl : lv_has ls 2 [(0, .ref (Rs 100)), (1, .int p1)] := hl
  generalize hlc : ([] : List Loc) = locs at hw ⊢
  clear hlc
  unfold FX1_must at hF
  refine lv_iload_n hx hb dX1_must_0 rfl (lv_at hl 1 rfl) ?_
  refine lv_if_ne (tgt := 9) hx hb dX1_must_1 (by decide) (fun c_1 => ?_) (fun c_1 => ?_)
  · replace hF := fx_ff c_1 hF
    obtain rfl := Option.some.inj hF
    exact hret _ _ _ _ _ rfl hw dX1_must_9
  · replace hF := fx_tt c_1 hF
    refine lv_aload_n hx hb dX1_must_4 rfl (lv_at hl 0 rfl) ?_
    refine gX1_0 E hw dX1_must_5 ?_
    refine vx_athrow hx hb dX1_must_8 ?_
    have hT : xx_T s H (Rs 0) := xx_T_of E.2.2.1.1 hw.1 (k := 20) rfl
    obtain rfl := Option.some.inj hF
    exact hthrow _ _ _ _ _ _ _ rfl hw hT
/-! X1_sign -/
def JX1_sign_14 (S_2 : Sx) (t_4 : Int32) : Option (Sx ⊕ Sx) :=
  fx_x1 (FX1_must S_2 t_4) (fun S_6 => fx_lt (px_I S_6 3 ((gx_I S_6 3) + (1 : Int32))) (fun S_7 => some (.inl S_7))) (fun S_6 => some (.inr S_6))
def FX1_sign (S : Sx) (p1 : Int32) : Option (Sx ⊕ Sx) :=
  fx_b2 (FX1_ahead S) (fun r_1 S_2 => if r_1 = p1 then (JX1_sign_14 S_2 (1 : Int32)) else (JX1_sign_14 S_2 (0 : Int32)))
set_option maxHeartbeats 4000000 in
set_option maxRecDepth 100000 in
theorem mX1_sign (l : Launch) (g : Gx) (A : Nat → Prop) (Rs : Nat → Nat) (nw im : Option Nat) (X : va_W) (S : Sx) (p1 : Int32) {o : Sx ⊕ Sx} (hF : FX1_sign S p1 = some o) :
    cx_xv l yX1_sign cX1_sign 2 rmX1_sign [.ref (Rs 100), .int p1] g A (sC g Rs nw im S ++ ((Rs 0, .inr (9, [])) :: X)) (xo_v (fun S => sC g Rs nw im S ++ ((Rs 0, .inr (9, [])) :: X)) o) := by
  refine cx_xv_of (by decide) (Nat.le_of_ble_eq_true rfl) ?_
  intro p e s m av below meth c Q E hret hthrow H hw ls hl
  have E : cx_E p m meth c cX1_sign 2 s av RX1 g A := E
  have hx := E.1.1
  have hb := E.1.2.1
  have hl : lv_has ls 2 [(0, .ref (Rs 100)), (1, .int p1)] := hl
  generalize hlc : ([] : List Loc) = locs at hw ⊢
  clear hlc
  unfold FX1_sign at hF
  refine lv_aload_n hx hb dX1_sign_0 rfl (lv_at hl 0 rfl) ?_
  refine lv_aload_n hx hb dX1_sign_1 rfl (lv_at hl 0 rfl) ?_
  replace hF := fx_b2_e hF
  obtain ⟨r_1, S_2, h_3, hF⟩ := hF
  refine cx_cVi (r := r_1) (ws := sC g Rs nw im S ++ ((Rs 0, .inr (9, [])) :: X)) (ws' := sC g Rs nw im S_2 ++ ((Rs 0, .inr (9, [])) :: X)) (As := []) (rest := [.ref (Rs 100)]) E (mX1_ahead l g A Rs _ _ _ S h_3) (kwX1_X1_ahead E ⟨Nat.le_of_ble_eq_true rfl, Nat.le_of_ble_eq_true rfl⟩) 0 1 rfl rfl rfl hw rfl hl.1 rfl (Nat.le_of_ble_eq_true rfl) dX1_sign_2 ⟨Nat.le_of_ble_eq_true rfl, Nat.le_of_ble_eq_true rfl⟩ (fun H locs hw => ?_)
  refine lv_iload_n hx hb dX1_sign_5 rfl (lv_at hl 1 rfl) ?_
  have jn_14 : ∀ (t_4 : Int32), JX1_sign_14 S_2 t_4 = some o → ∀ (H : Heap) (locs : List Loc) (ls : Array Slot), cx_W g A s (sC g Rs nw im S_2 ++ ((Rs 0, .inr (9, [])) :: X)) H locs → lv_has ls 2 [(0, .ref (Rs 100))] → W p l e rmX1_sign s m av below meth c H locs 0 0 Q (F0 m 14 ls [.int t_4, .ref (Rs 100)]) := by
    intro t_4 hJ_14 H locs ls hw hl
    unfold JX1_sign_14 at hJ_14
    replace hJ_14 := fx_x1_e hJ_14
    rcases hJ_14 with ⟨S_6, h_5, hJ_14⟩ | ⟨S_6, h_5, hJ_14⟩
    · refine cx_cXv_n (ws := sC g Rs nw im S_2 ++ ((Rs 0, .inr (9, [])) :: X)) (ws' := sC g Rs nw im S_6 ++ ((Rs 0, .inr (9, [])) :: X)) (As := [.int t_4]) (rest := []) E (mX1_must l g A Rs _ _ _ S_2 t_4 h_5) (kwX1_X1_must E ⟨Nat.le_of_ble_eq_true rfl, Nat.le_of_ble_eq_true rfl⟩) 0 1 rfl rfl rfl hw rfl hl.1 rfl (Nat.le_of_ble_eq_true rfl) dX1_sign_14 (fun H locs hw => ?_)
      refine lv_aload_n hx hb dX1_sign_17 rfl (lv_at hl 0 rfl) ?_
      refine lv_dup hx hb dX1_sign_18 rfl ?_
      refine gX1_3 E hw dX1_sign_19 ?_
      refine lv_iconst (v := (1 : Int32)) hx hb dX1_sign_22 (by decide) ?_
      refine lv_iadd hx hb dX1_sign_23 ?_
      obtain ⟨S_7, eS_7⟩ : ∃ z : Sx, z = px_I S_6 3 ((gx_I S_6 3) + (1 : Int32)) := ⟨_, rfl⟩
      replace hJ_14 := fx_lt_e eS_7 hJ_14
      refine pX1_3 eS_7 E hw dX1_sign_24 (fun H locs hw => ?_)
      obtain rfl := Option.some.inj hJ_14
      exact hret _ _ _ _ _ rfl hw dX1_sign_27
    · refine cx_cXv_t (ws := sC g Rs nw im S_2 ++ ((Rs 0, .inr (9, [])) :: X)) (ws' := sC g Rs nw im S_6 ++ ((Rs 0, .inr (9, [])) :: X)) (As := [.int t_4]) (rest := []) E (mX1_must l g A Rs _ _ _ S_2 t_4 h_5) (kwX1_X1_must E ⟨Nat.le_of_ble_eq_true rfl, Nat.le_of_ble_eq_true rfl⟩) 0 1 rfl rfl rfl hw rfl hl.1 rfl (Nat.le_of_ble_eq_true rfl) dX1_sign_14 (fun q_ H locs hw hT => ?_)
      obtain rfl := Option.some.inj hJ_14
      exact hthrow _ _ _ _ _ _ _ rfl hw hT
  refine lv_icmp_ne (tgt := 13) hx hb dX1_sign_6 (by decide) (fun c_8 => ?_) (fun c_8 => ?_)
  · replace hF := fx_ff c_8 hF
    refine lv_iconst (v := (0 : Int32)) hx hb dX1_sign_13 (by decide) ?_
    exact jn_14 (0 : Int32) hF _ _ _ hw (lv_sub hl [0] rfl)
  · replace hF := fx_tt c_8 hF
    refine lv_iconst (v := (1 : Int32)) hx hb dX1_sign_9 (by decide) ?_
    refine lv_goto (tgt := 14) hx hb dX1_sign_10 (by decide) ?_
    exact jn_14 (1 : Int32) hF _ _ _ hw (lv_sub hl [0] rfl)
/-! X1_number -/
def JX1_number_79 (S_9 : Sx) (t_14 : Int32) (x3_8 : Int32) (p1 : Int32) (p2 : Int32) : Option ((Int32 × Sx) ⊕ Sx) :=
  fx_x1 (FX1_must S_9 t_14) (fun S_16 => fx_b1 (FX1_in x3_8 p1 p2) (fun r_17 => if r_17 = 0 then (fx_lt (px_I S_16 3 ((gx_I S_16 3) - (1 : Int32))) (fun S_20 => some (.inr S_20))) else (some (.inl (x3_8, S_16))))) (fun S_16 => some (.inr S_16))
def JX1_number_63 (S_9 : Sx) (x3_8 : Int32) (p1 : Int32) (p2 : Int32) : Option ((Int32 × Sx) ⊕ Sx) :=
  fx_b1 (FX1_here S_9) (fun r_10 => fx_b1 (FX1_isDigit r_10) (fun r_12 => if r_12 = 0 then (JX1_number_79 S_9 (1 : Int32) x3_8 p1 p2) else (JX1_number_79 S_9 (0 : Int32) x3_8 p1 p2)))
def LX1_number_16  (q_ : Sx × Int32 × Int32) : Option ((Sx × Int32 × Int32) ⊕ (Sx × Int32)) :=
  fx_u3 q_ (fun S_22 x3_23 x4_24 => if (3 : Int32) ≤ x4_24 then (some (.inr (S_22, x3_23))) else (fx_b1 (FX1_here S_22) (fun r_26 => fx_b1 (FX1_isDigit r_26) (fun r_28 => if r_28 = 0 then (some (.inr (S_22, x3_23))) else (fx_lt (gx_I S_22 3) (fun v_31 => fx_lt (px_I S_22 3 (v_31 + (1 : Int32))) (fun S_32 => fx_gd (fx_in v_31 280) (fx_lt ((((10 : Int32) * x3_23) + (gx_A S_32 1 v_31.toNatClampNeg)) - (48 : Int32)) (fun v_34 => fx_lt (x4_24 + (1 : Int32)) (fun v_35 => some (.inl (S_32, v_34, v_35))))))))))))
def FX1_number (S : Sx) (p1 : Int32) (p2 : Int32) : Option ((Int32 × Sx) ⊕ Sx) :=
  fx_b2 (FX1_ahead S) (fun r_1 S_2 => fx_b1 (FX1_isDigit r_1) (fun r_4 => fx_x1 (FX1_must S_2 r_4) (fun S_7 => fx_b1 (fx_lp (LX1_number_16) 2000 (S_7, (0 : Int32), (0 : Int32))) (fun q_ => fx_u2 q_ (fun S_36 y3_37 => JX1_number_63 S_36 y3_37 p1 p2))) (fun S_7 => some (.inr S_7))))
set_option maxHeartbeats 4000000 in
set_option maxRecDepth 100000 in
theorem mX1_number (l : Launch) (g : Gx) (A : Nat → Prop) (Rs : Nat → Nat) (nw im : Option Nat) (X : va_W) (S : Sx) (p1 : Int32) (p2 : Int32) {o : (Int32 × Sx) ⊕ Sx} (hF : FX1_number S p1 p2 = some o) :
    cx_xi l yX1_number cX1_number 5 .int rmX1_number [.ref (Rs 100), .int p1, .int p2] g A (sC g Rs nw im S ++ ((Rs 0, .inr (9, [])) :: X)) (xo_i (fun S => sC g Rs nw im S ++ ((Rs 0, .inr (9, [])) :: X)) o) := by
  refine cx_xi_of (by decide) (Nat.le_of_ble_eq_true rfl) ?_
  intro p e s m av below meth c Q E hret hthrow H hw ls hl
  have E : cx_E p m meth c cX1_number 5 s av RX1 g A := E
  have hx := E.1.1
  have hb := E.1.2.1
  have hl : lv_has ls 5 [(0, .ref (Rs 100)), (1, .int p1), (2, .int p2)] := hl
  generalize hlc : ([] : List Loc) = locs at hw ⊢
  clear hlc
  unfold FX1_number at hF
  refine lv_aload_n hx hb dX1_number_0 rfl (lv_at hl 0 rfl) ?_
  refine lv_aload_n hx hb dX1_number_1 rfl (lv_at hl 0 rfl) ?_
  replace hF := fx_b2_e hF
  obtain ⟨r_1, S_2, h_3, hF⟩ := hF
  refine cx_cVi (r := r_1) (ws := sC g Rs nw im S ++ ((Rs 0, .inr (9, [])) :: X)) (ws' := sC g Rs nw im S_2 ++ ((Rs 0, .inr (9, [])) :: X)) (As := []) (rest := [.ref (Rs 100)]) E (mX1_ahead l g A Rs _ _ _ S h_3) (kwX1_X1_ahead E ⟨Nat.le_of_ble_eq_true rfl, Nat.le_of_ble_eq_true rfl⟩) 0 1 rfl rfl rfl hw rfl hl.1 rfl (Nat.le_of_ble_eq_true rfl) dX1_number_2 ⟨Nat.le_of_ble_eq_true rfl, Nat.le_of_ble_eq_true rfl⟩ (fun H locs hw => ?_)
  replace hF := fx_b1_e hF
  obtain ⟨r_4, h_5, hF⟩ := hF
  refine cx_cSi (r := r_4) (ws := sC g Rs nw im S_2 ++ ((Rs 0, .inr (9, [])) :: X)) (ws' := sC g Rs nw im S_2 ++ ((Rs 0, .inr (9, [])) :: X)) (As := [.int r_1]) (rest := [.ref (Rs 100)]) E (mX1_isDigit l g A (sC g Rs nw im S_2 ++ ((Rs 0, .inr (9, [])) :: X)) r_1 h_5) (kwX1_X1_isDigit E ⟨Nat.le_of_ble_eq_true rfl, Nat.le_of_ble_eq_true rfl⟩) hw rfl hl.1 rfl (Nat.le_of_ble_eq_true rfl) dX1_number_5 ⟨Nat.le_of_ble_eq_true rfl, Nat.le_of_ble_eq_true rfl⟩ (fun H locs hw => ?_)
  replace hF := fx_x1_e hF
  rcases hF with ⟨S_7, h_6, hF⟩ | ⟨S_7, h_6, hF⟩
  · refine cx_cXv_n (ws := sC g Rs nw im S_2 ++ ((Rs 0, .inr (9, [])) :: X)) (ws' := sC g Rs nw im S_7 ++ ((Rs 0, .inr (9, [])) :: X)) (As := [.int r_4]) (rest := []) E (mX1_must l g A Rs _ _ _ S_2 r_4 h_6) (kwX1_X1_must E ⟨Nat.le_of_ble_eq_true rfl, Nat.le_of_ble_eq_true rfl⟩) 0 1 rfl rfl rfl hw rfl hl.1 rfl (Nat.le_of_ble_eq_true rfl) dX1_number_8 (fun H locs hw => ?_)
    refine lv_iconst (v := (0 : Int32)) hx hb dX1_number_11 (by decide) ?_
    refine lv_istore_n hx hb dX1_number_12 rfl hl (by decide) rfl (fun ls hl => ?_)
    have hl : lv_has ls 5 [(3, .int (0 : Int32)), (0, .ref (Rs 100)), (1, .int p1), (2, .int p2)] := hl
    refine lv_iconst (v := (0 : Int32)) hx hb dX1_number_13 (by decide) ?_
    refine lv_istore hx hb dX1_number_14 hl (by decide) rfl (fun ls hl => ?_)
    have hl : lv_has ls 5 [(4, .int (0 : Int32)), (3, .int (0 : Int32)), (0, .ref (Rs 100)), (1, .int p1), (2, .int p2)] := hl
    have jn_63 : ∀ (S_9 : Sx) (x3_8 : Int32), JX1_number_63 S_9 x3_8 p1 p2 = some o → ∀ (H : Heap) (locs : List Loc) (ls : Array Slot), cx_W g A s (sC g Rs nw im S_9 ++ ((Rs 0, .inr (9, [])) :: X)) H locs → lv_has ls 5 [(0, .ref (Rs 100)), (1, .int p1), (2, .int p2), (3, .int x3_8)] → W p l e rmX1_number s m av below meth c H locs 0 0 Q (F0 m 63 ls []) := by
      intro S_9 x3_8 hJ_63 H locs ls hw hl
      unfold JX1_number_63 at hJ_63
      refine lv_aload_n hx hb dX1_number_63 rfl (lv_at hl 0 rfl) ?_
      refine lv_aload_n hx hb dX1_number_64 rfl (lv_at hl 0 rfl) ?_
      replace hJ_63 := fx_b1_e hJ_63
      obtain ⟨r_10, h_11, hJ_63⟩ := hJ_63
      refine cx_cVi (r := r_10) (ws := sC g Rs nw im S_9 ++ ((Rs 0, .inr (9, [])) :: X)) (ws' := sC g Rs nw im S_9 ++ ((Rs 0, .inr (9, [])) :: X)) (As := []) (rest := [.ref (Rs 100)]) E (mX1_here l g A Rs _ _ _ S_9 h_11) (kwX1_X1_here E ⟨Nat.le_of_ble_eq_true rfl, Nat.le_of_ble_eq_true rfl⟩) 0 1 rfl rfl rfl hw rfl hl.1 rfl (Nat.le_of_ble_eq_true rfl) dX1_number_65 ⟨Nat.le_of_ble_eq_true rfl, Nat.le_of_ble_eq_true rfl⟩ (fun H locs hw => ?_)
      replace hJ_63 := fx_b1_e hJ_63
      obtain ⟨r_12, h_13, hJ_63⟩ := hJ_63
      refine cx_cSi (r := r_12) (ws := sC g Rs nw im S_9 ++ ((Rs 0, .inr (9, [])) :: X)) (ws' := sC g Rs nw im S_9 ++ ((Rs 0, .inr (9, [])) :: X)) (As := [.int r_10]) (rest := [.ref (Rs 100)]) E (mX1_isDigit l g A (sC g Rs nw im S_9 ++ ((Rs 0, .inr (9, [])) :: X)) r_10 h_13) (kwX1_X1_isDigit E ⟨Nat.le_of_ble_eq_true rfl, Nat.le_of_ble_eq_true rfl⟩) hw rfl hl.1 rfl (Nat.le_of_ble_eq_true rfl) dX1_number_68 ⟨Nat.le_of_ble_eq_true rfl, Nat.le_of_ble_eq_true rfl⟩ (fun H locs hw => ?_)
      have jn_79 : ∀ (t_14 : Int32), JX1_number_79 S_9 t_14 x3_8 p1 p2 = some o → ∀ (H : Heap) (locs : List Loc) (ls : Array Slot), cx_W g A s (sC g Rs nw im S_9 ++ ((Rs 0, .inr (9, [])) :: X)) H locs → lv_has ls 5 [(0, .ref (Rs 100)), (1, .int p1), (2, .int p2), (3, .int x3_8)] → W p l e rmX1_number s m av below meth c H locs 0 0 Q (F0 m 79 ls [.int t_14, .ref (Rs 100)]) := by
        intro t_14 hJ_79 H locs ls hw hl
        unfold JX1_number_79 at hJ_79
        replace hJ_79 := fx_x1_e hJ_79
        rcases hJ_79 with ⟨S_16, h_15, hJ_79⟩ | ⟨S_16, h_15, hJ_79⟩
        · refine cx_cXv_n (ws := sC g Rs nw im S_9 ++ ((Rs 0, .inr (9, [])) :: X)) (ws' := sC g Rs nw im S_16 ++ ((Rs 0, .inr (9, [])) :: X)) (As := [.int t_14]) (rest := []) E (mX1_must l g A Rs _ _ _ S_9 t_14 h_15) (kwX1_X1_must E ⟨Nat.le_of_ble_eq_true rfl, Nat.le_of_ble_eq_true rfl⟩) 0 1 rfl rfl rfl hw rfl hl.1 rfl (Nat.le_of_ble_eq_true rfl) dX1_number_79 (fun H locs hw => ?_)
          refine lv_iload_n hx hb dX1_number_82 rfl (lv_at hl 3 rfl) ?_
          refine lv_iload_n hx hb dX1_number_83 rfl (lv_at hl 1 rfl) ?_
          refine lv_iload_n hx hb dX1_number_84 rfl (lv_at hl 2 rfl) ?_
          replace hJ_79 := fx_b1_e hJ_79
          obtain ⟨r_17, h_18, hJ_79⟩ := hJ_79
          refine cx_cSi (r := r_17) (ws := sC g Rs nw im S_16 ++ ((Rs 0, .inr (9, [])) :: X)) (ws' := sC g Rs nw im S_16 ++ ((Rs 0, .inr (9, [])) :: X)) (As := [.int x3_8, .int p1, .int p2]) (rest := []) E (mX1_in l g A (sC g Rs nw im S_16 ++ ((Rs 0, .inr (9, [])) :: X)) x3_8 p1 p2 h_18) (kwX1_X1_in E ⟨Nat.le_of_ble_eq_true rfl, Nat.le_of_ble_eq_true rfl⟩) hw rfl hl.1 rfl (Nat.le_of_ble_eq_true rfl) dX1_number_85 ⟨Nat.le_of_ble_eq_true rfl, Nat.le_of_ble_eq_true rfl⟩ (fun H locs hw => ?_)
          refine lv_if_ne (tgt := 106) hx hb dX1_number_88 (by decide) (fun c_19 => ?_) (fun c_19 => ?_)
          · replace hJ_79 := fx_ff c_19 hJ_79
            refine lv_iload_n hx hb dX1_number_106 rfl (lv_at hl 3 rfl) ?_
            obtain rfl := Option.some.inj hJ_79
            exact hret _ _ _ _ _ _ rfl rfl hw dX1_number_107
          · replace hJ_79 := fx_tt c_19 hJ_79
            refine lv_aload_n hx hb dX1_number_91 rfl (lv_at hl 0 rfl) ?_
            refine lv_dup hx hb dX1_number_92 rfl ?_
            refine gX1_3 E hw dX1_number_93 ?_
            refine lv_iconst (v := (1 : Int32)) hx hb dX1_number_96 (by decide) ?_
            refine lv_isub hx hb dX1_number_97 ?_
            obtain ⟨S_20, eS_20⟩ : ∃ z : Sx, z = px_I S_16 3 ((gx_I S_16 3) - (1 : Int32)) := ⟨_, rfl⟩
            replace hJ_79 := fx_lt_e eS_20 hJ_79
            refine pX1_3 eS_20 E hw dX1_number_98 (fun H locs hw => ?_)
            refine lv_aload_n hx hb dX1_number_101 rfl (lv_at hl 0 rfl) ?_
            refine gX1_0 E hw dX1_number_102 ?_
            refine vx_athrow hx hb dX1_number_105 ?_
            have hT : xx_T s H (Rs 0) := xx_T_of E.2.2.1.1 hw.1 (k := 20) rfl
            obtain rfl := Option.some.inj hJ_79
            exact hthrow _ _ _ _ _ _ _ rfl hw hT
        · refine cx_cXv_t (ws := sC g Rs nw im S_9 ++ ((Rs 0, .inr (9, [])) :: X)) (ws' := sC g Rs nw im S_16 ++ ((Rs 0, .inr (9, [])) :: X)) (As := [.int t_14]) (rest := []) E (mX1_must l g A Rs _ _ _ S_9 t_14 h_15) (kwX1_X1_must E ⟨Nat.le_of_ble_eq_true rfl, Nat.le_of_ble_eq_true rfl⟩) 0 1 rfl rfl rfl hw rfl hl.1 rfl (Nat.le_of_ble_eq_true rfl) dX1_number_79 (fun q_ H locs hw hT => ?_)
          obtain rfl := Option.some.inj hJ_79
          exact hthrow _ _ _ _ _ _ _ rfl hw hT
      refine lv_if_ne (tgt := 78) hx hb dX1_number_71 (by decide) (fun c_21 => ?_) (fun c_21 => ?_)
      · replace hJ_63 := fx_ff c_21 hJ_63
        refine lv_iconst (v := (0 : Int32)) hx hb dX1_number_78 (by decide) ?_
        exact jn_79 (0 : Int32) hJ_63 _ _ _ hw hl
      · replace hJ_63 := fx_tt c_21 hJ_63
        refine lv_iconst (v := (1 : Int32)) hx hb dX1_number_74 (by decide) ?_
        refine lv_goto (tgt := 79) hx hb dX1_number_75 (by decide) ?_
        exact jn_79 (1 : Int32) hJ_63 _ _ _ hw hl
    replace hF := fx_b1_e hF
    obtain ⟨ex_16, hL_16, hF⟩ := hF
    have key_16 : ∀ (n_16 : Nat) (S_22 : Sx) (x3_23 : Int32) (x4_24 : Int32), fx_lp (LX1_number_16) n_16 (S_22, x3_23, x4_24) = some ex_16 → ∀ (H : Heap) (locs : List Loc) (ls : Array Slot), cx_W g A s (sC g Rs nw im S_22 ++ ((Rs 0, .inr (9, [])) :: X)) H locs → lv_has ls 5 [(0, .ref (Rs 100)), (1, .int p1), (2, .int p2), (3, .int x3_23), (4, .int x4_24)] → W p l e rmX1_number s m av below meth c H locs 0 0 Q (F0 m 16 ls []) := by
      intro n_16
      induction n_16 with
      | zero => intro S_22 x3_23 x4_24 hL_16; exact fx_lp_0 hL_16
      | succ n_16 ih_16 =>
        intro S_22 x3_23 x4_24 hL_16 H locs ls hw hl
        replace hL_16 := fx_lp_s hL_16
        obtain ⟨o_16, hB_16, hO_16⟩ := hL_16
        unfold LX1_number_16 at hB_16
        replace hB_16 := fx_u3_e hB_16
        refine lv_iload hx hb dX1_number_16 (lv_at hl 4 rfl) ?_
        refine lv_iconst (v := (3 : Int32)) hx hb dX1_number_18 (by decide) ?_
        refine lv_icmp_ge (tgt := 63) hx hb dX1_number_19 (by decide) (fun c_25 => ?_) (fun c_25 => ?_)
        · replace hB_16 := fx_tt c_25 hB_16
          obtain rfl := fx_ex hB_16 hO_16
          replace hF := fx_u2_e hF
          exact jn_63 S_22 x3_23 hF _ _ _ hw (lv_sub hl [0, 1, 2, 3] rfl)
        · replace hB_16 := fx_ff c_25 hB_16
          refine lv_aload_n hx hb dX1_number_22 rfl (lv_at hl 0 rfl) ?_
          replace hB_16 := fx_b1_e hB_16
          obtain ⟨r_26, h_27, hB_16⟩ := hB_16
          refine cx_cVi (r := r_26) (ws := sC g Rs nw im S_22 ++ ((Rs 0, .inr (9, [])) :: X)) (ws' := sC g Rs nw im S_22 ++ ((Rs 0, .inr (9, [])) :: X)) (As := []) (rest := []) E (mX1_here l g A Rs _ _ _ S_22 h_27) (kwX1_X1_here E ⟨Nat.le_of_ble_eq_true rfl, Nat.le_of_ble_eq_true rfl⟩) 0 1 rfl rfl rfl hw rfl hl.1 rfl (Nat.le_of_ble_eq_true rfl) dX1_number_23 ⟨Nat.le_of_ble_eq_true rfl, Nat.le_of_ble_eq_true rfl⟩ (fun H locs hw => ?_)
          replace hB_16 := fx_b1_e hB_16
          obtain ⟨r_28, h_29, hB_16⟩ := hB_16
          refine cx_cSi (r := r_28) (ws := sC g Rs nw im S_22 ++ ((Rs 0, .inr (9, [])) :: X)) (ws' := sC g Rs nw im S_22 ++ ((Rs 0, .inr (9, [])) :: X)) (As := [.int r_26]) (rest := []) E (mX1_isDigit l g A (sC g Rs nw im S_22 ++ ((Rs 0, .inr (9, [])) :: X)) r_26 h_29) (kwX1_X1_isDigit E ⟨Nat.le_of_ble_eq_true rfl, Nat.le_of_ble_eq_true rfl⟩) hw rfl hl.1 rfl (Nat.le_of_ble_eq_true rfl) dX1_number_26 ⟨Nat.le_of_ble_eq_true rfl, Nat.le_of_ble_eq_true rfl⟩ (fun H locs hw => ?_)
          refine lv_if_eq (tgt := 63) hx hb dX1_number_29 (by decide) (fun c_30 => ?_) (fun c_30 => ?_)
          · replace hB_16 := fx_tt c_30 hB_16
            obtain rfl := fx_ex hB_16 hO_16
            replace hF := fx_u2_e hF
            exact jn_63 S_22 x3_23 hF _ _ _ hw (lv_sub hl [0, 1, 2, 3] rfl)
          · replace hB_16 := fx_ff c_30 hB_16
            refine lv_bipush (v := (10 : Int32)) hx hb dX1_number_32 (by decide) ?_
            refine lv_iload_n hx hb dX1_number_34 rfl (lv_at hl 3 rfl) ?_
            refine lv_imul hx hb dX1_number_35 ?_
            refine lv_aload_n hx hb dX1_number_36 rfl (lv_at hl 0 rfl) ?_
            refine gX1_1 E hw dX1_number_37 ?_
            refine lv_aload_n hx hb dX1_number_40 rfl (lv_at hl 0 rfl) ?_
            refine lv_dup hx hb dX1_number_41 rfl ?_
            refine gX1_3 E hw dX1_number_42 ?_
            refine lv_topi (fun v_31 ev_31 => ?_)
            replace hB_16 := fx_lt_e ev_31 hB_16
            refine lv_dup_x1 hx hb dX1_number_45 rfl rfl ?_
            refine lv_iconst (v := (1 : Int32)) hx hb dX1_number_46 (by decide) ?_
            refine lv_iadd hx hb dX1_number_47 ?_
            obtain ⟨S_32, eS_32⟩ : ∃ z : Sx, z = px_I S_22 3 (v_31 + (1 : Int32)) := ⟨_, rfl⟩
            replace hB_16 := fx_lt_e eS_32 hB_16
            refine pX1_3 eS_32 E hw dX1_number_48 (fun H locs hw => ?_)
            replace hB_16 := fx_gd_e hB_16
            obtain ⟨h_33, hB_16⟩ := hB_16
            refine raX1_1 E hw (fx_in_e h_33) dX1_number_51 ?_
            refine lv_iadd hx hb dX1_number_52 ?_
            refine lv_bipush (v := (48 : Int32)) hx hb dX1_number_53 (by decide) ?_
            refine lv_isub hx hb dX1_number_55 ?_
            refine lv_topi (fun v_34 ev_34 => ?_)
            replace hB_16 := fx_lt_e ev_34 hB_16
            refine lv_istore_n hx hb dX1_number_56 rfl hl (by decide) rfl (fun ls hl => ?_)
            have hl : lv_has ls 5 [(3, .int v_34), (0, .ref (Rs 100)), (1, .int p1), (2, .int p2), (4, .int x4_24)] := hl
            obtain ⟨v_35, ev_35⟩ : ∃ z : Int32, z = x4_24 + (1 : Int32) := ⟨_, rfl⟩
            replace hB_16 := fx_lt_e ev_35 hB_16
            refine cx_iinc (z := (1 : Int32)) (v := v_35) hx hb dX1_number_57 hl (k := 4) rfl (by decide) ev_35 (by decide) rfl (fun ls hl => ?_)
            have hl : lv_has ls 5 [(4, .int v_35), (3, .int v_34), (0, .ref (Rs 100)), (1, .int p1), (2, .int p2)] := hl
            refine lv_goto (tgt := 16) hx hb dX1_number_60 (by decide) ?_
            exact ih_16 S_32 v_34 v_35 (fx_bk hB_16 hO_16) _ _ _ hw (lv_sub hl [2, 3, 4, 1, 0] rfl)
    exact key_16 _ S_7 (0 : Int32) (0 : Int32) hL_16 _ _ _ hw (lv_sub hl [2, 3, 4, 1, 0] rfl)
  · refine cx_cXv_t (ws := sC g Rs nw im S_2 ++ ((Rs 0, .inr (9, [])) :: X)) (ws' := sC g Rs nw im S_7 ++ ((Rs 0, .inr (9, [])) :: X)) (As := [.int r_4]) (rest := []) E (mX1_must l g A Rs _ _ _ S_2 r_4 h_6) (kwX1_X1_must E ⟨Nat.le_of_ble_eq_true rfl, Nat.le_of_ble_eq_true rfl⟩) 0 1 rfl rfl rfl hw rfl hl.1 rfl (Nat.le_of_ble_eq_true rfl) dX1_number_8 (fun q_ H locs hw hT => ?_)
    obtain rfl := Option.some.inj hF
    exact hthrow _ _ _ _ _ _ _ rfl hw hT
/-! X1_items_5 -/
def JX1_items_5_121 (S_2 : Sx) : Option (Sx ⊕ Sx) :=
  some (.inl S_2)
def LX1_items_5_34 (p1 : Int32) (q_ : Sx × Int32) : Option ((Sx × Int32) ⊕ ((Sx) ⊕ (Sx))) :=
  fx_u2 q_ (fun S_3 x7_4 => fx_b2 (FX1_ahead S_3) (fun r_5 S_6 => if r_5 = (-1 : Int32) then (some (.inr (.inl S_6))) else (fx_b1 (FX1_here S_6) (fun r_9 => fx_b1 (FJ2_indexOf 0 r_9) (fun r_11 => if r_11 < 0 then (some (.inr (.inl S_6))) else (fx_b1 (FX1_here S_6) (fun r_14 => fx_b1 (FJ2_indexOf 0 r_14) (fun r_16 => fx_b1 (FX1_has x7_4 r_16) (fun r_18 => if r_18 = 0 then (fx_b1 (FX1_here S_6) (fun r_21 => fx_b1 (FJ2_indexOf 0 r_21) (fun r_23 => fx_lt (x7_4 ||| ((1 : Int32) <<< (r_23 &&& 31))) (fun v_25 => fx_lt (px_I S_6 3 ((gx_I S_6 3) + (1 : Int32))) (fun S_26 => fx_gd (fx_in r_23 5) (fx_gd (fx_in r_23 5) (fx_x2 (FX1_number S_26 (gx_A S_26 8 r_23.toNatClampNeg) (gx_A S_26 9 r_23.toNatClampNeg)) (fun r_30 S_31 => fx_gd (fx_in (p1 + r_23) 5) (fx_lt (px_A S_31 5 (upd (gx_A S_31 5) (p1 + r_23).toNatClampNeg r_30)) (fun S_33 => some (.inl (S_33, v_25))))) (fun S_31 => some (.inr (.inr S_31)))))))))) else (some (.inr (.inl S_6))))))))))))
def JX1_items_5_31 (p1 : Int32) (S_1 : Sx) : Option (Sx ⊕ Sx) :=
  fx_b1 (fx_lp (LX1_items_5_34 p1) 2000 (S_1, (0 : Int32))) (fun q_ => fx_sm q_ (fun S_34 => JX1_items_5_121 S_34) (fun S_35 => some (.inr S_35)))
def LX1_items_5_3 (p1 : Int32) (q_ : Sx × Int32) : Option ((Sx × Int32) ⊕ (Sx)) :=
  fx_u2 q_ (fun S_36 x7_37 => fx_b1 (FJ2_length 0 ) (fun r_38 => if r_38 ≤ x7_37 then (some (.inr S_36)) else (fx_gd (fx_in x7_37 5) (fx_gd (fx_in (p1 + x7_37) 5) (fx_lt (px_A S_36 5 (upd (gx_A S_36 5) (p1 + x7_37).toNatClampNeg (gx_A S_36 10 x7_37.toNatClampNeg))) (fun S_43 => fx_lt (x7_37 + (1 : Int32)) (fun v_44 => some (.inl (S_43, v_44)))))))))
def FX1_items_5 (S : Sx) (p1 : Int32) : Option (Sx ⊕ Sx) :=
  fx_b1 (fx_lp (LX1_items_5_3 p1) 2000 (S, (0 : Int32))) (fun S_45 => JX1_items_5_31 p1 S_45)
set_option maxHeartbeats 4000000 in
set_option maxRecDepth 100000 in
theorem mX1_items_5 (l : Launch) (g : Gx) (A : Nat → Prop) (Rs : Nat → Nat) (nw im : Option Nat) (X : va_W) (S : Sx) (p1 : Int32) {o : Sx ⊕ Sx} (hF : FX1_items_5 S p1 = some o) :
    cx_xv l yX1_items cX1_items 9 rmX1_items [.ref (Rs 100), .ref (kS g 0), .ref (Rs 8), .ref (Rs 9), .ref (Rs 10), .ref (Rs 5), .int p1] g A (sC g Rs nw im S ++ ((Rs 0, .inr (9, [])) :: X)) (xo_v (fun S => sC g Rs nw im S ++ ((Rs 0, .inr (9, [])) :: X)) o) := by
  refine cx_xv_of (by decide) (Nat.le_of_ble_eq_true rfl) ?_
  intro p e s m av below meth c Q E hret hthrow H hw ls hl
  have E : cx_E p m meth c cX1_items 9 s av RX1 g A := E
  have hx := E.1.1
  have hb := E.1.2.1
  have hl : lv_has ls 9 [(0, .ref (Rs 100)), (1, .ref (kS g 0)), (2, .ref (Rs 8)), (3, .ref (Rs 9)), (4, .ref (Rs 10)), (5, .ref (Rs 5)), (6, .int p1)] := hl
  generalize hlc : ([] : List Loc) = locs at hw ⊢
  clear hlc
  unfold FX1_items_5 at hF
  refine lv_iconst (v := (0 : Int32)) hx hb dX1_items_0 (by decide) ?_
  refine lv_istore hx hb dX1_items_1 hl (by decide) rfl (fun ls hl => ?_)
  have hl : lv_has ls 9 [(7, .int (0 : Int32)), (0, .ref (Rs 100)), (1, .ref (kS g 0)), (2, .ref (Rs 8)), (3, .ref (Rs 9)), (4, .ref (Rs 10)), (5, .ref (Rs 5)), (6, .int p1)] := hl
  have jn_31 : ∀ (S_1 : Sx), JX1_items_5_31 p1 S_1 = some o → ∀ (H : Heap) (locs : List Loc) (ls : Array Slot), cx_W g A s (sC g Rs nw im S_1 ++ ((Rs 0, .inr (9, [])) :: X)) H locs → lv_has ls 9 [(0, .ref (Rs 100)), (1, .ref (kS g 0)), (2, .ref (Rs 8)), (3, .ref (Rs 9)), (5, .ref (Rs 5)), (6, .int p1)] → W p l e rmX1_items s m av below meth c H locs 0 0 Q (F0 m 31 ls []) := by
    intro S_1 hJ_31 H locs ls hw hl
    unfold JX1_items_5_31 at hJ_31
    refine lv_iconst (v := (0 : Int32)) hx hb dX1_items_31 (by decide) ?_
    refine lv_istore hx hb dX1_items_32 hl (by decide) rfl (fun ls hl => ?_)
    have hl : lv_has ls 9 [(7, .int (0 : Int32)), (0, .ref (Rs 100)), (1, .ref (kS g 0)), (2, .ref (Rs 8)), (3, .ref (Rs 9)), (5, .ref (Rs 5)), (6, .int p1)] := hl
    have jn_121 : ∀ (S_2 : Sx), JX1_items_5_121 S_2 = some o → ∀ (H : Heap) (locs : List Loc) (ls : Array Slot), cx_W g A s (sC g Rs nw im S_2 ++ ((Rs 0, .inr (9, [])) :: X)) H locs → lv_has ls 9 [] → W p l e rmX1_items s m av below meth c H locs 0 0 Q (F0 m 121 ls []) := by
      intro S_2 hJ_121 H locs ls hw hl
      unfold JX1_items_5_121 at hJ_121
      obtain rfl := Option.some.inj hJ_121
      exact hret _ _ _ _ _ rfl hw dX1_items_121
    replace hJ_31 := fx_b1_e hJ_31
    obtain ⟨ex_34, hL_34, hJ_31⟩ := hJ_31
    have key_34 : ∀ (n_34 : Nat) (S_3 : Sx) (x7_4 : Int32), fx_lp (LX1_items_5_34 p1) n_34 (S_3, x7_4) = some ex_34 → ∀ (H : Heap) (locs : List Loc) (ls : Array Slot), cx_W g A s (sC g Rs nw im S_3 ++ ((Rs 0, .inr (9, [])) :: X)) H locs → lv_has ls 9 [(0, .ref (Rs 100)), (1, .ref (kS g 0)), (2, .ref (Rs 8)), (3, .ref (Rs 9)), (5, .ref (Rs 5)), (6, .int p1), (7, .int x7_4)] → W p l e rmX1_items s m av below meth c H locs 0 0 Q (F0 m 34 ls []) := by
      intro n_34
      induction n_34 with
      | zero => intro S_3 x7_4 hL_34; exact fx_lp_0 hL_34
      | succ n_34 ih_34 =>
        intro S_3 x7_4 hL_34 H locs ls hw hl
        replace hL_34 := fx_lp_s hL_34
        obtain ⟨o_34, hB_34, hO_34⟩ := hL_34
        unfold LX1_items_5_34 at hB_34
        replace hB_34 := fx_u2_e hB_34
        refine lv_aload_n hx hb dX1_items_34 rfl (lv_at hl 0 rfl) ?_
        replace hB_34 := fx_b2_e hB_34
        obtain ⟨r_5, S_6, h_7, hB_34⟩ := hB_34
        refine cx_cVi (r := r_5) (ws := sC g Rs nw im S_3 ++ ((Rs 0, .inr (9, [])) :: X)) (ws' := sC g Rs nw im S_6 ++ ((Rs 0, .inr (9, [])) :: X)) (As := []) (rest := []) E (mX1_ahead l g A Rs _ _ _ S_3 h_7) (kwX1_X1_ahead E ⟨Nat.le_of_ble_eq_true rfl, Nat.le_of_ble_eq_true rfl⟩) 0 1 rfl rfl rfl hw rfl hl.1 rfl (Nat.le_of_ble_eq_true rfl) dX1_items_35 ⟨Nat.le_of_ble_eq_true rfl, Nat.le_of_ble_eq_true rfl⟩ (fun H locs hw => ?_)
        refine lv_iconst (v := (-1 : Int32)) hx hb dX1_items_38 (by decide) ?_
        refine lv_icmp_eq (tgt := 121) hx hb dX1_items_39 (by decide) (fun c_8 => ?_) (fun c_8 => ?_)
        · replace hB_34 := fx_tt c_8 hB_34
          obtain rfl := fx_ex hB_34 hO_34
          replace hJ_31 := fx_sm_l hJ_31
          exact jn_121 S_6 hJ_31 _ _ _ hw (lv_sub hl [] rfl)
        · replace hB_34 := fx_ff c_8 hB_34
          refine lv_aload_n hx hb dX1_items_42 rfl (lv_at hl 1 rfl) ?_
          refine lv_aload_n hx hb dX1_items_43 rfl (lv_at hl 0 rfl) ?_
          replace hB_34 := fx_b1_e hB_34
          obtain ⟨r_9, h_10, hB_34⟩ := hB_34
          refine cx_cVi (r := r_9) (ws := sC g Rs nw im S_6 ++ ((Rs 0, .inr (9, [])) :: X)) (ws' := sC g Rs nw im S_6 ++ ((Rs 0, .inr (9, [])) :: X)) (As := []) (rest := [.ref (kS g 0)]) E (mX1_here l g A Rs _ _ _ S_6 h_10) (kwX1_X1_here E ⟨Nat.le_of_ble_eq_true rfl, Nat.le_of_ble_eq_true rfl⟩) 0 1 rfl rfl rfl hw rfl hl.1 rfl (Nat.le_of_ble_eq_true rfl) dX1_items_44 ⟨Nat.le_of_ble_eq_true rfl, Nat.le_of_ble_eq_true rfl⟩ (fun H locs hw => ?_)
          replace hB_34 := fx_b1_e hB_34
          obtain ⟨r_11, h_12, hB_34⟩ := hB_34
          refine cx_cRi (r := r_11) (ws := sC g Rs nw im S_6 ++ ((Rs 0, .inr (9, [])) :: X)) (ws' := sC g Rs nw im S_6 ++ ((Rs 0, .inr (9, [])) :: X)) (As := [.int r_9]) (rest := []) E (mJ2_indexOf l g A (sC g Rs nw im S_6 ++ ((Rs 0, .inr (9, [])) :: X)) 0 r_9 (by decide) h_12) (kwX1_J2_indexOf E ⟨Nat.le_of_ble_eq_true rfl, Nat.le_of_ble_eq_true rfl⟩) (ks_recv E (by decide) hw) hw rfl hl.1 rfl (Nat.le_of_ble_eq_true rfl) dX1_items_47 ⟨Nat.le_of_ble_eq_true rfl, Nat.le_of_ble_eq_true rfl⟩ (fun H locs hw => ?_)
          refine lv_if_lt (tgt := 121) hx hb dX1_items_50 (by decide) (fun c_13 => ?_) (fun c_13 => ?_)
          · replace hB_34 := fx_tt c_13 hB_34
            obtain rfl := fx_ex hB_34 hO_34
            replace hJ_31 := fx_sm_l hJ_31
            exact jn_121 S_6 hJ_31 _ _ _ hw (lv_sub hl [] rfl)
          · replace hB_34 := fx_ff c_13 hB_34
            refine lv_iload hx hb dX1_items_53 (lv_at hl 6 rfl) ?_
            refine lv_aload_n hx hb dX1_items_55 rfl (lv_at hl 1 rfl) ?_
            refine lv_aload_n hx hb dX1_items_56 rfl (lv_at hl 0 rfl) ?_
            replace hB_34 := fx_b1_e hB_34
            obtain ⟨r_14, h_15, hB_34⟩ := hB_34
            refine cx_cVi (r := r_14) (ws := sC g Rs nw im S_6 ++ ((Rs 0, .inr (9, [])) :: X)) (ws' := sC g Rs nw im S_6 ++ ((Rs 0, .inr (9, [])) :: X)) (As := []) (rest := [.ref (kS g 0), .int x7_4]) E (mX1_here l g A Rs _ _ _ S_6 h_15) (kwX1_X1_here E ⟨Nat.le_of_ble_eq_true rfl, Nat.le_of_ble_eq_true rfl⟩) 0 1 rfl rfl rfl hw rfl hl.1 rfl (Nat.le_of_ble_eq_true rfl) dX1_items_57 ⟨Nat.le_of_ble_eq_true rfl, Nat.le_of_ble_eq_true rfl⟩ (fun H locs hw => ?_)
            replace hB_34 := fx_b1_e hB_34
            obtain ⟨r_16, h_17, hB_34⟩ := hB_34
            refine cx_cRi (r := r_16) (ws := sC g Rs nw im S_6 ++ ((Rs 0, .inr (9, [])) :: X)) (ws' := sC g Rs nw im S_6 ++ ((Rs 0, .inr (9, [])) :: X)) (As := [.int r_14]) (rest := [.int x7_4]) E (mJ2_indexOf l g A (sC g Rs nw im S_6 ++ ((Rs 0, .inr (9, [])) :: X)) 0 r_14 (by decide) h_17) (kwX1_J2_indexOf E ⟨Nat.le_of_ble_eq_true rfl, Nat.le_of_ble_eq_true rfl⟩) (ks_recv E (by decide) hw) hw rfl hl.1 rfl (Nat.le_of_ble_eq_true rfl) dX1_items_60 ⟨Nat.le_of_ble_eq_true rfl, Nat.le_of_ble_eq_true rfl⟩ (fun H locs hw => ?_)
            replace hB_34 := fx_b1_e hB_34
            obtain ⟨r_18, h_19, hB_34⟩ := hB_34
            refine cx_cSi (r := r_18) (ws := sC g Rs nw im S_6 ++ ((Rs 0, .inr (9, [])) :: X)) (ws' := sC g Rs nw im S_6 ++ ((Rs 0, .inr (9, [])) :: X)) (As := [.int x7_4, .int r_16]) (rest := []) E (mX1_has l g A (sC g Rs nw im S_6 ++ ((Rs 0, .inr (9, [])) :: X)) x7_4 r_16 h_19) (kwX1_X1_has E ⟨Nat.le_of_ble_eq_true rfl, Nat.le_of_ble_eq_true rfl⟩) hw rfl hl.1 rfl (Nat.le_of_ble_eq_true rfl) dX1_items_63 ⟨Nat.le_of_ble_eq_true rfl, Nat.le_of_ble_eq_true rfl⟩ (fun H locs hw => ?_)
            refine lv_if_ne (tgt := 121) hx hb dX1_items_66 (by decide) (fun c_20 => ?_) (fun c_20 => ?_)
            · replace hB_34 := fx_ff c_20 hB_34
              obtain rfl := fx_ex hB_34 hO_34
              replace hJ_31 := fx_sm_l hJ_31
              exact jn_121 S_6 hJ_31 _ _ _ hw (lv_sub hl [] rfl)
            · replace hB_34 := fx_tt c_20 hB_34
              refine lv_aload_n hx hb dX1_items_69 rfl (lv_at hl 1 rfl) ?_
              refine lv_aload_n hx hb dX1_items_70 rfl (lv_at hl 0 rfl) ?_
              replace hB_34 := fx_b1_e hB_34
              obtain ⟨r_21, h_22, hB_34⟩ := hB_34
              refine cx_cVi (r := r_21) (ws := sC g Rs nw im S_6 ++ ((Rs 0, .inr (9, [])) :: X)) (ws' := sC g Rs nw im S_6 ++ ((Rs 0, .inr (9, [])) :: X)) (As := []) (rest := [.ref (kS g 0)]) E (mX1_here l g A Rs _ _ _ S_6 h_22) (kwX1_X1_here E ⟨Nat.le_of_ble_eq_true rfl, Nat.le_of_ble_eq_true rfl⟩) 0 1 rfl rfl rfl hw rfl hl.1 rfl (Nat.le_of_ble_eq_true rfl) dX1_items_71 ⟨Nat.le_of_ble_eq_true rfl, Nat.le_of_ble_eq_true rfl⟩ (fun H locs hw => ?_)
              replace hB_34 := fx_b1_e hB_34
              obtain ⟨r_23, h_24, hB_34⟩ := hB_34
              refine cx_cRi (r := r_23) (ws := sC g Rs nw im S_6 ++ ((Rs 0, .inr (9, [])) :: X)) (ws' := sC g Rs nw im S_6 ++ ((Rs 0, .inr (9, [])) :: X)) (As := [.int r_21]) (rest := []) E (mJ2_indexOf l g A (sC g Rs nw im S_6 ++ ((Rs 0, .inr (9, [])) :: X)) 0 r_21 (by decide) h_24) (kwX1_J2_indexOf E ⟨Nat.le_of_ble_eq_true rfl, Nat.le_of_ble_eq_true rfl⟩) (ks_recv E (by decide) hw) hw rfl hl.1 rfl (Nat.le_of_ble_eq_true rfl) dX1_items_74 ⟨Nat.le_of_ble_eq_true rfl, Nat.le_of_ble_eq_true rfl⟩ (fun H locs hw => ?_)
              refine lv_istore hx hb dX1_items_77 hl (by decide) rfl (fun ls hl => ?_)
              have hl : lv_has ls 9 [(8, .int r_23), (0, .ref (Rs 100)), (1, .ref (kS g 0)), (2, .ref (Rs 8)), (3, .ref (Rs 9)), (5, .ref (Rs 5)), (6, .int p1), (7, .int x7_4)] := hl
              refine lv_iload hx hb dX1_items_79 (lv_at hl 7 rfl) ?_
              refine lv_iconst (v := (1 : Int32)) hx hb dX1_items_81 (by decide) ?_
              refine lv_iload hx hb dX1_items_82 (lv_at hl 0 rfl) ?_
              refine lv_ishl hx hb dX1_items_84 ?_
              refine lv_ior hx hb dX1_items_85 ?_
              refine lv_topi (fun v_25 ev_25 => ?_)
              replace hB_34 := fx_lt_e ev_25 hB_34
              refine lv_istore hx hb dX1_items_86 hl (by decide) rfl (fun ls hl => ?_)
              have hl : lv_has ls 9 [(7, .int v_25), (8, .int r_23), (0, .ref (Rs 100)), (1, .ref (kS g 0)), (2, .ref (Rs 8)), (3, .ref (Rs 9)), (5, .ref (Rs 5)), (6, .int p1)] := hl
              refine lv_aload_n hx hb dX1_items_88 rfl (lv_at hl 2 rfl) ?_
              refine lv_dup hx hb dX1_items_89 rfl ?_
              refine gX1_3 E hw dX1_items_90 ?_
              refine lv_iconst (v := (1 : Int32)) hx hb dX1_items_93 (by decide) ?_
              refine lv_iadd hx hb dX1_items_94 ?_
              obtain ⟨S_26, eS_26⟩ : ∃ z : Sx, z = px_I S_6 3 ((gx_I S_6 3) + (1 : Int32)) := ⟨_, rfl⟩
              replace hB_34 := fx_lt_e eS_26 hB_34
              refine pX1_3 eS_26 E hw dX1_items_95 (fun H locs hw => ?_)
              refine lv_aload hx hb dX1_items_98 (lv_at hl 6 rfl) ?_
              refine lv_iload hx hb dX1_items_100 (lv_at hl 7 rfl) ?_
              refine lv_iload hx hb dX1_items_102 (lv_at hl 1 rfl) ?_
              refine lv_iadd hx hb dX1_items_104 ?_
              refine lv_aload_n hx hb dX1_items_105 rfl (lv_at hl 2 rfl) ?_
              refine lv_aload_n hx hb dX1_items_106 rfl (lv_at hl 4 rfl) ?_
              refine lv_iload hx hb dX1_items_107 (lv_at hl 1 rfl) ?_
              replace hB_34 := fx_gd_e hB_34
              obtain ⟨h_27, hB_34⟩ := hB_34
              refine raX1_8 E hw (fx_in_e h_27) dX1_items_109 ?_
              refine lv_aload_n hx hb dX1_items_110 rfl (lv_at hl 5 rfl) ?_
              refine lv_iload hx hb dX1_items_111 (lv_at hl 1 rfl) ?_
              replace hB_34 := fx_gd_e hB_34
              obtain ⟨h_28, hB_34⟩ := hB_34
              refine raX1_9 E hw (fx_in_e h_28) dX1_items_113 ?_
              replace hB_34 := fx_x2_e hB_34
              rcases hB_34 with ⟨r_30, S_31, h_29, hB_34⟩ | ⟨S_31, h_29, hB_34⟩
              · refine cx_cXi_n (r := r_30) (ws := sC g Rs nw im S_26 ++ ((Rs 0, .inr (9, [])) :: X)) (ws' := sC g Rs nw im S_31 ++ ((Rs 0, .inr (9, [])) :: X)) (As := [.int (gx_A S_26 8 r_23.toNatClampNeg), .int (gx_A S_26 9 r_23.toNatClampNeg)]) (rest := [.int (p1 + r_23), .ref (Rs 5)]) E (mX1_number l g A Rs _ _ _ S_26 (gx_A S_26 8 r_23.toNatClampNeg) (gx_A S_26 9 r_23.toNatClampNeg) h_29) (kwX1_X1_number E ⟨Nat.le_of_ble_eq_true rfl, Nat.le_of_ble_eq_true rfl⟩) 0 1 rfl rfl rfl hw rfl hl.1 rfl (Nat.le_of_ble_eq_true rfl) dX1_items_114 (fun H locs hw => ?_)
                replace hB_34 := fx_gd_e hB_34
                obtain ⟨h_32, hB_34⟩ := hB_34
                obtain ⟨S_33, eS_33⟩ : ∃ z : Sx, z = px_A S_31 5 (upd (gx_A S_31 5) (p1 + r_23).toNatClampNeg r_30) := ⟨_, rfl⟩
                replace hB_34 := fx_lt_e eS_33 hB_34
                refine rsX1_5 eS_33 E hw (fx_in_e h_32) dX1_items_117 (fun H locs hw => ?_)
                refine lv_goto (tgt := 34) hx hb dX1_items_118 (by decide) ?_
                exact ih_34 S_33 v_25 (fx_bk hB_34 hO_34) _ _ _ hw (lv_sub hl [2, 3, 4, 5, 6, 7, 0] rfl)
              · refine cx_cXi_t (ws := sC g Rs nw im S_26 ++ ((Rs 0, .inr (9, [])) :: X)) (ws' := sC g Rs nw im S_31 ++ ((Rs 0, .inr (9, [])) :: X)) (As := [.int (gx_A S_26 8 r_23.toNatClampNeg), .int (gx_A S_26 9 r_23.toNatClampNeg)]) (rest := [.int (p1 + r_23), .ref (Rs 5)]) E (mX1_number l g A Rs _ _ _ S_26 (gx_A S_26 8 r_23.toNatClampNeg) (gx_A S_26 9 r_23.toNatClampNeg) h_29) (kwX1_X1_number E ⟨Nat.le_of_ble_eq_true rfl, Nat.le_of_ble_eq_true rfl⟩) 0 1 rfl rfl rfl hw rfl hl.1 rfl (Nat.le_of_ble_eq_true rfl) dX1_items_114 (fun q_ H locs hw hT => ?_)
                obtain rfl := fx_ex hB_34 hO_34
                replace hJ_31 := fx_sm_r hJ_31
                obtain rfl := Option.some.inj hJ_31
                exact hthrow _ _ _ _ _ _ _ rfl hw hT
    exact key_34 _ S_1 (0 : Int32) hL_34 _ _ _ hw (lv_sub hl [1, 2, 3, 4, 5, 6, 0] rfl)
  replace hF := fx_b1_e hF
  obtain ⟨ex_3, hL_3, hF⟩ := hF
  have key_3 : ∀ (n_3 : Nat) (S_36 : Sx) (x7_37 : Int32), fx_lp (LX1_items_5_3 p1) n_3 (S_36, x7_37) = some ex_3 → ∀ (H : Heap) (locs : List Loc) (ls : Array Slot), cx_W g A s (sC g Rs nw im S_36 ++ ((Rs 0, .inr (9, [])) :: X)) H locs → lv_has ls 9 [(0, .ref (Rs 100)), (1, .ref (kS g 0)), (2, .ref (Rs 8)), (3, .ref (Rs 9)), (4, .ref (Rs 10)), (5, .ref (Rs 5)), (6, .int p1), (7, .int x7_37)] → W p l e rmX1_items s m av below meth c H locs 0 0 Q (F0 m 3 ls []) := by
    intro n_3
    induction n_3 with
    | zero => intro S_36 x7_37 hL_3; exact fx_lp_0 hL_3
    | succ n_3 ih_3 =>
      intro S_36 x7_37 hL_3 H locs ls hw hl
      replace hL_3 := fx_lp_s hL_3
      obtain ⟨o_3, hB_3, hO_3⟩ := hL_3
      unfold LX1_items_5_3 at hB_3
      replace hB_3 := fx_u2_e hB_3
      refine lv_iload hx hb dX1_items_3 (lv_at hl 7 rfl) ?_
      refine lv_aload_n hx hb dX1_items_5 rfl (lv_at hl 1 rfl) ?_
      replace hB_3 := fx_b1_e hB_3
      obtain ⟨r_38, h_39, hB_3⟩ := hB_3
      refine cx_cRi (r := r_38) (ws := sC g Rs nw im S_36 ++ ((Rs 0, .inr (9, [])) :: X)) (ws' := sC g Rs nw im S_36 ++ ((Rs 0, .inr (9, [])) :: X)) (As := []) (rest := [.int x7_37]) E (mJ2_length l g A (sC g Rs nw im S_36 ++ ((Rs 0, .inr (9, [])) :: X)) 0  (by decide) h_39) (kwX1_J2_length E ⟨Nat.le_of_ble_eq_true rfl, Nat.le_of_ble_eq_true rfl⟩) (ks_recv E (by decide) hw) hw rfl hl.1 rfl (Nat.le_of_ble_eq_true rfl) dX1_items_6 ⟨Nat.le_of_ble_eq_true rfl, Nat.le_of_ble_eq_true rfl⟩ (fun H locs hw => ?_)
      refine lv_icmp_ge (tgt := 31) hx hb dX1_items_9 (by decide) (fun c_40 => ?_) (fun c_40 => ?_)
      · replace hB_3 := fx_tt c_40 hB_3
        obtain rfl := fx_ex hB_3 hO_3
        exact jn_31 S_36 hF _ _ _ hw (lv_sub hl [0, 1, 2, 3, 5, 6] rfl)
      · replace hB_3 := fx_ff c_40 hB_3
        refine lv_aload hx hb dX1_items_12 (lv_at hl 5 rfl) ?_
        refine lv_iload hx hb dX1_items_14 (lv_at hl 6 rfl) ?_
        refine lv_iload hx hb dX1_items_16 (lv_at hl 7 rfl) ?_
        refine lv_iadd hx hb dX1_items_18 ?_
        refine lv_aload hx hb dX1_items_19 (lv_at hl 4 rfl) ?_
        refine lv_iload hx hb dX1_items_21 (lv_at hl 7 rfl) ?_
        replace hB_3 := fx_gd_e hB_3
        obtain ⟨h_41, hB_3⟩ := hB_3
        refine raX1_10 E hw (fx_in_e h_41) dX1_items_23 ?_
        replace hB_3 := fx_gd_e hB_3
        obtain ⟨h_42, hB_3⟩ := hB_3
        obtain ⟨S_43, eS_43⟩ : ∃ z : Sx, z = px_A S_36 5 (upd (gx_A S_36 5) (p1 + x7_37).toNatClampNeg (gx_A S_36 10 x7_37.toNatClampNeg)) := ⟨_, rfl⟩
        replace hB_3 := fx_lt_e eS_43 hB_3
        refine rsX1_5 eS_43 E hw (fx_in_e h_42) dX1_items_24 (fun H locs hw => ?_)
        obtain ⟨v_44, ev_44⟩ : ∃ z : Int32, z = x7_37 + (1 : Int32) := ⟨_, rfl⟩
        replace hB_3 := fx_lt_e ev_44 hB_3
        refine cx_iinc (z := (1 : Int32)) (v := v_44) hx hb dX1_items_25 hl (k := 7) rfl (by decide) ev_44 (by decide) rfl (fun ls hl => ?_)
        have hl : lv_has ls 9 [(7, .int v_44), (0, .ref (Rs 100)), (1, .ref (kS g 0)), (2, .ref (Rs 8)), (3, .ref (Rs 9)), (4, .ref (Rs 10)), (5, .ref (Rs 5)), (6, .int p1)] := hl
        refine lv_goto (tgt := 3) hx hb dX1_items_28 (by decide) ?_
        exact ih_3 S_43 v_44 (fx_bk hB_3 hO_3) _ _ _ hw (lv_sub hl [1, 2, 3, 4, 5, 6, 7, 0] rfl)
  exact key_3 _ S (0 : Int32) hL_3 _ _ _ hw (lv_sub hl [1, 2, 3, 4, 5, 6, 7, 0] rfl)
/-! X1_items_7 -/
def JX1_items_7_121 (S_2 : Sx) : Option (Sx ⊕ Sx) :=
  some (.inl S_2)
def LX1_items_7_34 (p1 : Int32) (q_ : Sx × Int32) : Option ((Sx × Int32) ⊕ ((Sx) ⊕ (Sx))) :=
  fx_u2 q_ (fun S_3 x7_4 => fx_b2 (FX1_ahead S_3) (fun r_5 S_6 => if r_5 = (-1 : Int32) then (some (.inr (.inl S_6))) else (fx_b1 (FX1_here S_6) (fun r_9 => fx_b1 (FJ2_indexOf 1 r_9) (fun r_11 => if r_11 < 0 then (some (.inr (.inl S_6))) else (fx_b1 (FX1_here S_6) (fun r_14 => fx_b1 (FJ2_indexOf 1 r_14) (fun r_16 => fx_b1 (FX1_has x7_4 r_16) (fun r_18 => if r_18 = 0 then (fx_b1 (FX1_here S_6) (fun r_21 => fx_b1 (FJ2_indexOf 1 r_21) (fun r_23 => fx_lt (x7_4 ||| ((1 : Int32) <<< (r_23 &&& 31))) (fun v_25 => fx_lt (px_I S_6 3 ((gx_I S_6 3) + (1 : Int32))) (fun S_26 => fx_gd (fx_in r_23 2) (fx_gd (fx_in r_23 2) (fx_x2 (FX1_number S_26 (gx_A S_26 11 r_23.toNatClampNeg) (gx_A S_26 12 r_23.toNatClampNeg)) (fun r_30 S_31 => fx_gd (fx_in (p1 + r_23) 32) (fx_lt (px_A S_31 7 (upd (gx_A S_31 7) (p1 + r_23).toNatClampNeg r_30)) (fun S_33 => some (.inl (S_33, v_25))))) (fun S_31 => some (.inr (.inr S_31)))))))))) else (some (.inr (.inl S_6))))))))))))
def JX1_items_7_31 (p1 : Int32) (S_1 : Sx) : Option (Sx ⊕ Sx) :=
  fx_b1 (fx_lp (LX1_items_7_34 p1) 2000 (S_1, (0 : Int32))) (fun q_ => fx_sm q_ (fun S_34 => JX1_items_7_121 S_34) (fun S_35 => some (.inr S_35)))
def LX1_items_7_3 (p1 : Int32) (q_ : Sx × Int32) : Option ((Sx × Int32) ⊕ (Sx)) :=
  fx_u2 q_ (fun S_36 x7_37 => fx_b1 (FJ2_length 1 ) (fun r_38 => if r_38 ≤ x7_37 then (some (.inr S_36)) else (fx_gd (fx_in x7_37 2) (fx_gd (fx_in (p1 + x7_37) 32) (fx_lt (px_A S_36 7 (upd (gx_A S_36 7) (p1 + x7_37).toNatClampNeg (gx_A S_36 13 x7_37.toNatClampNeg))) (fun S_43 => fx_lt (x7_37 + (1 : Int32)) (fun v_44 => some (.inl (S_43, v_44)))))))))
def FX1_items_7 (S : Sx) (p1 : Int32) : Option (Sx ⊕ Sx) :=
  fx_b1 (fx_lp (LX1_items_7_3 p1) 2000 (S, (0 : Int32))) (fun S_45 => JX1_items_7_31 p1 S_45)
set_option maxHeartbeats 4000000 in
set_option maxRecDepth 100000 in
theorem mX1_items_7 (l : Launch) (g : Gx) (A : Nat → Prop) (Rs : Nat → Nat) (nw im : Option Nat) (X : va_W) (S : Sx) (p1 : Int32) {o : Sx ⊕ Sx} (hF : FX1_items_7 S p1 = some o) :
    cx_xv l yX1_items cX1_items 9 rmX1_items [.ref (Rs 100), .ref (kS g 1), .ref (Rs 11), .ref (Rs 12), .ref (Rs 13), .ref (Rs 7), .int p1] g A (sC g Rs nw im S ++ ((Rs 0, .inr (9, [])) :: X)) (xo_v (fun S => sC g Rs nw im S ++ ((Rs 0, .inr (9, [])) :: X)) o) := by
  refine cx_xv_of (by decide) (Nat.le_of_ble_eq_true rfl) ?_
  intro p e s m av below meth c Q E hret hthrow H hw ls hl
  have E : cx_E p m meth c cX1_items 9 s av RX1 g A := E
  have hx := E.1.1
  have hb := E.1.2.1
  have hl : lv_has ls 9 [(0, .ref (Rs 100)), (1, .ref (kS g 1)), (2, .ref (Rs 11)), (3, .ref (Rs 12)), (4, .ref (Rs 13)), (5, .ref (Rs 7)), (6, .int p1)] := hl
  generalize hlc : ([] : List Loc) = locs at hw ⊢
  clear hlc
  unfold FX1_items_7 at hF
  refine lv_iconst (v := (0 : Int32)) hx hb dX1_items_0 (by decide) ?_
  refine lv_istore hx hb dX1_items_1 hl (by decide) rfl (fun ls hl => ?_)
  have hl : lv_has ls 9 [(7, .int (0 : Int32)), (0, .ref (Rs 100)), (1, .ref (kS g 1)), (2, .ref (Rs 11)), (3, .ref (Rs 12)), (4, .ref (Rs 13)), (5, .ref (Rs 7)), (6, .int p1)] := hl
  have jn_31 : ∀ (S_1 : Sx), JX1_items_7_31 p1 S_1 = some o → ∀ (H : Heap) (locs : List Loc) (ls : Array Slot), cx_W g A s (sC g Rs nw im S_1 ++ ((Rs 0, .inr (9, [])) :: X)) H locs → lv_has ls 9 [(0, .ref (Rs 100)), (1, .ref (kS g 1)), (2, .ref (Rs 11)), (3, .ref (Rs 12)), (5, .ref (Rs 7)), (6, .int p1)] → W p l e rmX1_items s m av below meth c H locs 0 0 Q (F0 m 31 ls []) := by
    intro S_1 hJ_31 H locs ls hw hl
    unfold JX1_items_7_31 at hJ_31
    refine lv_iconst (v := (0 : Int32)) hx hb dX1_items_31 (by decide) ?_
    refine lv_istore hx hb dX1_items_32 hl (by decide) rfl (fun ls hl => ?_)
    have hl : lv_has ls 9 [(7, .int (0 : Int32)), (0, .ref (Rs 100)), (1, .ref (kS g 1)), (2, .ref (Rs 11)), (3, .ref (Rs 12)), (5, .ref (Rs 7)), (6, .int p1)] := hl
    have jn_121 : ∀ (S_2 : Sx), JX1_items_7_121 S_2 = some o → ∀ (H : Heap) (locs : List Loc) (ls : Array Slot), cx_W g A s (sC g Rs nw im S_2 ++ ((Rs 0, .inr (9, [])) :: X)) H locs → lv_has ls 9 [] → W p l e rmX1_items s m av below meth c H locs 0 0 Q (F0 m 121 ls []) := by
      intro S_2 hJ_121 H locs ls hw hl
      unfold JX1_items_7_121 at hJ_121
      obtain rfl := Option.some.inj hJ_121
      exact hret _ _ _ _ _ rfl hw dX1_items_121
    replace hJ_31 := fx_b1_e hJ_31
    obtain ⟨ex_34, hL_34, hJ_31⟩ := hJ_31
    have key_34 : ∀ (n_34 : Nat) (S_3 : Sx) (x7_4 : Int32), fx_lp (LX1_items_7_34 p1) n_34 (S_3, x7_4) = some ex_34 → ∀ (H : Heap) (locs : List Loc) (ls : Array Slot), cx_W g A s (sC g Rs nw im S_3 ++ ((Rs 0, .inr (9, [])) :: X)) H locs → lv_has ls 9 [(0, .ref (Rs 100)), (1, .ref (kS g 1)), (2, .ref (Rs 11)), (3, .ref (Rs 12)), (5, .ref (Rs 7)), (6, .int p1), (7, .int x7_4)] → W p l e rmX1_items s m av below meth c H locs 0 0 Q (F0 m 34 ls []) := by
      intro n_34
      induction n_34 with
      | zero => intro S_3 x7_4 hL_34; exact fx_lp_0 hL_34
      | succ n_34 ih_34 =>
        intro S_3 x7_4 hL_34 H locs ls hw hl
        replace hL_34 := fx_lp_s hL_34
        obtain ⟨o_34, hB_34, hO_34⟩ := hL_34
        unfold LX1_items_7_34 at hB_34
        replace hB_34 := fx_u2_e hB_34
        refine lv_aload_n hx hb dX1_items_34 rfl (lv_at hl 0 rfl) ?_
        replace hB_34 := fx_b2_e hB_34
        obtain ⟨r_5, S_6, h_7, hB_34⟩ := hB_34
        refine cx_cVi (r := r_5) (ws := sC g Rs nw im S_3 ++ ((Rs 0, .inr (9, [])) :: X)) (ws' := sC g Rs nw im S_6 ++ ((Rs 0, .inr (9, [])) :: X)) (As := []) (rest := []) E (mX1_ahead l g A Rs _ _ _ S_3 h_7) (kwX1_X1_ahead E ⟨Nat.le_of_ble_eq_true rfl, Nat.le_of_ble_eq_true rfl⟩) 0 1 rfl rfl rfl hw rfl hl.1 rfl (Nat.le_of_ble_eq_true rfl) dX1_items_35 ⟨Nat.le_of_ble_eq_true rfl, Nat.le_of_ble_eq_true rfl⟩ (fun H locs hw => ?_)
        refine lv_iconst (v := (-1 : Int32)) hx hb dX1_items_38 (by decide) ?_
        refine lv_icmp_eq (tgt := 121) hx hb dX1_items_39 (by decide) (fun c_8 => ?_) (fun c_8 => ?_)
        · replace hB_34 := fx_tt c_8 hB_34
          obtain rfl := fx_ex hB_34 hO_34
          replace hJ_31 := fx_sm_l hJ_31
          exact jn_121 S_6 hJ_31 _ _ _ hw (lv_sub hl [] rfl)
        · replace hB_34 := fx_ff c_8 hB_34
          refine lv_aload_n hx hb dX1_items_42 rfl (lv_at hl 1 rfl) ?_
          refine lv_aload_n hx hb dX1_items_43 rfl (lv_at hl 0 rfl) ?_
          replace hB_34 := fx_b1_e hB_34
          obtain ⟨r_9, h_10, hB_34⟩ := hB_34
          refine cx_cVi (r := r_9) (ws := sC g Rs nw im S_6 ++ ((Rs 0, .inr (9, [])) :: X)) (ws' := sC g Rs nw im S_6 ++ ((Rs 0, .inr (9, [])) :: X)) (As := []) (rest := [.ref (kS g 1)]) E (mX1_here l g A Rs _ _ _ S_6 h_10) (kwX1_X1_here E ⟨Nat.le_of_ble_eq_true rfl, Nat.le_of_ble_eq_true rfl⟩) 0 1 rfl rfl rfl hw rfl hl.1 rfl (Nat.le_of_ble_eq_true rfl) dX1_items_44 ⟨Nat.le_of_ble_eq_true rfl, Nat.le_of_ble_eq_true rfl⟩ (fun H locs hw => ?_)
          replace hB_34 := fx_b1_e hB_34
          obtain ⟨r_11, h_12, hB_34⟩ := hB_34
          refine cx_cRi (r := r_11) (ws := sC g Rs nw im S_6 ++ ((Rs 0, .inr (9, [])) :: X)) (ws' := sC g Rs nw im S_6 ++ ((Rs 0, .inr (9, [])) :: X)) (As := [.int r_9]) (rest := []) E (mJ2_indexOf l g A (sC g Rs nw im S_6 ++ ((Rs 0, .inr (9, [])) :: X)) 1 r_9 (by decide) h_12) (kwX1_J2_indexOf E ⟨Nat.le_of_ble_eq_true rfl, Nat.le_of_ble_eq_true rfl⟩) (ks_recv E (by decide) hw) hw rfl hl.1 rfl (Nat.le_of_ble_eq_true rfl) dX1_items_47 ⟨Nat.le_of_ble_eq_true rfl, Nat.le_of_ble_eq_true rfl⟩ (fun H locs hw => ?_)
          refine lv_if_lt (tgt := 121) hx hb dX1_items_50 (by decide) (fun c_13 => ?_) (fun c_13 => ?_)
          · replace hB_34 := fx_tt c_13 hB_34
            obtain rfl := fx_ex hB_34 hO_34
            replace hJ_31 := fx_sm_l hJ_31
            exact jn_121 S_6 hJ_31 _ _ _ hw (lv_sub hl [] rfl)
          · replace hB_34 := fx_ff c_13 hB_34
            refine lv_iload hx hb dX1_items_53 (lv_at hl 6 rfl) ?_
            refine lv_aload_n hx hb dX1_items_55 rfl (lv_at hl 1 rfl) ?_
            refine lv_aload_n hx hb dX1_items_56 rfl (lv_at hl 0 rfl) ?_
            replace hB_34 := fx_b1_e hB_34
            obtain ⟨r_14, h_15, hB_34⟩ := hB_34
            refine cx_cVi (r := r_14) (ws := sC g Rs nw im S_6 ++ ((Rs 0, .inr (9, [])) :: X)) (ws' := sC g Rs nw im S_6 ++ ((Rs 0, .inr (9, [])) :: X)) (As := []) (rest := [.ref (kS g 1), .int x7_4]) E (mX1_here l g A Rs _ _ _ S_6 h_15) (kwX1_X1_here E ⟨Nat.le_of_ble_eq_true rfl, Nat.le_of_ble_eq_true rfl⟩) 0 1 rfl rfl rfl hw rfl hl.1 rfl (Nat.le_of_ble_eq_true rfl) dX1_items_57 ⟨Nat.le_of_ble_eq_true rfl, Nat.le_of_ble_eq_true rfl⟩ (fun H locs hw => ?_)
            replace hB_34 := fx_b1_e hB_34
            obtain ⟨r_16, h_17, hB_34⟩ := hB_34
            refine cx_cRi (r := r_16) (ws := sC g Rs nw im S_6 ++ ((Rs 0, .inr (9, [])) :: X)) (ws' := sC g Rs nw im S_6 ++ ((Rs 0, .inr (9, [])) :: X)) (As := [.int r_14]) (rest := [.int x7_4]) E (mJ2_indexOf l g A (sC g Rs nw im S_6 ++ ((Rs 0, .inr (9, [])) :: X)) 1 r_14 (by decide) h_17) (kwX1_J2_indexOf E ⟨Nat.le_of_ble_eq_true rfl, Nat.le_of_ble_eq_true rfl⟩) (ks_recv E (by decide) hw) hw rfl hl.1 rfl (Nat.le_of_ble_eq_true rfl) dX1_items_60 ⟨Nat.le_of_ble_eq_true rfl, Nat.le_of_ble_eq_true rfl⟩ (fun H locs hw => ?_)
            replace hB_34 := fx_b1_e hB_34
            obtain ⟨r_18, h_19, hB_34⟩ := hB_34
            refine cx_cSi (r := r_18) (ws := sC g Rs nw im S_6 ++ ((Rs 0, .inr (9, [])) :: X)) (ws' := sC g Rs nw im S_6 ++ ((Rs 0, .inr (9, [])) :: X)) (As := [.int x7_4, .int r_16]) (rest := []) E (mX1_has l g A (sC g Rs nw im S_6 ++ ((Rs 0, .inr (9, [])) :: X)) x7_4 r_16 h_19) (kwX1_X1_has E ⟨Nat.le_of_ble_eq_true rfl, Nat.le_of_ble_eq_true rfl⟩) hw rfl hl.1 rfl (Nat.le_of_ble_eq_true rfl) dX1_items_63 ⟨Nat.le_of_ble_eq_true rfl, Nat.le_of_ble_eq_true rfl⟩ (fun H locs hw => ?_)
            refine lv_if_ne (tgt := 121) hx hb dX1_items_66 (by decide) (fun c_20 => ?_) (fun c_20 => ?_)
            · replace hB_34 := fx_ff c_20 hB_34
              obtain rfl := fx_ex hB_34 hO_34
              replace hJ_31 := fx_sm_l hJ_31
              exact jn_121 S_6 hJ_31 _ _ _ hw (lv_sub hl [] rfl)
            · replace hB_34 := fx_tt c_20 hB_34
              refine lv_aload_n hx hb dX1_items_69 rfl (lv_at hl 1 rfl) ?_
              refine lv_aload_n hx hb dX1_items_70 rfl (lv_at hl 0 rfl) ?_
              replace hB_34 := fx_b1_e hB_34
              obtain ⟨r_21, h_22, hB_34⟩ := hB_34
              refine cx_cVi (r := r_21) (ws := sC g Rs nw im S_6 ++ ((Rs 0, .inr (9, [])) :: X)) (ws' := sC g Rs nw im S_6 ++ ((Rs 0, .inr (9, [])) :: X)) (As := []) (rest := [.ref (kS g 1)]) E (mX1_here l g A Rs _ _ _ S_6 h_22) (kwX1_X1_here E ⟨Nat.le_of_ble_eq_true rfl, Nat.le_of_ble_eq_true rfl⟩) 0 1 rfl rfl rfl hw rfl hl.1 rfl (Nat.le_of_ble_eq_true rfl) dX1_items_71 ⟨Nat.le_of_ble_eq_true rfl, Nat.le_of_ble_eq_true rfl⟩ (fun H locs hw => ?_)
              replace hB_34 := fx_b1_e hB_34
              obtain ⟨r_23, h_24, hB_34⟩ := hB_34
              refine cx_cRi (r := r_23) (ws := sC g Rs nw im S_6 ++ ((Rs 0, .inr (9, [])) :: X)) (ws' := sC g Rs nw im S_6 ++ ((Rs 0, .inr (9, [])) :: X)) (As := [.int r_21]) (rest := []) E (mJ2_indexOf l g A (sC g Rs nw im S_6 ++ ((Rs 0, .inr (9, [])) :: X)) 1 r_21 (by decide) h_24) (kwX1_J2_indexOf E ⟨Nat.le_of_ble_eq_true rfl, Nat.le_of_ble_eq_true rfl⟩) (ks_recv E (by decide) hw) hw rfl hl.1 rfl (Nat.le_of_ble_eq_true rfl) dX1_items_74 ⟨Nat.le_of_ble_eq_true rfl, Nat.le_of_ble_eq_true rfl⟩ (fun H locs hw => ?_)
              refine lv_istore hx hb dX1_items_77 hl (by decide) rfl (fun ls hl => ?_)
              have hl : lv_has ls 9 [(8, .int r_23), (0, .ref (Rs 100)), (1, .ref (kS g 1)), (2, .ref (Rs 11)), (3, .ref (Rs 12)), (5, .ref (Rs 7)), (6, .int p1), (7, .int x7_4)] := hl
              refine lv_iload hx hb dX1_items_79 (lv_at hl 7 rfl) ?_
              refine lv_iconst (v := (1 : Int32)) hx hb dX1_items_81 (by decide) ?_
              refine lv_iload hx hb dX1_items_82 (lv_at hl 0 rfl) ?_
              refine lv_ishl hx hb dX1_items_84 ?_
              refine lv_ior hx hb dX1_items_85 ?_
              refine lv_topi (fun v_25 ev_25 => ?_)
              replace hB_34 := fx_lt_e ev_25 hB_34
              refine lv_istore hx hb dX1_items_86 hl (by decide) rfl (fun ls hl => ?_)
              have hl : lv_has ls 9 [(7, .int v_25), (8, .int r_23), (0, .ref (Rs 100)), (1, .ref (kS g 1)), (2, .ref (Rs 11)), (3, .ref (Rs 12)), (5, .ref (Rs 7)), (6, .int p1)] := hl
              refine lv_aload_n hx hb dX1_items_88 rfl (lv_at hl 2 rfl) ?_
              refine lv_dup hx hb dX1_items_89 rfl ?_
              refine gX1_3 E hw dX1_items_90 ?_
              refine lv_iconst (v := (1 : Int32)) hx hb dX1_items_93 (by decide) ?_
              refine lv_iadd hx hb dX1_items_94 ?_
              obtain ⟨S_26, eS_26⟩ : ∃ z : Sx, z = px_I S_6 3 ((gx_I S_6 3) + (1 : Int32)) := ⟨_, rfl⟩
              replace hB_34 := fx_lt_e eS_26 hB_34
              refine pX1_3 eS_26 E hw dX1_items_95 (fun H locs hw => ?_)
              refine lv_aload hx hb dX1_items_98 (lv_at hl 6 rfl) ?_
              refine lv_iload hx hb dX1_items_100 (lv_at hl 7 rfl) ?_
              refine lv_iload hx hb dX1_items_102 (lv_at hl 1 rfl) ?_
              refine lv_iadd hx hb dX1_items_104 ?_
              refine lv_aload_n hx hb dX1_items_105 rfl (lv_at hl 2 rfl) ?_
              refine lv_aload_n hx hb dX1_items_106 rfl (lv_at hl 4 rfl) ?_
              refine lv_iload hx hb dX1_items_107 (lv_at hl 1 rfl) ?_
              replace hB_34 := fx_gd_e hB_34
              obtain ⟨h_27, hB_34⟩ := hB_34
              refine raX1_11 E hw (fx_in_e h_27) dX1_items_109 ?_
              refine lv_aload_n hx hb dX1_items_110 rfl (lv_at hl 5 rfl) ?_
              refine lv_iload hx hb dX1_items_111 (lv_at hl 1 rfl) ?_
              replace hB_34 := fx_gd_e hB_34
              obtain ⟨h_28, hB_34⟩ := hB_34
              refine raX1_12 E hw (fx_in_e h_28) dX1_items_113 ?_
              replace hB_34 := fx_x2_e hB_34
              rcases hB_34 with ⟨r_30, S_31, h_29, hB_34⟩ | ⟨S_31, h_29, hB_34⟩
              · refine cx_cXi_n (r := r_30) (ws := sC g Rs nw im S_26 ++ ((Rs 0, .inr (9, [])) :: X)) (ws' := sC g Rs nw im S_31 ++ ((Rs 0, .inr (9, [])) :: X)) (As := [.int (gx_A S_26 11 r_23.toNatClampNeg), .int (gx_A S_26 12 r_23.toNatClampNeg)]) (rest := [.int (p1 + r_23), .ref (Rs 7)]) E (mX1_number l g A Rs _ _ _ S_26 (gx_A S_26 11 r_23.toNatClampNeg) (gx_A S_26 12 r_23.toNatClampNeg) h_29) (kwX1_X1_number E ⟨Nat.le_of_ble_eq_true rfl, Nat.le_of_ble_eq_true rfl⟩) 0 1 rfl rfl rfl hw rfl hl.1 rfl (Nat.le_of_ble_eq_true rfl) dX1_items_114 (fun H locs hw => ?_)
                replace hB_34 := fx_gd_e hB_34
                obtain ⟨h_32, hB_34⟩ := hB_34
                obtain ⟨S_33, eS_33⟩ : ∃ z : Sx, z = px_A S_31 7 (upd (gx_A S_31 7) (p1 + r_23).toNatClampNeg r_30) := ⟨_, rfl⟩
                replace hB_34 := fx_lt_e eS_33 hB_34
                refine rsX1_7 eS_33 E hw (fx_in_e h_32) dX1_items_117 (fun H locs hw => ?_)
                refine lv_goto (tgt := 34) hx hb dX1_items_118 (by decide) ?_
                exact ih_34 S_33 v_25 (fx_bk hB_34 hO_34) _ _ _ hw (lv_sub hl [2, 3, 4, 5, 6, 7, 0] rfl)
              · refine cx_cXi_t (ws := sC g Rs nw im S_26 ++ ((Rs 0, .inr (9, [])) :: X)) (ws' := sC g Rs nw im S_31 ++ ((Rs 0, .inr (9, [])) :: X)) (As := [.int (gx_A S_26 11 r_23.toNatClampNeg), .int (gx_A S_26 12 r_23.toNatClampNeg)]) (rest := [.int (p1 + r_23), .ref (Rs 7)]) E (mX1_number l g A Rs _ _ _ S_26 (gx_A S_26 11 r_23.toNatClampNeg) (gx_A S_26 12 r_23.toNatClampNeg) h_29) (kwX1_X1_number E ⟨Nat.le_of_ble_eq_true rfl, Nat.le_of_ble_eq_true rfl⟩) 0 1 rfl rfl rfl hw rfl hl.1 rfl (Nat.le_of_ble_eq_true rfl) dX1_items_114 (fun q_ H locs hw hT => ?_)
                obtain rfl := fx_ex hB_34 hO_34
                replace hJ_31 := fx_sm_r hJ_31
                obtain rfl := Option.some.inj hJ_31
                exact hthrow _ _ _ _ _ _ _ rfl hw hT
    exact key_34 _ S_1 (0 : Int32) hL_34 _ _ _ hw (lv_sub hl [1, 2, 3, 4, 5, 6, 0] rfl)
  replace hF := fx_b1_e hF
  obtain ⟨ex_3, hL_3, hF⟩ := hF
  have key_3 : ∀ (n_3 : Nat) (S_36 : Sx) (x7_37 : Int32), fx_lp (LX1_items_7_3 p1) n_3 (S_36, x7_37) = some ex_3 → ∀ (H : Heap) (locs : List Loc) (ls : Array Slot), cx_W g A s (sC g Rs nw im S_36 ++ ((Rs 0, .inr (9, [])) :: X)) H locs → lv_has ls 9 [(0, .ref (Rs 100)), (1, .ref (kS g 1)), (2, .ref (Rs 11)), (3, .ref (Rs 12)), (4, .ref (Rs 13)), (5, .ref (Rs 7)), (6, .int p1), (7, .int x7_37)] → W p l e rmX1_items s m av below meth c H locs 0 0 Q (F0 m 3 ls []) := by
    intro n_3
    induction n_3 with
    | zero => intro S_36 x7_37 hL_3; exact fx_lp_0 hL_3
    | succ n_3 ih_3 =>
      intro S_36 x7_37 hL_3 H locs ls hw hl
      replace hL_3 := fx_lp_s hL_3
      obtain ⟨o_3, hB_3, hO_3⟩ := hL_3
      unfold LX1_items_7_3 at hB_3
      replace hB_3 := fx_u2_e hB_3
      refine lv_iload hx hb dX1_items_3 (lv_at hl 7 rfl) ?_
      refine lv_aload_n hx hb dX1_items_5 rfl (lv_at hl 1 rfl) ?_
      replace hB_3 := fx_b1_e hB_3
      obtain ⟨r_38, h_39, hB_3⟩ := hB_3
      refine cx_cRi (r := r_38) (ws := sC g Rs nw im S_36 ++ ((Rs 0, .inr (9, [])) :: X)) (ws' := sC g Rs nw im S_36 ++ ((Rs 0, .inr (9, [])) :: X)) (As := []) (rest := [.int x7_37]) E (mJ2_length l g A (sC g Rs nw im S_36 ++ ((Rs 0, .inr (9, [])) :: X)) 1  (by decide) h_39) (kwX1_J2_length E ⟨Nat.le_of_ble_eq_true rfl, Nat.le_of_ble_eq_true rfl⟩) (ks_recv E (by decide) hw) hw rfl hl.1 rfl (Nat.le_of_ble_eq_true rfl) dX1_items_6 ⟨Nat.le_of_ble_eq_true rfl, Nat.le_of_ble_eq_true rfl⟩ (fun H locs hw => ?_)
      refine lv_icmp_ge (tgt := 31) hx hb dX1_items_9 (by decide) (fun c_40 => ?_) (fun c_40 => ?_)
      · replace hB_3 := fx_tt c_40 hB_3
        obtain rfl := fx_ex hB_3 hO_3
        exact jn_31 S_36 hF _ _ _ hw (lv_sub hl [0, 1, 2, 3, 5, 6] rfl)
      · replace hB_3 := fx_ff c_40 hB_3
        refine lv_aload hx hb dX1_items_12 (lv_at hl 5 rfl) ?_
        refine lv_iload hx hb dX1_items_14 (lv_at hl 6 rfl) ?_
        refine lv_iload hx hb dX1_items_16 (lv_at hl 7 rfl) ?_
        refine lv_iadd hx hb dX1_items_18 ?_
        refine lv_aload hx hb dX1_items_19 (lv_at hl 4 rfl) ?_
        refine lv_iload hx hb dX1_items_21 (lv_at hl 7 rfl) ?_
        replace hB_3 := fx_gd_e hB_3
        obtain ⟨h_41, hB_3⟩ := hB_3
        refine raX1_13 E hw (fx_in_e h_41) dX1_items_23 ?_
        replace hB_3 := fx_gd_e hB_3
        obtain ⟨h_42, hB_3⟩ := hB_3
        obtain ⟨S_43, eS_43⟩ : ∃ z : Sx, z = px_A S_36 7 (upd (gx_A S_36 7) (p1 + x7_37).toNatClampNeg (gx_A S_36 13 x7_37.toNatClampNeg)) := ⟨_, rfl⟩
        replace hB_3 := fx_lt_e eS_43 hB_3
        refine rsX1_7 eS_43 E hw (fx_in_e h_42) dX1_items_24 (fun H locs hw => ?_)
        obtain ⟨v_44, ev_44⟩ : ∃ z : Int32, z = x7_37 + (1 : Int32) := ⟨_, rfl⟩
        replace hB_3 := fx_lt_e ev_44 hB_3
        refine cx_iinc (z := (1 : Int32)) (v := v_44) hx hb dX1_items_25 hl (k := 7) rfl (by decide) ev_44 (by decide) rfl (fun ls hl => ?_)
        have hl : lv_has ls 9 [(7, .int v_44), (0, .ref (Rs 100)), (1, .ref (kS g 1)), (2, .ref (Rs 11)), (3, .ref (Rs 12)), (4, .ref (Rs 13)), (5, .ref (Rs 7)), (6, .int p1)] := hl
        refine lv_goto (tgt := 3) hx hb dX1_items_28 (by decide) ?_
        exact ih_3 S_43 v_44 (fx_bk hB_3 hO_3) _ _ _ hw (lv_sub hl [1, 2, 3, 4, 5, 6, 7, 0] rfl)
  exact key_3 _ S (0 : Int32) hL_3 _ _ _ hw (lv_sub hl [1, 2, 3, 4, 5, 6, 7, 0] rfl)
/-! X1_wholeShelf -/
def JX1_wholeShelf_210 (S_6 : Sx) (t_8 : Int32) : Option (Sx ⊕ Sx) :=
  fx_x1 (FX1_must S_6 t_8) (fun S_10 => some (.inl S_10)) (fun S_10 => some (.inr S_10))
def JX1_wholeShelf_196 (S_4 : Sx) : Option (Sx ⊕ Sx) :=
  fx_b2 (FX1_ahead S_4) (fun r_5 S_6 => if r_5 = (-1 : Int32) then (JX1_wholeShelf_210 S_6 (1 : Int32)) else (JX1_wholeShelf_210 S_6 (0 : Int32)))
def JX1_wholeShelf_193 (S_29 : Sx) (x1_23 : Int32) (t_28 : Int32) : Option ((Sx × Int32 × Int32) ⊕ ((Sx) ⊕ (Sx))) :=
  some (.inl (S_29, x1_23, t_28))
def JX1_wholeShelf_178 (t_28 : Int32) (S_26 : Sx) (x1_23 : Int32) : Option ((Sx × Int32 × Int32) ⊕ ((Sx) ⊕ (Sx))) :=
  if t_28 = 0 then (JX1_wholeShelf_193 S_26 x1_23 t_28) else (fx_lt (px_I S_26 3 ((gx_I S_26 3) + (1 : Int32))) (fun S_31 => JX1_wholeShelf_193 S_31 x1_23 t_28))
def JX1_wholeShelf_164 (S_24 : Sx) (x1_23 : Int32) : Option ((Sx × Int32 × Int32) ⊕ ((Sx) ⊕ (Sx))) :=
  fx_b2 (FX1_ahead S_24) (fun r_25 S_26 => if r_25 = (59 : Int32) then (JX1_wholeShelf_178 (1 : Int32) S_26 x1_23) else (JX1_wholeShelf_178 (0 : Int32) S_26 x1_23))
def JX1_wholeShelf_79 (S_17 : Sx) (t_19 : Int32) (r_16 : Int32) (x1_13 : Int32) : Option ((Sx × Int32 × Int32) ⊕ ((Sx) ⊕ (Sx))) :=
  fx_x1 (FX1_must S_17 t_19) (fun S_21 => fx_lt (px_I S_21 3 ((gx_I S_21 3) + (1 : Int32))) (fun S_22 => if r_16 = (115 : Int32) then (fx_x1 (FX1_items_5 S_22 (0 : Int32)) (fun S_38 => JX1_wholeShelf_164 S_38 (1 : Int32)) (fun S_38 => some (.inr (.inr S_38)))) else (fx_x1 (FX1_items_7 S_22 ((2 : Int32) * (gx_I S_22 4))) (fun S_35 => fx_lt (px_I S_35 4 ((gx_I S_35 4) + (1 : Int32))) (fun S_36 => JX1_wholeShelf_164 S_36 x1_13)) (fun S_35 => some (.inr (.inr S_35)))))) (fun S_21 => some (.inr (.inr S_21)))
def JX1_wholeShelf_74 (S_17 : Sx) (r_16 : Int32) (x1_13 : Int32) : Option ((Sx × Int32 × Int32) ⊕ ((Sx) ⊕ (Sx))) :=
  JX1_wholeShelf_79 S_17 (1 : Int32) r_16 x1_13
def JX1_wholeShelf_78 (S_17 : Sx) (r_16 : Int32) (x1_13 : Int32) : Option ((Sx × Int32 × Int32) ⊕ ((Sx) ⊕ (Sx))) :=
  JX1_wholeShelf_79 S_17 (0 : Int32) r_16 x1_13
def JX1_wholeShelf_59 (r_16 : Int32) (S_17 : Sx) (x1_13 : Int32) : Option ((Sx × Int32 × Int32) ⊕ ((Sx) ⊕ (Sx))) :=
  if r_16 = (118 : Int32) then (if (16 : Int32) ≤ (gx_I S_17 4) then (JX1_wholeShelf_78 S_17 r_16 x1_13) else (JX1_wholeShelf_74 S_17 r_16 x1_13)) else (JX1_wholeShelf_78 S_17 r_16 x1_13)
def LX1_wholeShelf_39  (q_ : Sx × Int32 × Int32) : Option ((Sx × Int32 × Int32) ⊕ ((Sx) ⊕ (Sx))) :=
  fx_u3 q_ (fun S_12 x1_13 x2_14 => if x2_14 = 0 then (some (.inr (.inl S_12))) else (fx_b2 (FX1_ahead S_12) (fun r_16 S_17 => if r_16 = (115 : Int32) then (if x1_13 = 0 then (JX1_wholeShelf_74 S_17 r_16 x1_13) else (JX1_wholeShelf_59 r_16 S_17 x1_13)) else (JX1_wholeShelf_59 r_16 S_17 x1_13))))
def JX1_wholeShelf_35 (S_3 : Sx) : Option (Sx ⊕ Sx) :=
  fx_b1 (fx_lp (LX1_wholeShelf_39) 2000 (S_3, (0 : Int32), (1 : Int32))) (fun q_ => fx_sm q_ (fun S_43 => JX1_wholeShelf_196 S_43) (fun S_44 => some (.inr S_44)))
def LX1_wholeShelf_12  (q_ : Sx × Int32) : Option ((Sx × Int32) ⊕ (Sx)) :=
  fx_u2 q_ (fun S_45 x1_46 => if (5 : Int32) ≤ x1_46 then (some (.inr S_45)) else (fx_gd (fx_in x1_46 5) (fx_gd (fx_in x1_46 5) (fx_lt (px_A S_45 5 (upd (gx_A S_45 5) x1_46.toNatClampNeg (gx_A S_45 10 x1_46.toNatClampNeg))) (fun S_50 => fx_lt (x1_46 + (1 : Int32)) (fun v_51 => some (.inl (S_50, v_51))))))))
def FX1_wholeShelf (S : Sx) : Option (Sx ⊕ Sx) :=
  fx_lt (px_I S 3 (0 : Int32)) (fun S_1 => fx_lt (px_I S_1 4 (0 : Int32)) (fun S_2 => fx_b1 (fx_lp (LX1_wholeShelf_12) 2000 (S_2, (0 : Int32))) (fun S_52 => JX1_wholeShelf_35 S_52)))
set_option maxHeartbeats 4000000 in
set_option maxRecDepth 100000 in
theorem mX1_wholeShelf (l : Launch) (g : Gx) (A : Nat → Prop) (Rs : Nat → Nat) (nw im : Option Nat) (X : va_W) (S : Sx) {o : Sx ⊕ Sx} (hF : FX1_wholeShelf S = some o) :
    cx_xv l yX1_wholeShelf cX1_wholeShelf 4 rmX1_wholeShelf [.ref (Rs 100)] g A (sC g Rs nw im S ++ ((Rs 0, .inr (9, [])) :: X)) (xo_v (fun S => sC g Rs nw im S ++ ((Rs 0, .inr (9, [])) :: X)) o) := by
  refine cx_xv_of (by decide) (Nat.le_of_ble_eq_true rfl) ?_
  intro p e s m av below meth c Q E hret hthrow H hw ls hl
  have E : cx_E p m meth c cX1_wholeShelf 4 s av RX1 g A := E
  have hx := E.1.1
  have hb := E.1.2.1
  have hl : lv_has ls 4 [(0, .ref (Rs 100))] := hl
  generalize hlc : ([] : List Loc) = locs at hw ⊢
  clear hlc
  unfold FX1_wholeShelf at hF
  refine lv_aload_n hx hb dX1_wholeShelf_0 rfl (lv_at hl 0 rfl) ?_
  refine lv_iconst (v := (0 : Int32)) hx hb dX1_wholeShelf_1 (by decide) ?_
  obtain ⟨S_1, eS_1⟩ : ∃ z : Sx, z = px_I S 3 (0 : Int32) := ⟨_, rfl⟩
  replace hF := fx_lt_e eS_1 hF
  refine pX1_3 eS_1 E hw dX1_wholeShelf_2 (fun H locs hw => ?_)
  refine lv_aload_n hx hb dX1_wholeShelf_5 rfl (lv_at hl 0 rfl) ?_
  refine lv_iconst (v := (0 : Int32)) hx hb dX1_wholeShelf_6 (by decide) ?_
  obtain ⟨S_2, eS_2⟩ : ∃ z : Sx, z = px_I S_1 4 (0 : Int32) := ⟨_, rfl⟩
  replace hF := fx_lt_e eS_2 hF
  refine pX1_4 eS_2 E hw dX1_wholeShelf_7 (fun H locs hw => ?_)
  refine lv_iconst (v := (0 : Int32)) hx hb dX1_wholeShelf_10 (by decide) ?_
  refine lv_istore_n hx hb dX1_wholeShelf_11 rfl hl (by decide) rfl (fun ls hl => ?_)
  have hl : lv_has ls 4 [(1, .int (0 : Int32)), (0, .ref (Rs 100))] := hl
  have jn_35 : ∀ (S_3 : Sx), JX1_wholeShelf_35 S_3 = some o → ∀ (H : Heap) (locs : List Loc) (ls : Array Slot), cx_W g A s (sC g Rs nw im S_3 ++ ((Rs 0, .inr (9, [])) :: X)) H locs → lv_has ls 4 [(0, .ref (Rs 100))] → W p l e rmX1_wholeShelf s m av below meth c H locs 0 0 Q (F0 m 35 ls []) := by
    intro S_3 hJ_35 H locs ls hw hl
    unfold JX1_wholeShelf_35 at hJ_35
    refine lv_iconst (v := (0 : Int32)) hx hb dX1_wholeShelf_35 (by decide) ?_
    refine lv_istore_n hx hb dX1_wholeShelf_36 rfl hl (by decide) rfl (fun ls hl => ?_)
    have hl : lv_has ls 4 [(1, .int (0 : Int32)), (0, .ref (Rs 100))] := hl
    refine lv_iconst (v := (1 : Int32)) hx hb dX1_wholeShelf_37 (by decide) ?_
    refine lv_istore_n hx hb dX1_wholeShelf_38 rfl hl (by decide) rfl (fun ls hl => ?_)
    have hl : lv_has ls 4 [(2, .int (1 : Int32)), (1, .int (0 : Int32)), (0, .ref (Rs 100))] := hl
    have jn_196 : ∀ (S_4 : Sx), JX1_wholeShelf_196 S_4 = some o → ∀ (H : Heap) (locs : List Loc) (ls : Array Slot), cx_W g A s (sC g Rs nw im S_4 ++ ((Rs 0, .inr (9, [])) :: X)) H locs → lv_has ls 4 [(0, .ref (Rs 100))] → W p l e rmX1_wholeShelf s m av below meth c H locs 0 0 Q (F0 m 196 ls []) := by
      intro S_4 hJ_196 H locs ls hw hl
      unfold JX1_wholeShelf_196 at hJ_196
      refine lv_aload_n hx hb dX1_wholeShelf_196 rfl (lv_at hl 0 rfl) ?_
      refine lv_aload_n hx hb dX1_wholeShelf_197 rfl (lv_at hl 0 rfl) ?_
      replace hJ_196 := fx_b2_e hJ_196
      obtain ⟨r_5, S_6, h_7, hJ_196⟩ := hJ_196
      refine cx_cVi (r := r_5) (ws := sC g Rs nw im S_4 ++ ((Rs 0, .inr (9, [])) :: X)) (ws' := sC g Rs nw im S_6 ++ ((Rs 0, .inr (9, [])) :: X)) (As := []) (rest := [.ref (Rs 100)]) E (mX1_ahead l g A Rs _ _ _ S_4 h_7) (kwX1_X1_ahead E ⟨Nat.le_of_ble_eq_true rfl, Nat.le_of_ble_eq_true rfl⟩) 0 1 rfl rfl rfl hw rfl hl.1 rfl (Nat.le_of_ble_eq_true rfl) dX1_wholeShelf_198 ⟨Nat.le_of_ble_eq_true rfl, Nat.le_of_ble_eq_true rfl⟩ (fun H locs hw => ?_)
      refine lv_iconst (v := (-1 : Int32)) hx hb dX1_wholeShelf_201 (by decide) ?_
      have jn_210 : ∀ (t_8 : Int32), JX1_wholeShelf_210 S_6 t_8 = some o → ∀ (H : Heap) (locs : List Loc) (ls : Array Slot), cx_W g A s (sC g Rs nw im S_6 ++ ((Rs 0, .inr (9, [])) :: X)) H locs → lv_has ls 4 [] → W p l e rmX1_wholeShelf s m av below meth c H locs 0 0 Q (F0 m 210 ls [.int t_8, .ref (Rs 100)]) := by
        intro t_8 hJ_210 H locs ls hw hl
        unfold JX1_wholeShelf_210 at hJ_210
        replace hJ_210 := fx_x1_e hJ_210
        rcases hJ_210 with ⟨S_10, h_9, hJ_210⟩ | ⟨S_10, h_9, hJ_210⟩
        · refine cx_cXv_n (ws := sC g Rs nw im S_6 ++ ((Rs 0, .inr (9, [])) :: X)) (ws' := sC g Rs nw im S_10 ++ ((Rs 0, .inr (9, [])) :: X)) (As := [.int t_8]) (rest := []) E (mX1_must l g A Rs _ _ _ S_6 t_8 h_9) (kwX1_X1_must E ⟨Nat.le_of_ble_eq_true rfl, Nat.le_of_ble_eq_true rfl⟩) 0 1 rfl rfl rfl hw rfl hl.1 rfl (Nat.le_of_ble_eq_true rfl) dX1_wholeShelf_210 (fun H locs hw => ?_)
          obtain rfl := Option.some.inj hJ_210
          exact hret _ _ _ _ _ rfl hw dX1_wholeShelf_213
        · refine cx_cXv_t (ws := sC g Rs nw im S_6 ++ ((Rs 0, .inr (9, [])) :: X)) (ws' := sC g Rs nw im S_10 ++ ((Rs 0, .inr (9, [])) :: X)) (As := [.int t_8]) (rest := []) E (mX1_must l g A Rs _ _ _ S_6 t_8 h_9) (kwX1_X1_must E ⟨Nat.le_of_ble_eq_true rfl, Nat.le_of_ble_eq_true rfl⟩) 0 1 rfl rfl rfl hw rfl hl.1 rfl (Nat.le_of_ble_eq_true rfl) dX1_wholeShelf_210 (fun q_ H locs hw hT => ?_)
          obtain rfl := Option.some.inj hJ_210
          exact hthrow _ _ _ _ _ _ _ rfl hw hT
      refine lv_icmp_ne (tgt := 209) hx hb dX1_wholeShelf_202 (by decide) (fun c_11 => ?_) (fun c_11 => ?_)
      · replace hJ_196 := fx_ff c_11 hJ_196
        refine lv_iconst (v := (0 : Int32)) hx hb dX1_wholeShelf_209 (by decide) ?_
        exact jn_210 (0 : Int32) hJ_196 _ _ _ hw (lv_sub hl [] rfl)
      · replace hJ_196 := fx_tt c_11 hJ_196
        refine lv_iconst (v := (1 : Int32)) hx hb dX1_wholeShelf_205 (by decide) ?_
        refine lv_goto (tgt := 210) hx hb dX1_wholeShelf_206 (by decide) ?_
        exact jn_210 (1 : Int32) hJ_196 _ _ _ hw (lv_sub hl [] rfl)
    replace hJ_35 := fx_b1_e hJ_35
    obtain ⟨ex_39, hL_39, hJ_35⟩ := hJ_35
    have key_39 : ∀ (n_39 : Nat) (S_12 : Sx) (x1_13 : Int32) (x2_14 : Int32), fx_lp (LX1_wholeShelf_39) n_39 (S_12, x1_13, x2_14) = some ex_39 → ∀ (H : Heap) (locs : List Loc) (ls : Array Slot), cx_W g A s (sC g Rs nw im S_12 ++ ((Rs 0, .inr (9, [])) :: X)) H locs → lv_has ls 4 [(0, .ref (Rs 100)), (1, .int x1_13), (2, .int x2_14)] → W p l e rmX1_wholeShelf s m av below meth c H locs 0 0 Q (F0 m 39 ls []) := by
      intro n_39
      induction n_39 with
      | zero => intro S_12 x1_13 x2_14 hL_39; exact fx_lp_0 hL_39
      | succ n_39 ih_39 =>
        intro S_12 x1_13 x2_14 hL_39 H locs ls hw hl
        replace hL_39 := fx_lp_s hL_39
        obtain ⟨o_39, hB_39, hO_39⟩ := hL_39
        unfold LX1_wholeShelf_39 at hB_39
        replace hB_39 := fx_u3_e hB_39
        refine lv_iload_n hx hb dX1_wholeShelf_39 rfl (lv_at hl 2 rfl) ?_
        refine lv_if_eq (tgt := 196) hx hb dX1_wholeShelf_40 (by decide) (fun c_15 => ?_) (fun c_15 => ?_)
        · replace hB_39 := fx_tt c_15 hB_39
          obtain rfl := fx_ex hB_39 hO_39
          replace hJ_35 := fx_sm_l hJ_35
          exact jn_196 S_12 hJ_35 _ _ _ hw (lv_sub hl [0] rfl)
        · replace hB_39 := fx_ff c_15 hB_39
          refine lv_aload_n hx hb dX1_wholeShelf_43 rfl (lv_at hl 0 rfl) ?_
          replace hB_39 := fx_b2_e hB_39
          obtain ⟨r_16, S_17, h_18, hB_39⟩ := hB_39
          refine cx_cVi (r := r_16) (ws := sC g Rs nw im S_12 ++ ((Rs 0, .inr (9, [])) :: X)) (ws' := sC g Rs nw im S_17 ++ ((Rs 0, .inr (9, [])) :: X)) (As := []) (rest := []) E (mX1_ahead l g A Rs _ _ _ S_12 h_18) (kwX1_X1_ahead E ⟨Nat.le_of_ble_eq_true rfl, Nat.le_of_ble_eq_true rfl⟩) 0 1 rfl rfl rfl hw rfl hl.1 rfl (Nat.le_of_ble_eq_true rfl) dX1_wholeShelf_44 ⟨Nat.le_of_ble_eq_true rfl, Nat.le_of_ble_eq_true rfl⟩ (fun H locs hw => ?_)
          refine lv_istore_n hx hb dX1_wholeShelf_47 rfl hl (by decide) rfl (fun ls hl => ?_)
          have hl : lv_has ls 4 [(3, .int r_16), (0, .ref (Rs 100)), (1, .int x1_13), (2, .int x2_14)] := hl
          refine lv_aload_n hx hb dX1_wholeShelf_48 rfl (lv_at hl 1 rfl) ?_
          refine lv_iload_n hx hb dX1_wholeShelf_49 rfl (lv_at hl 0 rfl) ?_
          refine lv_bipush (v := (115 : Int32)) hx hb dX1_wholeShelf_50 (by decide) ?_
          have jn_79 : ∀ (t_19 : Int32), JX1_wholeShelf_79 S_17 t_19 r_16 x1_13 = some o_39 → ∀ (H : Heap) (locs : List Loc) (ls : Array Slot), cx_W g A s (sC g Rs nw im S_17 ++ ((Rs 0, .inr (9, [])) :: X)) H locs → lv_has ls 4 [(0, .ref (Rs 100)), (1, .int x1_13), (3, .int r_16)] → W p l e rmX1_wholeShelf s m av below meth c H locs 0 0 Q (F0 m 79 ls [.int t_19, .ref (Rs 100)]) := by
            intro t_19 hJ_79 H locs ls hw hl
            unfold JX1_wholeShelf_79 at hJ_79
            replace hJ_79 := fx_x1_e hJ_79
            rcases hJ_79 with ⟨S_21, h_20, hJ_79⟩ | ⟨S_21, h_20, hJ_79⟩
            · refine cx_cXv_n (ws := sC g Rs nw im S_17 ++ ((Rs 0, .inr (9, [])) :: X)) (ws' := sC g Rs nw im S_21 ++ ((Rs 0, .inr (9, [])) :: X)) (As := [.int t_19]) (rest := []) E (mX1_must l g A Rs _ _ _ S_17 t_19 h_20) (kwX1_X1_must E ⟨Nat.le_of_ble_eq_true rfl, Nat.le_of_ble_eq_true rfl⟩) 0 1 rfl rfl rfl hw rfl hl.1 rfl (Nat.le_of_ble_eq_true rfl) dX1_wholeShelf_79 (fun H locs hw => ?_)
              refine lv_aload_n hx hb dX1_wholeShelf_82 rfl (lv_at hl 0 rfl) ?_
              refine lv_dup hx hb dX1_wholeShelf_83 rfl ?_
              refine gX1_3 E hw dX1_wholeShelf_84 ?_
              refine lv_iconst (v := (1 : Int32)) hx hb dX1_wholeShelf_87 (by decide) ?_
              refine lv_iadd hx hb dX1_wholeShelf_88 ?_
              obtain ⟨S_22, eS_22⟩ : ∃ z : Sx, z = px_I S_21 3 ((gx_I S_21 3) + (1 : Int32)) := ⟨_, rfl⟩
              replace hJ_79 := fx_lt_e eS_22 hJ_79
              refine pX1_3 eS_22 E hw dX1_wholeShelf_89 (fun H locs hw => ?_)
              refine lv_iload_n hx hb dX1_wholeShelf_92 rfl (lv_at hl 2 rfl) ?_
              refine lv_bipush (v := (115 : Int32)) hx hb dX1_wholeShelf_93 (by decide) ?_
              have jn_164 : ∀ (S_24 : Sx) (x1_23 : Int32), JX1_wholeShelf_164 S_24 x1_23 = some o_39 → ∀ (H : Heap) (locs : List Loc) (ls : Array Slot), cx_W g A s (sC g Rs nw im S_24 ++ ((Rs 0, .inr (9, [])) :: X)) H locs → lv_has ls 4 [(0, .ref (Rs 100)), (1, .int x1_23)] → W p l e rmX1_wholeShelf s m av below meth c H locs 0 0 Q (F0 m 164 ls []) := by
                intro S_24 x1_23 hJ_164 H locs ls hw hl
                unfold JX1_wholeShelf_164 at hJ_164
                refine lv_aload_n hx hb dX1_wholeShelf_164 rfl (lv_at hl 0 rfl) ?_
                replace hJ_164 := fx_b2_e hJ_164
                obtain ⟨r_25, S_26, h_27, hJ_164⟩ := hJ_164
                refine cx_cVi (r := r_25) (ws := sC g Rs nw im S_24 ++ ((Rs 0, .inr (9, [])) :: X)) (ws' := sC g Rs nw im S_26 ++ ((Rs 0, .inr (9, [])) :: X)) (As := []) (rest := []) E (mX1_ahead l g A Rs _ _ _ S_24 h_27) (kwX1_X1_ahead E ⟨Nat.le_of_ble_eq_true rfl, Nat.le_of_ble_eq_true rfl⟩) 0 1 rfl rfl rfl hw rfl hl.1 rfl (Nat.le_of_ble_eq_true rfl) dX1_wholeShelf_165 ⟨Nat.le_of_ble_eq_true rfl, Nat.le_of_ble_eq_true rfl⟩ (fun H locs hw => ?_)
                refine lv_bipush (v := (59 : Int32)) hx hb dX1_wholeShelf_168 (by decide) ?_
                have jn_178 : ∀ (t_28 : Int32), JX1_wholeShelf_178 t_28 S_26 x1_23 = some o_39 → ∀ (H : Heap) (locs : List Loc) (ls : Array Slot), cx_W g A s (sC g Rs nw im S_26 ++ ((Rs 0, .inr (9, [])) :: X)) H locs → lv_has ls 4 [(0, .ref (Rs 100)), (1, .int x1_23)] → W p l e rmX1_wholeShelf s m av below meth c H locs 0 0 Q (F0 m 178 ls [.int t_28]) := by
                  intro t_28 hJ_178 H locs ls hw hl
                  unfold JX1_wholeShelf_178 at hJ_178
                  refine lv_istore_n hx hb dX1_wholeShelf_178 rfl hl (by decide) rfl (fun ls hl => ?_)
                  have hl : lv_has ls 4 [(2, .int t_28), (0, .ref (Rs 100)), (1, .int x1_23)] := hl
                  refine lv_iload_n hx hb dX1_wholeShelf_179 rfl (lv_at hl 0 rfl) ?_
                  have jn_193 : ∀ (S_29 : Sx), JX1_wholeShelf_193 S_29 x1_23 t_28 = some o_39 → ∀ (H : Heap) (locs : List Loc) (ls : Array Slot), cx_W g A s (sC g Rs nw im S_29 ++ ((Rs 0, .inr (9, [])) :: X)) H locs → lv_has ls 4 [(0, .ref (Rs 100)), (1, .int x1_23), (2, .int t_28)] → W p l e rmX1_wholeShelf s m av below meth c H locs 0 0 Q (F0 m 193 ls []) := by
                    intro S_29 hJ_193 H locs ls hw hl
                    unfold JX1_wholeShelf_193 at hJ_193
                    refine lv_goto (tgt := 39) hx hb dX1_wholeShelf_193 (by decide) ?_
                    exact ih_39 S_29 x1_23 t_28 (fx_bk hJ_193 hO_39) _ _ _ hw hl
                  refine lv_if_eq (tgt := 193) hx hb dX1_wholeShelf_180 (by decide) (fun c_30 => ?_) (fun c_30 => ?_)
                  · replace hJ_178 := fx_tt c_30 hJ_178
                    exact jn_193 S_26 hJ_178 _ _ _ hw (lv_sub hl [1, 2, 0] rfl)
                  · replace hJ_178 := fx_ff c_30 hJ_178
                    refine lv_aload_n hx hb dX1_wholeShelf_183 rfl (lv_at hl 1 rfl) ?_
                    refine lv_dup hx hb dX1_wholeShelf_184 rfl ?_
                    refine gX1_3 E hw dX1_wholeShelf_185 ?_
                    refine lv_iconst (v := (1 : Int32)) hx hb dX1_wholeShelf_188 (by decide) ?_
                    refine lv_iadd hx hb dX1_wholeShelf_189 ?_
                    obtain ⟨S_31, eS_31⟩ : ∃ z : Sx, z = px_I S_26 3 ((gx_I S_26 3) + (1 : Int32)) := ⟨_, rfl⟩
                    replace hJ_178 := fx_lt_e eS_31 hJ_178
                    refine pX1_3 eS_31 E hw dX1_wholeShelf_190 (fun H locs hw => ?_)
                    exact jn_193 S_31 hJ_178 _ _ _ hw (lv_sub hl [1, 2, 0] rfl)
                refine lv_icmp_ne (tgt := 177) hx hb dX1_wholeShelf_170 (by decide) (fun c_32 => ?_) (fun c_32 => ?_)
                · replace hJ_164 := fx_ff c_32 hJ_164
                  refine lv_iconst (v := (0 : Int32)) hx hb dX1_wholeShelf_177 (by decide) ?_
                  exact jn_178 (0 : Int32) hJ_164 _ _ _ hw hl
                · replace hJ_164 := fx_tt c_32 hJ_164
                  refine lv_iconst (v := (1 : Int32)) hx hb dX1_wholeShelf_173 (by decide) ?_
                  refine lv_goto (tgt := 178) hx hb dX1_wholeShelf_174 (by decide) ?_
                  exact jn_178 (1 : Int32) hJ_164 _ _ _ hw hl
              refine lv_icmp_ne (tgt := 126) hx hb dX1_wholeShelf_95 (by decide) (fun c_33 => ?_) (fun c_33 => ?_)
              · replace hJ_79 := fx_ff c_33 hJ_79
                refine lv_aload_n hx hb dX1_wholeShelf_126 rfl (lv_at hl 0 rfl) ?_
                refine va_ldcS (own := RX1) E.1.1 E.1.2.1 E.1.2.2.2.1 E.2.2.1.2.2.2.1.2.1 dX1_wholeShelf_127 ?_
                refine lv_aload_n hx hb dX1_wholeShelf_129 rfl (lv_at hl 0 rfl) ?_
                refine gX1_11 E hw dX1_wholeShelf_130 ?_
                refine lv_aload_n hx hb dX1_wholeShelf_133 rfl (lv_at hl 0 rfl) ?_
                refine gX1_12 E hw dX1_wholeShelf_134 ?_
                refine lv_aload_n hx hb dX1_wholeShelf_137 rfl (lv_at hl 0 rfl) ?_
                refine gX1_13 E hw dX1_wholeShelf_138 ?_
                refine lv_aload_n hx hb dX1_wholeShelf_141 rfl (lv_at hl 0 rfl) ?_
                refine gX1_7 E hw dX1_wholeShelf_142 ?_
                refine lv_iconst (v := (2 : Int32)) hx hb dX1_wholeShelf_145 (by decide) ?_
                refine lv_aload_n hx hb dX1_wholeShelf_146 rfl (lv_at hl 0 rfl) ?_
                refine gX1_4 E hw dX1_wholeShelf_147 ?_
                refine lv_imul hx hb dX1_wholeShelf_150 ?_
                replace hJ_79 := fx_x1_e hJ_79
                rcases hJ_79 with ⟨S_35, h_34, hJ_79⟩ | ⟨S_35, h_34, hJ_79⟩
                · refine cx_cXv_n (ws := sC g Rs nw im S_22 ++ ((Rs 0, .inr (9, [])) :: X)) (ws' := sC g Rs nw im S_35 ++ ((Rs 0, .inr (9, [])) :: X)) (As := [.ref (kS g 1), .ref (Rs 11), .ref (Rs 12), .ref (Rs 13), .ref (Rs 7), .int ((2 : Int32) * (gx_I S_22 4))]) (rest := []) E (mX1_items_7 l g A Rs _ _ _ S_22 ((2 : Int32) * (gx_I S_22 4)) h_34) (kwX1_X1_items E ⟨Nat.le_of_ble_eq_true rfl, Nat.le_of_ble_eq_true rfl⟩) 0 1 rfl rfl rfl hw rfl hl.1 rfl (Nat.le_of_ble_eq_true rfl) dX1_wholeShelf_151 (fun H locs hw => ?_)
                  refine lv_aload_n hx hb dX1_wholeShelf_154 rfl (lv_at hl 0 rfl) ?_
                  refine lv_dup hx hb dX1_wholeShelf_155 rfl ?_
                  refine gX1_4 E hw dX1_wholeShelf_156 ?_
                  refine lv_iconst (v := (1 : Int32)) hx hb dX1_wholeShelf_159 (by decide) ?_
                  refine lv_iadd hx hb dX1_wholeShelf_160 ?_
                  obtain ⟨S_36, eS_36⟩ : ∃ z : Sx, z = px_I S_35 4 ((gx_I S_35 4) + (1 : Int32)) := ⟨_, rfl⟩
                  replace hJ_79 := fx_lt_e eS_36 hJ_79
                  refine pX1_4 eS_36 E hw dX1_wholeShelf_161 (fun H locs hw => ?_)
                  exact jn_164 S_36 x1_13 hJ_79 _ _ _ hw (lv_sub hl [0, 1] rfl)
                · refine cx_cXv_t (ws := sC g Rs nw im S_22 ++ ((Rs 0, .inr (9, [])) :: X)) (ws' := sC g Rs nw im S_35 ++ ((Rs 0, .inr (9, [])) :: X)) (As := [.ref (kS g 1), .ref (Rs 11), .ref (Rs 12), .ref (Rs 13), .ref (Rs 7), .int ((2 : Int32) * (gx_I S_22 4))]) (rest := []) E (mX1_items_7 l g A Rs _ _ _ S_22 ((2 : Int32) * (gx_I S_22 4)) h_34) (kwX1_X1_items E ⟨Nat.le_of_ble_eq_true rfl, Nat.le_of_ble_eq_true rfl⟩) 0 1 rfl rfl rfl hw rfl hl.1 rfl (Nat.le_of_ble_eq_true rfl) dX1_wholeShelf_151 (fun q_ H locs hw hT => ?_)
                  obtain rfl := fx_ex hJ_79 hO_39
                  replace hJ_35 := fx_sm_r hJ_35
                  obtain rfl := Option.some.inj hJ_35
                  exact hthrow _ _ _ _ _ _ _ rfl hw hT
              · replace hJ_79 := fx_tt c_33 hJ_79
                refine lv_aload_n hx hb dX1_wholeShelf_98 rfl (lv_at hl 0 rfl) ?_
                refine va_ldcS (own := RX1) E.1.1 E.1.2.1 E.1.2.2.2.1 E.2.2.1.2.2.2.1.1 dX1_wholeShelf_99 ?_
                refine lv_aload_n hx hb dX1_wholeShelf_101 rfl (lv_at hl 0 rfl) ?_
                refine gX1_8 E hw dX1_wholeShelf_102 ?_
                refine lv_aload_n hx hb dX1_wholeShelf_105 rfl (lv_at hl 0 rfl) ?_
                refine gX1_9 E hw dX1_wholeShelf_106 ?_
                refine lv_aload_n hx hb dX1_wholeShelf_109 rfl (lv_at hl 0 rfl) ?_
                refine gX1_10 E hw dX1_wholeShelf_110 ?_
                refine lv_aload_n hx hb dX1_wholeShelf_113 rfl (lv_at hl 0 rfl) ?_
                refine gX1_5 E hw dX1_wholeShelf_114 ?_
                refine lv_iconst (v := (0 : Int32)) hx hb dX1_wholeShelf_117 (by decide) ?_
                replace hJ_79 := fx_x1_e hJ_79
                rcases hJ_79 with ⟨S_38, h_37, hJ_79⟩ | ⟨S_38, h_37, hJ_79⟩
                · refine cx_cXv_n (ws := sC g Rs nw im S_22 ++ ((Rs 0, .inr (9, [])) :: X)) (ws' := sC g Rs nw im S_38 ++ ((Rs 0, .inr (9, [])) :: X)) (As := [.ref (kS g 0), .ref (Rs 8), .ref (Rs 9), .ref (Rs 10), .ref (Rs 5), .int (0 : Int32)]) (rest := []) E (mX1_items_5 l g A Rs _ _ _ S_22 (0 : Int32) h_37) (kwX1_X1_items E ⟨Nat.le_of_ble_eq_true rfl, Nat.le_of_ble_eq_true rfl⟩) 0 1 rfl rfl rfl hw rfl hl.1 rfl (Nat.le_of_ble_eq_true rfl) dX1_wholeShelf_118 (fun H locs hw => ?_)
                  refine lv_iconst (v := (1 : Int32)) hx hb dX1_wholeShelf_121 (by decide) ?_
                  refine lv_istore_n hx hb dX1_wholeShelf_122 rfl hl (by decide) rfl (fun ls hl => ?_)
                  have hl : lv_has ls 4 [(1, .int (1 : Int32)), (0, .ref (Rs 100)), (3, .int r_16)] := hl
                  refine lv_goto (tgt := 164) hx hb dX1_wholeShelf_123 (by decide) ?_
                  exact jn_164 S_38 (1 : Int32) hJ_79 _ _ _ hw (lv_sub hl [1, 0] rfl)
                · refine cx_cXv_t (ws := sC g Rs nw im S_22 ++ ((Rs 0, .inr (9, [])) :: X)) (ws' := sC g Rs nw im S_38 ++ ((Rs 0, .inr (9, [])) :: X)) (As := [.ref (kS g 0), .ref (Rs 8), .ref (Rs 9), .ref (Rs 10), .ref (Rs 5), .int (0 : Int32)]) (rest := []) E (mX1_items_5 l g A Rs _ _ _ S_22 (0 : Int32) h_37) (kwX1_X1_items E ⟨Nat.le_of_ble_eq_true rfl, Nat.le_of_ble_eq_true rfl⟩) 0 1 rfl rfl rfl hw rfl hl.1 rfl (Nat.le_of_ble_eq_true rfl) dX1_wholeShelf_118 (fun q_ H locs hw hT => ?_)
                  obtain rfl := fx_ex hJ_79 hO_39
                  replace hJ_35 := fx_sm_r hJ_35
                  obtain rfl := Option.some.inj hJ_35
                  exact hthrow _ _ _ _ _ _ _ rfl hw hT
            · refine cx_cXv_t (ws := sC g Rs nw im S_17 ++ ((Rs 0, .inr (9, [])) :: X)) (ws' := sC g Rs nw im S_21 ++ ((Rs 0, .inr (9, [])) :: X)) (As := [.int t_19]) (rest := []) E (mX1_must l g A Rs _ _ _ S_17 t_19 h_20) (kwX1_X1_must E ⟨Nat.le_of_ble_eq_true rfl, Nat.le_of_ble_eq_true rfl⟩) 0 1 rfl rfl rfl hw rfl hl.1 rfl (Nat.le_of_ble_eq_true rfl) dX1_wholeShelf_79 (fun q_ H locs hw hT => ?_)
              obtain rfl := fx_ex hJ_79 hO_39
              replace hJ_35 := fx_sm_r hJ_35
              obtain rfl := Option.some.inj hJ_35
              exact hthrow _ _ _ _ _ _ _ rfl hw hT
          have jn_74 : JX1_wholeShelf_74 S_17 r_16 x1_13 = some o_39 → ∀ (H : Heap) (locs : List Loc) (ls : Array Slot), cx_W g A s (sC g Rs nw im S_17 ++ ((Rs 0, .inr (9, [])) :: X)) H locs → lv_has ls 4 [(0, .ref (Rs 100)), (1, .int x1_13), (3, .int r_16)] → W p l e rmX1_wholeShelf s m av below meth c H locs 0 0 Q (F0 m 74 ls [.ref (Rs 100)]) := by
            intro  hJ_74 H locs ls hw hl
            unfold JX1_wholeShelf_74 at hJ_74
            refine lv_iconst (v := (1 : Int32)) hx hb dX1_wholeShelf_74 (by decide) ?_
            refine lv_goto (tgt := 79) hx hb dX1_wholeShelf_75 (by decide) ?_
            exact jn_79 (1 : Int32) hJ_74 _ _ _ hw hl
          have jn_59 : JX1_wholeShelf_59 r_16 S_17 x1_13 = some o_39 → ∀ (H : Heap) (locs : List Loc) (ls : Array Slot), cx_W g A s (sC g Rs nw im S_17 ++ ((Rs 0, .inr (9, [])) :: X)) H locs → lv_has ls 4 [(0, .ref (Rs 100)), (1, .int x1_13), (3, .int r_16)] → W p l e rmX1_wholeShelf s m av below meth c H locs 0 0 Q (F0 m 59 ls [.ref (Rs 100)]) := by
            intro  hJ_59 H locs ls hw hl
            unfold JX1_wholeShelf_59 at hJ_59
            refine lv_iload_n hx hb dX1_wholeShelf_59 rfl (lv_at hl 2 rfl) ?_
            refine lv_bipush (v := (118 : Int32)) hx hb dX1_wholeShelf_60 (by decide) ?_
            have jn_78 : JX1_wholeShelf_78 S_17 r_16 x1_13 = some o_39 → ∀ (H : Heap) (locs : List Loc) (ls : Array Slot), cx_W g A s (sC g Rs nw im S_17 ++ ((Rs 0, .inr (9, [])) :: X)) H locs → lv_has ls 4 [(0, .ref (Rs 100)), (1, .int x1_13), (3, .int r_16)] → W p l e rmX1_wholeShelf s m av below meth c H locs 0 0 Q (F0 m 78 ls [.ref (Rs 100)]) := by
              intro  hJ_78 H locs ls hw hl
              unfold JX1_wholeShelf_78 at hJ_78
              refine lv_iconst (v := (0 : Int32)) hx hb dX1_wholeShelf_78 (by decide) ?_
              exact jn_79 (0 : Int32) hJ_78 _ _ _ hw hl
            refine lv_icmp_ne (tgt := 78) hx hb dX1_wholeShelf_62 (by decide) (fun c_39 => ?_) (fun c_39 => ?_)
            · replace hJ_59 := fx_ff c_39 hJ_59
              exact jn_78  hJ_59 _ _ _ hw hl
            · replace hJ_59 := fx_tt c_39 hJ_59
              refine lv_aload_n hx hb dX1_wholeShelf_65 rfl (lv_at hl 0 rfl) ?_
              refine gX1_4 E hw dX1_wholeShelf_66 ?_
              refine lv_bipush (v := (16 : Int32)) hx hb dX1_wholeShelf_69 (by decide) ?_
              refine lv_icmp_ge (tgt := 78) hx hb dX1_wholeShelf_71 (by decide) (fun c_40 => ?_) (fun c_40 => ?_)
              · replace hJ_59 := fx_tt c_40 hJ_59
                exact jn_78  hJ_59 _ _ _ hw hl
              · replace hJ_59 := fx_ff c_40 hJ_59
                exact jn_74  hJ_59 _ _ _ hw hl
          refine lv_icmp_ne (tgt := 59) hx hb dX1_wholeShelf_52 (by decide) (fun c_41 => ?_) (fun c_41 => ?_)
          · replace hB_39 := fx_ff c_41 hB_39
            exact jn_59  hB_39 _ _ _ hw (lv_sub hl [1, 2, 0] rfl)
          · replace hB_39 := fx_tt c_41 hB_39
            refine lv_iload_n hx hb dX1_wholeShelf_55 rfl (lv_at hl 2 rfl) ?_
            refine lv_if_eq (tgt := 74) hx hb dX1_wholeShelf_56 (by decide) (fun c_42 => ?_) (fun c_42 => ?_)
            · replace hB_39 := fx_tt c_42 hB_39
              exact jn_74  hB_39 _ _ _ hw (lv_sub hl [1, 2, 0] rfl)
            · replace hB_39 := fx_ff c_42 hB_39
              exact jn_59  hB_39 _ _ _ hw (lv_sub hl [1, 2, 0] rfl)
    exact key_39 _ S_3 (0 : Int32) (1 : Int32) hL_39 _ _ _ hw (lv_sub hl [2, 1, 0] rfl)
  replace hF := fx_b1_e hF
  obtain ⟨ex_12, hL_12, hF⟩ := hF
  have key_12 : ∀ (n_12 : Nat) (S_45 : Sx) (x1_46 : Int32), fx_lp (LX1_wholeShelf_12) n_12 (S_45, x1_46) = some ex_12 → ∀ (H : Heap) (locs : List Loc) (ls : Array Slot), cx_W g A s (sC g Rs nw im S_45 ++ ((Rs 0, .inr (9, [])) :: X)) H locs → lv_has ls 4 [(0, .ref (Rs 100)), (1, .int x1_46)] → W p l e rmX1_wholeShelf s m av below meth c H locs 0 0 Q (F0 m 12 ls []) := by
    intro n_12
    induction n_12 with
    | zero => intro S_45 x1_46 hL_12; exact fx_lp_0 hL_12
    | succ n_12 ih_12 =>
      intro S_45 x1_46 hL_12 H locs ls hw hl
      replace hL_12 := fx_lp_s hL_12
      obtain ⟨o_12, hB_12, hO_12⟩ := hL_12
      unfold LX1_wholeShelf_12 at hB_12
      replace hB_12 := fx_u2_e hB_12
      refine lv_iload_n hx hb dX1_wholeShelf_12 rfl (lv_at hl 1 rfl) ?_
      refine lv_iconst (v := (5 : Int32)) hx hb dX1_wholeShelf_13 (by decide) ?_
      refine lv_icmp_ge (tgt := 35) hx hb dX1_wholeShelf_14 (by decide) (fun c_47 => ?_) (fun c_47 => ?_)
      · replace hB_12 := fx_tt c_47 hB_12
        obtain rfl := fx_ex hB_12 hO_12
        exact jn_35 S_45 hF _ _ _ hw (lv_sub hl [0] rfl)
      · replace hB_12 := fx_ff c_47 hB_12
        refine lv_aload_n hx hb dX1_wholeShelf_17 rfl (lv_at hl 0 rfl) ?_
        refine gX1_5 E hw dX1_wholeShelf_18 ?_
        refine lv_iload_n hx hb dX1_wholeShelf_21 rfl (lv_at hl 1 rfl) ?_
        refine lv_aload_n hx hb dX1_wholeShelf_22 rfl (lv_at hl 0 rfl) ?_
        refine gX1_10 E hw dX1_wholeShelf_23 ?_
        refine lv_iload_n hx hb dX1_wholeShelf_26 rfl (lv_at hl 1 rfl) ?_
        replace hB_12 := fx_gd_e hB_12
        obtain ⟨h_48, hB_12⟩ := hB_12
        refine raX1_10 E hw (fx_in_e h_48) dX1_wholeShelf_27 ?_
        replace hB_12 := fx_gd_e hB_12
        obtain ⟨h_49, hB_12⟩ := hB_12
        obtain ⟨S_50, eS_50⟩ : ∃ z : Sx, z = px_A S_45 5 (upd (gx_A S_45 5) x1_46.toNatClampNeg (gx_A S_45 10 x1_46.toNatClampNeg)) := ⟨_, rfl⟩
        replace hB_12 := fx_lt_e eS_50 hB_12
        refine rsX1_5 eS_50 E hw (fx_in_e h_49) dX1_wholeShelf_28 (fun H locs hw => ?_)
        obtain ⟨v_51, ev_51⟩ : ∃ z : Int32, z = x1_46 + (1 : Int32) := ⟨_, rfl⟩
        replace hB_12 := fx_lt_e ev_51 hB_12
        refine cx_iinc (z := (1 : Int32)) (v := v_51) hx hb dX1_wholeShelf_29 hl (k := 1) rfl (by decide) ev_51 (by decide) rfl (fun ls hl => ?_)
        have hl : lv_has ls 4 [(1, .int v_51), (0, .ref (Rs 100))] := hl
        refine lv_goto (tgt := 12) hx hb dX1_wholeShelf_32 (by decide) ?_
        exact ih_12 S_50 v_51 (fx_bk hB_12 hO_12) _ _ _ hw (lv_sub hl [1, 0] rfl)
  exact key_12 _ S_2 (0 : Int32) hL_12 _ _ _ hw (lv_sub hl [1, 0] rfl)
/-! X1_stepRead -/
def JX1_stepRead_119 (S_12 : Sx) : Option (Sx ⊕ Sx) :=
  some (.inl S_12)
def JX1_stepRead_97 (S_17 : Sx) (p1 : Int32) (x3_14 : Int32) : Option ((Sx × Int32) ⊕ ((Sx) ⊕ (Sx))) :=
  fx_x2 (FX1_number S_17 (0 : Int32) (999 : Int32)) (fun r_19 S_20 => fx_gd (fx_in (p1 + x3_14) 400) (fx_lt (px_A S_20 14 (upd (gx_A S_20 14) (p1 + x3_14).toNatClampNeg r_19)) (fun S_22 => fx_lt (x3_14 + (1 : Int32)) (fun v_23 => some (.inl (S_22, v_23)))))) (fun S_20 => some (.inr (.inr S_20)))
def LX1_stepRead_76 (t_4 : Int32) (p1 : Int32) (q_ : Sx × Int32) : Option ((Sx × Int32) ⊕ ((Sx) ⊕ (Sx))) :=
  fx_u2 q_ (fun S_13 x3_14 => fx_gd (fx_in t_4 9) (if (gx_A S_13 16 t_4.toNatClampNeg) < x3_14 then (some (.inr (.inl S_13))) else (if x3_14 ≤ (1 : Int32) then (JX1_stepRead_97 S_13 p1 x3_14) else (fx_x1 (FX1_sign S_13 (44 : Int32)) (fun S_26 => JX1_stepRead_97 S_26 p1 x3_14) (fun S_26 => some (.inr (.inr S_26)))))))
def JX1_stepRead_74 (t_4 : Int32) (p1 : Int32) (S_11 : Sx) : Option (Sx ⊕ Sx) :=
  fx_b1 (fx_lp (LX1_stepRead_76 t_4 p1) 2000 (S_11, (1 : Int32))) (fun q_ => fx_sm q_ (fun S_27 => JX1_stepRead_119 S_27) (fun S_28 => some (.inr S_28)))
def LX1_stepRead_54 (p1 : Int32) (q_ : Sx × Int32) : Option ((Sx × Int32) ⊕ (Sx)) :=
  fx_u2 q_ (fun S_29 x3_30 => if (5 : Int32) ≤ x3_30 then (some (.inr S_29)) else (fx_gd (fx_in (p1 + x3_30) 400) (fx_lt (px_A S_29 14 (upd (gx_A S_29 14) (p1 + x3_30).toNatClampNeg (-1 : Int32))) (fun S_33 => fx_lt (x3_30 + (1 : Int32)) (fun v_34 => some (.inl (S_33, v_34)))))))
def JX1_stepRead_32 (S_2 : Sx) (t_5 : Int32) (p1 : Int32) (t_4 : Int32) : Option (Sx ⊕ Sx) :=
  fx_x1 (FX1_must S_2 t_5) (fun S_7 => fx_lt (px_I S_7 3 ((gx_I S_7 3) + (1 : Int32))) (fun S_8 => fx_gd (fx_in p1 400) (fx_lt (px_A S_8 14 (upd (gx_A S_8 14) p1.toNatClampNeg t_4)) (fun S_10 => fx_b1 (fx_lp (LX1_stepRead_54 p1) 2000 (S_10, (1 : Int32))) (fun S_35 => JX1_stepRead_74 t_4 p1 S_35))))) (fun S_7 => some (.inr S_7))
def JX1_stepRead_21 (t_4 : Int32) (S_2 : Sx) (p1 : Int32) : Option (Sx ⊕ Sx) :=
  if t_4 < 0 then (JX1_stepRead_32 S_2 (0 : Int32) p1 t_4) else (JX1_stepRead_32 S_2 (1 : Int32) p1 t_4)
def FX1_stepRead (S : Sx) (p1 : Int32) : Option (Sx ⊕ Sx) :=
  fx_b2 (FX1_ahead S) (fun r_1 S_2 => if r_1 = (-1 : Int32) then (JX1_stepRead_21 (-1 : Int32) S_2 p1) else (fx_b1 (FX1_here S_2) (fun r_38 => fx_b1 (FJ2_indexOf 2 r_38) (fun r_40 => JX1_stepRead_21 r_40 S_2 p1))))
set_option maxHeartbeats 4000000 in
set_option maxRecDepth 100000 in
theorem mX1_stepRead (l : Launch) (g : Gx) (A : Nat → Prop) (Rs : Nat → Nat) (nw im : Option Nat) (X : va_W) (S : Sx) (p1 : Int32) {o : Sx ⊕ Sx} (hF : FX1_stepRead S p1 = some o) :
    cx_xv l yX1_stepRead cX1_stepRead 4 rmX1_stepRead [.ref (Rs 100), .int p1] g A (sC g Rs nw im S ++ ((Rs 0, .inr (9, [])) :: X)) (xo_v (fun S => sC g Rs nw im S ++ ((Rs 0, .inr (9, [])) :: X)) o) := by
  refine cx_xv_of (by decide) (Nat.le_of_ble_eq_true rfl) ?_
  intro p e s m av below meth c Q E hret hthrow H hw ls hl
  have E : cx_E p m meth c cX1_stepRead 4 s av RX1 g A := E
  have hx := E.1.1
  have hb := E.1.2.1
  have hl : lv_has ls 4 [(0, .ref (Rs 100)), (1, .int p1)] := hl
  generalize hlc : ([] : List Loc) = locs at hw ⊢
  clear hlc
  unfold FX1_stepRead at hF
  refine lv_aload_n hx hb dX1_stepRead_0 rfl (lv_at hl 0 rfl) ?_
  replace hF := fx_b2_e hF
  obtain ⟨r_1, S_2, h_3, hF⟩ := hF
  refine cx_cVi (r := r_1) (ws := sC g Rs nw im S ++ ((Rs 0, .inr (9, [])) :: X)) (ws' := sC g Rs nw im S_2 ++ ((Rs 0, .inr (9, [])) :: X)) (As := []) (rest := []) E (mX1_ahead l g A Rs _ _ _ S h_3) (kwX1_X1_ahead E ⟨Nat.le_of_ble_eq_true rfl, Nat.le_of_ble_eq_true rfl⟩) 0 1 rfl rfl rfl hw rfl hl.1 rfl (Nat.le_of_ble_eq_true rfl) dX1_stepRead_1 ⟨Nat.le_of_ble_eq_true rfl, Nat.le_of_ble_eq_true rfl⟩ (fun H locs hw => ?_)
  refine lv_iconst (v := (-1 : Int32)) hx hb dX1_stepRead_4 (by decide) ?_
  have jn_21 : ∀ (t_4 : Int32), JX1_stepRead_21 t_4 S_2 p1 = some o → ∀ (H : Heap) (locs : List Loc) (ls : Array Slot), cx_W g A s (sC g Rs nw im S_2 ++ ((Rs 0, .inr (9, [])) :: X)) H locs → lv_has ls 4 [(0, .ref (Rs 100)), (1, .int p1)] → W p l e rmX1_stepRead s m av below meth c H locs 0 0 Q (F0 m 21 ls [.int t_4]) := by
    intro t_4 hJ_21 H locs ls hw hl
    unfold JX1_stepRead_21 at hJ_21
    refine lv_istore_n hx hb dX1_stepRead_21 rfl hl (by decide) rfl (fun ls hl => ?_)
    have hl : lv_has ls 4 [(2, .int t_4), (0, .ref (Rs 100)), (1, .int p1)] := hl
    refine lv_aload_n hx hb dX1_stepRead_22 rfl (lv_at hl 1 rfl) ?_
    refine lv_iload_n hx hb dX1_stepRead_23 rfl (lv_at hl 0 rfl) ?_
    have jn_32 : ∀ (t_5 : Int32), JX1_stepRead_32 S_2 t_5 p1 t_4 = some o → ∀ (H : Heap) (locs : List Loc) (ls : Array Slot), cx_W g A s (sC g Rs nw im S_2 ++ ((Rs 0, .inr (9, [])) :: X)) H locs → lv_has ls 4 [(0, .ref (Rs 100)), (1, .int p1), (2, .int t_4)] → W p l e rmX1_stepRead s m av below meth c H locs 0 0 Q (F0 m 32 ls [.int t_5, .ref (Rs 100)]) := by
      intro t_5 hJ_32 H locs ls hw hl
      unfold JX1_stepRead_32 at hJ_32
      replace hJ_32 := fx_x1_e hJ_32
      rcases hJ_32 with ⟨S_7, h_6, hJ_32⟩ | ⟨S_7, h_6, hJ_32⟩
      · refine cx_cXv_n (ws := sC g Rs nw im S_2 ++ ((Rs 0, .inr (9, [])) :: X)) (ws' := sC g Rs nw im S_7 ++ ((Rs 0, .inr (9, [])) :: X)) (As := [.int t_5]) (rest := []) E (mX1_must l g A Rs _ _ _ S_2 t_5 h_6) (kwX1_X1_must E ⟨Nat.le_of_ble_eq_true rfl, Nat.le_of_ble_eq_true rfl⟩) 0 1 rfl rfl rfl hw rfl hl.1 rfl (Nat.le_of_ble_eq_true rfl) dX1_stepRead_32 (fun H locs hw => ?_)
        refine lv_aload_n hx hb dX1_stepRead_35 rfl (lv_at hl 0 rfl) ?_
        refine lv_dup hx hb dX1_stepRead_36 rfl ?_
        refine gX1_3 E hw dX1_stepRead_37 ?_
        refine lv_iconst (v := (1 : Int32)) hx hb dX1_stepRead_40 (by decide) ?_
        refine lv_iadd hx hb dX1_stepRead_41 ?_
        obtain ⟨S_8, eS_8⟩ : ∃ z : Sx, z = px_I S_7 3 ((gx_I S_7 3) + (1 : Int32)) := ⟨_, rfl⟩
        replace hJ_32 := fx_lt_e eS_8 hJ_32
        refine pX1_3 eS_8 E hw dX1_stepRead_42 (fun H locs hw => ?_)
        refine lv_aload_n hx hb dX1_stepRead_45 rfl (lv_at hl 0 rfl) ?_
        refine gX1_14 E hw dX1_stepRead_46 ?_
        refine lv_iload_n hx hb dX1_stepRead_49 rfl (lv_at hl 1 rfl) ?_
        refine lv_iload_n hx hb dX1_stepRead_50 rfl (lv_at hl 2 rfl) ?_
        replace hJ_32 := fx_gd_e hJ_32
        obtain ⟨h_9, hJ_32⟩ := hJ_32
        obtain ⟨S_10, eS_10⟩ : ∃ z : Sx, z = px_A S_8 14 (upd (gx_A S_8 14) p1.toNatClampNeg t_4) := ⟨_, rfl⟩
        replace hJ_32 := fx_lt_e eS_10 hJ_32
        refine rsX1_14 eS_10 E hw (fx_in_e h_9) dX1_stepRead_51 (fun H locs hw => ?_)
        refine lv_iconst (v := (1 : Int32)) hx hb dX1_stepRead_52 (by decide) ?_
        refine lv_istore_n hx hb dX1_stepRead_53 rfl hl (by decide) rfl (fun ls hl => ?_)
        have hl : lv_has ls 4 [(3, .int (1 : Int32)), (0, .ref (Rs 100)), (1, .int p1), (2, .int t_4)] := hl
        have jn_74 : ∀ (S_11 : Sx), JX1_stepRead_74 t_4 p1 S_11 = some o → ∀ (H : Heap) (locs : List Loc) (ls : Array Slot), cx_W g A s (sC g Rs nw im S_11 ++ ((Rs 0, .inr (9, [])) :: X)) H locs → lv_has ls 4 [(0, .ref (Rs 100)), (1, .int p1), (2, .int t_4)] → W p l e rmX1_stepRead s m av below meth c H locs 0 0 Q (F0 m 74 ls []) := by
          intro S_11 hJ_74 H locs ls hw hl
          unfold JX1_stepRead_74 at hJ_74
          refine lv_iconst (v := (1 : Int32)) hx hb dX1_stepRead_74 (by decide) ?_
          refine lv_istore_n hx hb dX1_stepRead_75 rfl hl (by decide) rfl (fun ls hl => ?_)
          have hl : lv_has ls 4 [(3, .int (1 : Int32)), (0, .ref (Rs 100)), (1, .int p1), (2, .int t_4)] := hl
          have jn_119 : ∀ (S_12 : Sx), JX1_stepRead_119 S_12 = some o → ∀ (H : Heap) (locs : List Loc) (ls : Array Slot), cx_W g A s (sC g Rs nw im S_12 ++ ((Rs 0, .inr (9, [])) :: X)) H locs → lv_has ls 4 [] → W p l e rmX1_stepRead s m av below meth c H locs 0 0 Q (F0 m 119 ls []) := by
            intro S_12 hJ_119 H locs ls hw hl
            unfold JX1_stepRead_119 at hJ_119
            obtain rfl := Option.some.inj hJ_119
            exact hret _ _ _ _ _ rfl hw dX1_stepRead_119
          replace hJ_74 := fx_b1_e hJ_74
          obtain ⟨ex_76, hL_76, hJ_74⟩ := hJ_74
          have key_76 : ∀ (n_76 : Nat) (S_13 : Sx) (x3_14 : Int32), fx_lp (LX1_stepRead_76 t_4 p1) n_76 (S_13, x3_14) = some ex_76 → ∀ (H : Heap) (locs : List Loc) (ls : Array Slot), cx_W g A s (sC g Rs nw im S_13 ++ ((Rs 0, .inr (9, [])) :: X)) H locs → lv_has ls 4 [(0, .ref (Rs 100)), (1, .int p1), (2, .int t_4), (3, .int x3_14)] → W p l e rmX1_stepRead s m av below meth c H locs 0 0 Q (F0 m 76 ls []) := by
            intro n_76
            induction n_76 with
            | zero => intro S_13 x3_14 hL_76; exact fx_lp_0 hL_76
            | succ n_76 ih_76 =>
              intro S_13 x3_14 hL_76 H locs ls hw hl
              replace hL_76 := fx_lp_s hL_76
              obtain ⟨o_76, hB_76, hO_76⟩ := hL_76
              unfold LX1_stepRead_76 at hB_76
              replace hB_76 := fx_u2_e hB_76
              refine lv_iload_n hx hb dX1_stepRead_76 rfl (lv_at hl 3 rfl) ?_
              refine lv_aload_n hx hb dX1_stepRead_77 rfl (lv_at hl 0 rfl) ?_
              refine gX1_16 E hw dX1_stepRead_78 ?_
              refine lv_iload_n hx hb dX1_stepRead_81 rfl (lv_at hl 2 rfl) ?_
              replace hB_76 := fx_gd_e hB_76
              obtain ⟨h_15, hB_76⟩ := hB_76
              refine raX1_16 E hw (fx_in_e h_15) dX1_stepRead_82 ?_
              refine lv_icmp_gt (tgt := 119) hx hb dX1_stepRead_83 (by decide) (fun c_16 => ?_) (fun c_16 => ?_)
              · replace hB_76 := fx_tt c_16 hB_76
                obtain rfl := fx_ex hB_76 hO_76
                replace hJ_74 := fx_sm_l hJ_74
                exact jn_119 S_13 hJ_74 _ _ _ hw (lv_sub hl [] rfl)
              · replace hB_76 := fx_ff c_16 hB_76
                refine lv_iload_n hx hb dX1_stepRead_86 rfl (lv_at hl 3 rfl) ?_
                refine lv_iconst (v := (1 : Int32)) hx hb dX1_stepRead_87 (by decide) ?_
                have jn_97 : ∀ (S_17 : Sx), JX1_stepRead_97 S_17 p1 x3_14 = some o_76 → ∀ (H : Heap) (locs : List Loc) (ls : Array Slot), cx_W g A s (sC g Rs nw im S_17 ++ ((Rs 0, .inr (9, [])) :: X)) H locs → lv_has ls 4 [(0, .ref (Rs 100)), (1, .int p1), (2, .int t_4), (3, .int x3_14)] → W p l e rmX1_stepRead s m av below meth c H locs 0 0 Q (F0 m 97 ls []) := by
                  intro S_17 hJ_97 H locs ls hw hl
                  unfold JX1_stepRead_97 at hJ_97
                  refine lv_aload_n hx hb dX1_stepRead_97 rfl (lv_at hl 0 rfl) ?_
                  refine gX1_14 E hw dX1_stepRead_98 ?_
                  refine lv_iload_n hx hb dX1_stepRead_101 rfl (lv_at hl 1 rfl) ?_
                  refine lv_iload_n hx hb dX1_stepRead_102 rfl (lv_at hl 3 rfl) ?_
                  refine lv_iadd hx hb dX1_stepRead_103 ?_
                  refine lv_aload_n hx hb dX1_stepRead_104 rfl (lv_at hl 0 rfl) ?_
                  refine lv_iconst (v := (0 : Int32)) hx hb dX1_stepRead_105 (by decide) ?_
                  refine lv_sipush (v := (999 : Int32)) hx hb dX1_stepRead_106 (by decide) ?_
                  replace hJ_97 := fx_x2_e hJ_97
                  rcases hJ_97 with ⟨r_19, S_20, h_18, hJ_97⟩ | ⟨S_20, h_18, hJ_97⟩
                  · refine cx_cXi_n (r := r_19) (ws := sC g Rs nw im S_17 ++ ((Rs 0, .inr (9, [])) :: X)) (ws' := sC g Rs nw im S_20 ++ ((Rs 0, .inr (9, [])) :: X)) (As := [.int (0 : Int32), .int (999 : Int32)]) (rest := [.int (p1 + x3_14), .ref (Rs 14)]) E (mX1_number l g A Rs _ _ _ S_17 (0 : Int32) (999 : Int32) h_18) (kwX1_X1_number E ⟨Nat.le_of_ble_eq_true rfl, Nat.le_of_ble_eq_true rfl⟩) 0 1 rfl rfl rfl hw rfl hl.1 rfl (Nat.le_of_ble_eq_true rfl) dX1_stepRead_109 (fun H locs hw => ?_)
                    replace hJ_97 := fx_gd_e hJ_97
                    obtain ⟨h_21, hJ_97⟩ := hJ_97
                    obtain ⟨S_22, eS_22⟩ : ∃ z : Sx, z = px_A S_20 14 (upd (gx_A S_20 14) (p1 + x3_14).toNatClampNeg r_19) := ⟨_, rfl⟩
                    replace hJ_97 := fx_lt_e eS_22 hJ_97
                    refine rsX1_14 eS_22 E hw (fx_in_e h_21) dX1_stepRead_112 (fun H locs hw => ?_)
                    obtain ⟨v_23, ev_23⟩ : ∃ z : Int32, z = x3_14 + (1 : Int32) := ⟨_, rfl⟩
                    replace hJ_97 := fx_lt_e ev_23 hJ_97
                    refine cx_iinc (z := (1 : Int32)) (v := v_23) hx hb dX1_stepRead_113 hl (k := 3) rfl (by decide) ev_23 (by decide) rfl (fun ls hl => ?_)
                    have hl : lv_has ls 4 [(3, .int v_23), (0, .ref (Rs 100)), (1, .int p1), (2, .int t_4)] := hl
                    refine lv_goto (tgt := 76) hx hb dX1_stepRead_116 (by decide) ?_
                    exact ih_76 S_22 v_23 (fx_bk hJ_97 hO_76) _ _ _ hw (lv_sub hl [1, 2, 3, 0] rfl)
                  · refine cx_cXi_t (ws := sC g Rs nw im S_17 ++ ((Rs 0, .inr (9, [])) :: X)) (ws' := sC g Rs nw im S_20 ++ ((Rs 0, .inr (9, [])) :: X)) (As := [.int (0 : Int32), .int (999 : Int32)]) (rest := [.int (p1 + x3_14), .ref (Rs 14)]) E (mX1_number l g A Rs _ _ _ S_17 (0 : Int32) (999 : Int32) h_18) (kwX1_X1_number E ⟨Nat.le_of_ble_eq_true rfl, Nat.le_of_ble_eq_true rfl⟩) 0 1 rfl rfl rfl hw rfl hl.1 rfl (Nat.le_of_ble_eq_true rfl) dX1_stepRead_109 (fun q_ H locs hw hT => ?_)
                    obtain rfl := fx_ex hJ_97 hO_76
                    replace hJ_74 := fx_sm_r hJ_74
                    obtain rfl := Option.some.inj hJ_74
                    exact hthrow _ _ _ _ _ _ _ rfl hw hT
                refine lv_icmp_le (tgt := 97) hx hb dX1_stepRead_88 (by decide) (fun c_24 => ?_) (fun c_24 => ?_)
                · replace hB_76 := fx_tt c_24 hB_76
                  exact jn_97 S_13 hB_76 _ _ _ hw hl
                · replace hB_76 := fx_ff c_24 hB_76
                  refine lv_aload_n hx hb dX1_stepRead_91 rfl (lv_at hl 0 rfl) ?_
                  refine lv_bipush (v := (44 : Int32)) hx hb dX1_stepRead_92 (by decide) ?_
                  replace hB_76 := fx_x1_e hB_76
                  rcases hB_76 with ⟨S_26, h_25, hB_76⟩ | ⟨S_26, h_25, hB_76⟩
                  · refine cx_cXv_n (ws := sC g Rs nw im S_13 ++ ((Rs 0, .inr (9, [])) :: X)) (ws' := sC g Rs nw im S_26 ++ ((Rs 0, .inr (9, [])) :: X)) (As := [.int (44 : Int32)]) (rest := []) E (mX1_sign l g A Rs _ _ _ S_13 (44 : Int32) h_25) (kwX1_X1_sign E ⟨Nat.le_of_ble_eq_true rfl, Nat.le_of_ble_eq_true rfl⟩) 0 1 rfl rfl rfl hw rfl hl.1 rfl (Nat.le_of_ble_eq_true rfl) dX1_stepRead_94 (fun H locs hw => ?_)
                    exact jn_97 S_26 hB_76 _ _ _ hw hl
                  · refine cx_cXv_t (ws := sC g Rs nw im S_13 ++ ((Rs 0, .inr (9, [])) :: X)) (ws' := sC g Rs nw im S_26 ++ ((Rs 0, .inr (9, [])) :: X)) (As := [.int (44 : Int32)]) (rest := []) E (mX1_sign l g A Rs _ _ _ S_13 (44 : Int32) h_25) (kwX1_X1_sign E ⟨Nat.le_of_ble_eq_true rfl, Nat.le_of_ble_eq_true rfl⟩) 0 1 rfl rfl rfl hw rfl hl.1 rfl (Nat.le_of_ble_eq_true rfl) dX1_stepRead_94 (fun q_ H locs hw hT => ?_)
                    obtain rfl := fx_ex hB_76 hO_76
                    replace hJ_74 := fx_sm_r hJ_74
                    obtain rfl := Option.some.inj hJ_74
                    exact hthrow _ _ _ _ _ _ _ rfl hw hT
          exact key_76 _ S_11 (1 : Int32) hL_76 _ _ _ hw (lv_sub hl [1, 2, 3, 0] rfl)
        replace hJ_32 := fx_b1_e hJ_32
        obtain ⟨ex_54, hL_54, hJ_32⟩ := hJ_32
        have key_54 : ∀ (n_54 : Nat) (S_29 : Sx) (x3_30 : Int32), fx_lp (LX1_stepRead_54 p1) n_54 (S_29, x3_30) = some ex_54 → ∀ (H : Heap) (locs : List Loc) (ls : Array Slot), cx_W g A s (sC g Rs nw im S_29 ++ ((Rs 0, .inr (9, [])) :: X)) H locs → lv_has ls 4 [(0, .ref (Rs 100)), (1, .int p1), (2, .int t_4), (3, .int x3_30)] → W p l e rmX1_stepRead s m av below meth c H locs 0 0 Q (F0 m 54 ls []) := by
          intro n_54
          induction n_54 with
          | zero => intro S_29 x3_30 hL_54; exact fx_lp_0 hL_54
          | succ n_54 ih_54 =>
            intro S_29 x3_30 hL_54 H locs ls hw hl
            replace hL_54 := fx_lp_s hL_54
            obtain ⟨o_54, hB_54, hO_54⟩ := hL_54
            unfold LX1_stepRead_54 at hB_54
            replace hB_54 := fx_u2_e hB_54
            refine lv_iload_n hx hb dX1_stepRead_54 rfl (lv_at hl 3 rfl) ?_
            refine lv_iconst (v := (5 : Int32)) hx hb dX1_stepRead_55 (by decide) ?_
            refine lv_icmp_ge (tgt := 74) hx hb dX1_stepRead_56 (by decide) (fun c_31 => ?_) (fun c_31 => ?_)
            · replace hB_54 := fx_tt c_31 hB_54
              obtain rfl := fx_ex hB_54 hO_54
              exact jn_74 S_29 hJ_32 _ _ _ hw (lv_sub hl [0, 1, 2] rfl)
            · replace hB_54 := fx_ff c_31 hB_54
              refine lv_aload_n hx hb dX1_stepRead_59 rfl (lv_at hl 0 rfl) ?_
              refine gX1_14 E hw dX1_stepRead_60 ?_
              refine lv_iload_n hx hb dX1_stepRead_63 rfl (lv_at hl 1 rfl) ?_
              refine lv_iload_n hx hb dX1_stepRead_64 rfl (lv_at hl 3 rfl) ?_
              refine lv_iadd hx hb dX1_stepRead_65 ?_
              refine lv_iconst (v := (-1 : Int32)) hx hb dX1_stepRead_66 (by decide) ?_
              replace hB_54 := fx_gd_e hB_54
              obtain ⟨h_32, hB_54⟩ := hB_54
              obtain ⟨S_33, eS_33⟩ : ∃ z : Sx, z = px_A S_29 14 (upd (gx_A S_29 14) (p1 + x3_30).toNatClampNeg (-1 : Int32)) := ⟨_, rfl⟩
              replace hB_54 := fx_lt_e eS_33 hB_54
              refine rsX1_14 eS_33 E hw (fx_in_e h_32) dX1_stepRead_67 (fun H locs hw => ?_)
              obtain ⟨v_34, ev_34⟩ : ∃ z : Int32, z = x3_30 + (1 : Int32) := ⟨_, rfl⟩
              replace hB_54 := fx_lt_e ev_34 hB_54
              refine cx_iinc (z := (1 : Int32)) (v := v_34) hx hb dX1_stepRead_68 hl (k := 3) rfl (by decide) ev_34 (by decide) rfl (fun ls hl => ?_)
              have hl : lv_has ls 4 [(3, .int v_34), (0, .ref (Rs 100)), (1, .int p1), (2, .int t_4)] := hl
              refine lv_goto (tgt := 54) hx hb dX1_stepRead_71 (by decide) ?_
              exact ih_54 S_33 v_34 (fx_bk hB_54 hO_54) _ _ _ hw (lv_sub hl [1, 2, 3, 0] rfl)
        exact key_54 _ S_10 (1 : Int32) hL_54 _ _ _ hw (lv_sub hl [1, 2, 3, 0] rfl)
      · refine cx_cXv_t (ws := sC g Rs nw im S_2 ++ ((Rs 0, .inr (9, [])) :: X)) (ws' := sC g Rs nw im S_7 ++ ((Rs 0, .inr (9, [])) :: X)) (As := [.int t_5]) (rest := []) E (mX1_must l g A Rs _ _ _ S_2 t_5 h_6) (kwX1_X1_must E ⟨Nat.le_of_ble_eq_true rfl, Nat.le_of_ble_eq_true rfl⟩) 0 1 rfl rfl rfl hw rfl hl.1 rfl (Nat.le_of_ble_eq_true rfl) dX1_stepRead_32 (fun q_ H locs hw hT => ?_)
        obtain rfl := Option.some.inj hJ_32
        exact hthrow _ _ _ _ _ _ _ rfl hw hT
    refine lv_if_lt (tgt := 31) hx hb dX1_stepRead_24 (by decide) (fun c_36 => ?_) (fun c_36 => ?_)
    · replace hJ_21 := fx_tt c_36 hJ_21
      refine lv_iconst (v := (0 : Int32)) hx hb dX1_stepRead_31 (by decide) ?_
      exact jn_32 (0 : Int32) hJ_21 _ _ _ hw (lv_sub hl [1, 2, 0] rfl)
    · replace hJ_21 := fx_ff c_36 hJ_21
      refine lv_iconst (v := (1 : Int32)) hx hb dX1_stepRead_27 (by decide) ?_
      refine lv_goto (tgt := 32) hx hb dX1_stepRead_28 (by decide) ?_
      exact jn_32 (1 : Int32) hJ_21 _ _ _ hw (lv_sub hl [1, 2, 0] rfl)
  refine lv_icmp_ne (tgt := 12) hx hb dX1_stepRead_5 (by decide) (fun c_37 => ?_) (fun c_37 => ?_)
  · replace hF := fx_ff c_37 hF
    refine va_ldcS (own := RX1) E.1.1 E.1.2.1 E.1.2.2.2.1 E.2.2.1.2.2.2.1.2.2.1 dX1_stepRead_12 ?_
    refine lv_aload_n hx hb dX1_stepRead_14 rfl (lv_at hl 0 rfl) ?_
    replace hF := fx_b1_e hF
    obtain ⟨r_38, h_39, hF⟩ := hF
    refine cx_cVi (r := r_38) (ws := sC g Rs nw im S_2 ++ ((Rs 0, .inr (9, [])) :: X)) (ws' := sC g Rs nw im S_2 ++ ((Rs 0, .inr (9, [])) :: X)) (As := []) (rest := [.ref (kS g 2)]) E (mX1_here l g A Rs _ _ _ S_2 h_39) (kwX1_X1_here E ⟨Nat.le_of_ble_eq_true rfl, Nat.le_of_ble_eq_true rfl⟩) 0 1 rfl rfl rfl hw rfl hl.1 rfl (Nat.le_of_ble_eq_true rfl) dX1_stepRead_15 ⟨Nat.le_of_ble_eq_true rfl, Nat.le_of_ble_eq_true rfl⟩ (fun H locs hw => ?_)
    replace hF := fx_b1_e hF
    obtain ⟨r_40, h_41, hF⟩ := hF
    refine cx_cRi (r := r_40) (ws := sC g Rs nw im S_2 ++ ((Rs 0, .inr (9, [])) :: X)) (ws' := sC g Rs nw im S_2 ++ ((Rs 0, .inr (9, [])) :: X)) (As := [.int r_38]) (rest := []) E (mJ2_indexOf l g A (sC g Rs nw im S_2 ++ ((Rs 0, .inr (9, [])) :: X)) 2 r_38 (by decide) h_41) (kwX1_J2_indexOf E ⟨Nat.le_of_ble_eq_true rfl, Nat.le_of_ble_eq_true rfl⟩) (ks_recv E (by decide) hw) hw rfl hl.1 rfl (Nat.le_of_ble_eq_true rfl) dX1_stepRead_18 ⟨Nat.le_of_ble_eq_true rfl, Nat.le_of_ble_eq_true rfl⟩ (fun H locs hw => ?_)
    exact jn_21 r_40 hF _ _ _ hw hl
  · replace hF := fx_tt c_37 hF
    refine lv_iconst (v := (-1 : Int32)) hx hb dX1_stepRead_8 (by decide) ?_
    refine lv_goto (tgt := 21) hx hb dX1_stepRead_9 (by decide) ?_
    exact jn_21 (-1 : Int32) hF _ _ _ hw hl
/-! X1_wholeScript -/
def JX1_wholeScript_102 (S_6 : Sx) (t_8 : Int32) : Option (Sx ⊕ Sx) :=
  fx_x1 (FX1_must S_6 t_8) (fun S_10 => some (.inl S_10)) (fun S_10 => some (.inr S_10))
def JX1_wholeScript_88 (S_4 : Sx) : Option (Sx ⊕ Sx) :=
  fx_b2 (FX1_ahead S_4) (fun r_5 S_6 => if r_5 = (-1 : Int32) then (JX1_wholeScript_102 S_6 (1 : Int32)) else (JX1_wholeScript_102 S_6 (0 : Int32)))
def JX1_wholeScript_70 (t_24 : Int32) (S_22 : Sx) : Option ((Sx × Int32) ⊕ ((Sx) ⊕ (Sx))) :=
  if t_24 = 0 then (some (.inl (S_22, t_24))) else (fx_lt (px_I S_22 3 ((gx_I S_22 3) + (1 : Int32))) (fun S_26 => some (.inl (S_26, t_24))))
def JX1_wholeScript_69 (S_22 : Sx) : Option ((Sx × Int32) ⊕ ((Sx) ⊕ (Sx))) :=
  JX1_wholeScript_70 (0 : Int32) S_22
def LX1_wholeScript_14 (p1 : Int32) (q_ : Sx × Int32) : Option ((Sx × Int32) ⊕ ((Sx) ⊕ (Sx))) :=
  fx_u2 q_ (fun S_12 x2_13 => if x2_13 = 0 then (some (.inr (.inl S_12))) else (fx_gd (fx_in p1 5) (fx_x1 (FX1_stepRead S_12 ((5 : Int32) * (((16 : Int32) * p1) + (gx_A S_12 15 p1.toNatClampNeg)))) (fun S_17 => fx_gd (fx_in p1 5) (fx_gd (fx_in p1 5) (fx_lt (px_A S_17 15 (upd (gx_A S_17 15) p1.toNatClampNeg ((gx_A S_17 15 p1.toNatClampNeg) + (1 : Int32)))) (fun S_20 => fx_b2 (FX1_ahead S_20) (fun r_21 S_22 => if r_21 = (59 : Int32) then (fx_gd (fx_in p1 5) (if (16 : Int32) ≤ (gx_A S_22 15 p1.toNatClampNeg) then (JX1_wholeScript_69 S_22) else (JX1_wholeScript_70 (1 : Int32) S_22))) else (JX1_wholeScript_69 S_22)))))) (fun S_17 => some (.inr (.inr S_17))))))
def FX1_wholeScript (S : Sx) (p1 : Int32) : Option (Sx ⊕ Sx) :=
  fx_lt (px_I S 3 (0 : Int32)) (fun S_1 => fx_gd (fx_in p1 5) (fx_lt (px_A S_1 15 (upd (gx_A S_1 15) p1.toNatClampNeg (0 : Int32))) (fun S_3 => fx_b1 (fx_lp (LX1_wholeScript_14 p1) 2000 (S_3, (1 : Int32))) (fun q_ => fx_sm q_ (fun S_30 => JX1_wholeScript_88 S_30) (fun S_31 => some (.inr S_31))))))
set_option maxHeartbeats 4000000 in
set_option maxRecDepth 100000 in
theorem mX1_wholeScript (l : Launch) (g : Gx) (A : Nat → Prop) (Rs : Nat → Nat) (nw im : Option Nat) (X : va_W) (S : Sx) (p1 : Int32) {o : Sx ⊕ Sx} (hF : FX1_wholeScript S p1 = some o) :
    cx_xv l yX1_wholeScript cX1_wholeScript 3 rmX1_wholeScript [.ref (Rs 100), .int p1] g A (sC g Rs nw im S ++ ((Rs 0, .inr (9, [])) :: X)) (xo_v (fun S => sC g Rs nw im S ++ ((Rs 0, .inr (9, [])) :: X)) o) := by
  refine cx_xv_of (by decide) (Nat.le_of_ble_eq_true rfl) ?_
  intro p e s m av below meth c Q E hret hthrow H hw ls hl
  have E : cx_E p m meth c cX1_wholeScript 3 s av RX1 g A := E
  have hx := E.1.1
  have hb := E.1.2.1
  have hl : lv_has ls 3 [(0, .ref (Rs 100)), (1, .int p1)] := hl
  generalize hlc : ([] : List Loc) = locs at hw ⊢
  clear hlc
  unfold FX1_wholeScript at hF
  refine lv_aload_n hx hb dX1_wholeScript_0 rfl (lv_at hl 0 rfl) ?_
  refine lv_iconst (v := (0 : Int32)) hx hb dX1_wholeScript_1 (by decide) ?_
  obtain ⟨S_1, eS_1⟩ : ∃ z : Sx, z = px_I S 3 (0 : Int32) := ⟨_, rfl⟩
  replace hF := fx_lt_e eS_1 hF
  refine pX1_3 eS_1 E hw dX1_wholeScript_2 (fun H locs hw => ?_)
  refine lv_aload_n hx hb dX1_wholeScript_5 rfl (lv_at hl 0 rfl) ?_
  refine gX1_15 E hw dX1_wholeScript_6 ?_
  refine lv_iload_n hx hb dX1_wholeScript_9 rfl (lv_at hl 1 rfl) ?_
  refine lv_iconst (v := (0 : Int32)) hx hb dX1_wholeScript_10 (by decide) ?_
  replace hF := fx_gd_e hF
  obtain ⟨h_2, hF⟩ := hF
  obtain ⟨S_3, eS_3⟩ : ∃ z : Sx, z = px_A S_1 15 (upd (gx_A S_1 15) p1.toNatClampNeg (0 : Int32)) := ⟨_, rfl⟩
  replace hF := fx_lt_e eS_3 hF
  refine rsX1_15 eS_3 E hw (fx_in_e h_2) dX1_wholeScript_11 (fun H locs hw => ?_)
  refine lv_iconst (v := (1 : Int32)) hx hb dX1_wholeScript_12 (by decide) ?_
  refine lv_istore_n hx hb dX1_wholeScript_13 rfl hl (by decide) rfl (fun ls hl => ?_)
  have hl : lv_has ls 3 [(2, .int (1 : Int32)), (0, .ref (Rs 100)), (1, .int p1)] := hl
  have jn_88 : ∀ (S_4 : Sx), JX1_wholeScript_88 S_4 = some o → ∀ (H : Heap) (locs : List Loc) (ls : Array Slot), cx_W g A s (sC g Rs nw im S_4 ++ ((Rs 0, .inr (9, [])) :: X)) H locs → lv_has ls 3 [(0, .ref (Rs 100))] → W p l e rmX1_wholeScript s m av below meth c H locs 0 0 Q (F0 m 88 ls []) := by
    intro S_4 hJ_88 H locs ls hw hl
    unfold JX1_wholeScript_88 at hJ_88
    refine lv_aload_n hx hb dX1_wholeScript_88 rfl (lv_at hl 0 rfl) ?_
    refine lv_aload_n hx hb dX1_wholeScript_89 rfl (lv_at hl 0 rfl) ?_
    replace hJ_88 := fx_b2_e hJ_88
    obtain ⟨r_5, S_6, h_7, hJ_88⟩ := hJ_88
    refine cx_cVi (r := r_5) (ws := sC g Rs nw im S_4 ++ ((Rs 0, .inr (9, [])) :: X)) (ws' := sC g Rs nw im S_6 ++ ((Rs 0, .inr (9, [])) :: X)) (As := []) (rest := [.ref (Rs 100)]) E (mX1_ahead l g A Rs _ _ _ S_4 h_7) (kwX1_X1_ahead E ⟨Nat.le_of_ble_eq_true rfl, Nat.le_of_ble_eq_true rfl⟩) 0 1 rfl rfl rfl hw rfl hl.1 rfl (Nat.le_of_ble_eq_true rfl) dX1_wholeScript_90 ⟨Nat.le_of_ble_eq_true rfl, Nat.le_of_ble_eq_true rfl⟩ (fun H locs hw => ?_)
    refine lv_iconst (v := (-1 : Int32)) hx hb dX1_wholeScript_93 (by decide) ?_
    have jn_102 : ∀ (t_8 : Int32), JX1_wholeScript_102 S_6 t_8 = some o → ∀ (H : Heap) (locs : List Loc) (ls : Array Slot), cx_W g A s (sC g Rs nw im S_6 ++ ((Rs 0, .inr (9, [])) :: X)) H locs → lv_has ls 3 [] → W p l e rmX1_wholeScript s m av below meth c H locs 0 0 Q (F0 m 102 ls [.int t_8, .ref (Rs 100)]) := by
      intro t_8 hJ_102 H locs ls hw hl
      unfold JX1_wholeScript_102 at hJ_102
      replace hJ_102 := fx_x1_e hJ_102
      rcases hJ_102 with ⟨S_10, h_9, hJ_102⟩ | ⟨S_10, h_9, hJ_102⟩
      · refine cx_cXv_n (ws := sC g Rs nw im S_6 ++ ((Rs 0, .inr (9, [])) :: X)) (ws' := sC g Rs nw im S_10 ++ ((Rs 0, .inr (9, [])) :: X)) (As := [.int t_8]) (rest := []) E (mX1_must l g A Rs _ _ _ S_6 t_8 h_9) (kwX1_X1_must E ⟨Nat.le_of_ble_eq_true rfl, Nat.le_of_ble_eq_true rfl⟩) 0 1 rfl rfl rfl hw rfl hl.1 rfl (Nat.le_of_ble_eq_true rfl) dX1_wholeScript_102 (fun H locs hw => ?_)
        obtain rfl := Option.some.inj hJ_102
        exact hret _ _ _ _ _ rfl hw dX1_wholeScript_105
      · refine cx_cXv_t (ws := sC g Rs nw im S_6 ++ ((Rs 0, .inr (9, [])) :: X)) (ws' := sC g Rs nw im S_10 ++ ((Rs 0, .inr (9, [])) :: X)) (As := [.int t_8]) (rest := []) E (mX1_must l g A Rs _ _ _ S_6 t_8 h_9) (kwX1_X1_must E ⟨Nat.le_of_ble_eq_true rfl, Nat.le_of_ble_eq_true rfl⟩) 0 1 rfl rfl rfl hw rfl hl.1 rfl (Nat.le_of_ble_eq_true rfl) dX1_wholeScript_102 (fun q_ H locs hw hT => ?_)
        obtain rfl := Option.some.inj hJ_102
        exact hthrow _ _ _ _ _ _ _ rfl hw hT
    refine lv_icmp_ne (tgt := 101) hx hb dX1_wholeScript_94 (by decide) (fun c_11 => ?_) (fun c_11 => ?_)
    · replace hJ_88 := fx_ff c_11 hJ_88
      refine lv_iconst (v := (0 : Int32)) hx hb dX1_wholeScript_101 (by decide) ?_
      exact jn_102 (0 : Int32) hJ_88 _ _ _ hw (lv_sub hl [] rfl)
    · replace hJ_88 := fx_tt c_11 hJ_88
      refine lv_iconst (v := (1 : Int32)) hx hb dX1_wholeScript_97 (by decide) ?_
      refine lv_goto (tgt := 102) hx hb dX1_wholeScript_98 (by decide) ?_
      exact jn_102 (1 : Int32) hJ_88 _ _ _ hw (lv_sub hl [] rfl)
  replace hF := fx_b1_e hF
  obtain ⟨ex_14, hL_14, hF⟩ := hF
  have key_14 : ∀ (n_14 : Nat) (S_12 : Sx) (x2_13 : Int32), fx_lp (LX1_wholeScript_14 p1) n_14 (S_12, x2_13) = some ex_14 → ∀ (H : Heap) (locs : List Loc) (ls : Array Slot), cx_W g A s (sC g Rs nw im S_12 ++ ((Rs 0, .inr (9, [])) :: X)) H locs → lv_has ls 3 [(0, .ref (Rs 100)), (1, .int p1), (2, .int x2_13)] → W p l e rmX1_wholeScript s m av below meth c H locs 0 0 Q (F0 m 14 ls []) := by
    intro n_14
    induction n_14 with
    | zero => intro S_12 x2_13 hL_14; exact fx_lp_0 hL_14
    | succ n_14 ih_14 =>
      intro S_12 x2_13 hL_14 H locs ls hw hl
      replace hL_14 := fx_lp_s hL_14
      obtain ⟨o_14, hB_14, hO_14⟩ := hL_14
      unfold LX1_wholeScript_14 at hB_14
      replace hB_14 := fx_u2_e hB_14
      refine lv_iload_n hx hb dX1_wholeScript_14 rfl (lv_at hl 2 rfl) ?_
      refine lv_if_eq (tgt := 88) hx hb dX1_wholeScript_15 (by decide) (fun c_14 => ?_) (fun c_14 => ?_)
      · replace hB_14 := fx_tt c_14 hB_14
        obtain rfl := fx_ex hB_14 hO_14
        replace hF := fx_sm_l hF
        exact jn_88 S_12 hF _ _ _ hw (lv_sub hl [0] rfl)
      · replace hB_14 := fx_ff c_14 hB_14
        refine lv_aload_n hx hb dX1_wholeScript_18 rfl (lv_at hl 0 rfl) ?_
        refine lv_iconst (v := (5 : Int32)) hx hb dX1_wholeScript_19 (by decide) ?_
        refine lv_bipush (v := (16 : Int32)) hx hb dX1_wholeScript_20 (by decide) ?_
        refine lv_iload_n hx hb dX1_wholeScript_22 rfl (lv_at hl 1 rfl) ?_
        refine lv_imul hx hb dX1_wholeScript_23 ?_
        refine lv_aload_n hx hb dX1_wholeScript_24 rfl (lv_at hl 0 rfl) ?_
        refine gX1_15 E hw dX1_wholeScript_25 ?_
        refine lv_iload_n hx hb dX1_wholeScript_28 rfl (lv_at hl 1 rfl) ?_
        replace hB_14 := fx_gd_e hB_14
        obtain ⟨h_15, hB_14⟩ := hB_14
        refine raX1_15 E hw (fx_in_e h_15) dX1_wholeScript_29 ?_
        refine lv_iadd hx hb dX1_wholeScript_30 ?_
        refine lv_imul hx hb dX1_wholeScript_31 ?_
        replace hB_14 := fx_x1_e hB_14
        rcases hB_14 with ⟨S_17, h_16, hB_14⟩ | ⟨S_17, h_16, hB_14⟩
        · refine cx_cXv_n (ws := sC g Rs nw im S_12 ++ ((Rs 0, .inr (9, [])) :: X)) (ws' := sC g Rs nw im S_17 ++ ((Rs 0, .inr (9, [])) :: X)) (As := [.int ((5 : Int32) * (((16 : Int32) * p1) + (gx_A S_12 15 p1.toNatClampNeg)))]) (rest := []) E (mX1_stepRead l g A Rs _ _ _ S_12 ((5 : Int32) * (((16 : Int32) * p1) + (gx_A S_12 15 p1.toNatClampNeg))) h_16) (kwX1_X1_stepRead E ⟨Nat.le_of_ble_eq_true rfl, Nat.le_of_ble_eq_true rfl⟩) 0 1 rfl rfl rfl hw rfl hl.1 rfl (Nat.le_of_ble_eq_true rfl) dX1_wholeScript_32 (fun H locs hw => ?_)
          refine lv_aload_n hx hb dX1_wholeScript_35 rfl (lv_at hl 0 rfl) ?_
          refine gX1_15 E hw dX1_wholeScript_36 ?_
          refine lv_iload_n hx hb dX1_wholeScript_39 rfl (lv_at hl 1 rfl) ?_
          refine lv_dup2_11 hx hb dX1_wholeScript_40 rfl rfl ?_
          replace hB_14 := fx_gd_e hB_14
          obtain ⟨h_18, hB_14⟩ := hB_14
          refine raX1_15 E hw (fx_in_e h_18) dX1_wholeScript_41 ?_
          refine lv_iconst (v := (1 : Int32)) hx hb dX1_wholeScript_42 (by decide) ?_
          refine lv_iadd hx hb dX1_wholeScript_43 ?_
          replace hB_14 := fx_gd_e hB_14
          obtain ⟨h_19, hB_14⟩ := hB_14
          obtain ⟨S_20, eS_20⟩ : ∃ z : Sx, z = px_A S_17 15 (upd (gx_A S_17 15) p1.toNatClampNeg ((gx_A S_17 15 p1.toNatClampNeg) + (1 : Int32))) := ⟨_, rfl⟩
          replace hB_14 := fx_lt_e eS_20 hB_14
          refine rsX1_15 eS_20 E hw (fx_in_e h_19) dX1_wholeScript_44 (fun H locs hw => ?_)
          refine lv_aload_n hx hb dX1_wholeScript_45 rfl (lv_at hl 0 rfl) ?_
          replace hB_14 := fx_b2_e hB_14
          obtain ⟨r_21, S_22, h_23, hB_14⟩ := hB_14
          refine cx_cVi (r := r_21) (ws := sC g Rs nw im S_20 ++ ((Rs 0, .inr (9, [])) :: X)) (ws' := sC g Rs nw im S_22 ++ ((Rs 0, .inr (9, [])) :: X)) (As := []) (rest := []) E (mX1_ahead l g A Rs _ _ _ S_20 h_23) (kwX1_X1_ahead E ⟨Nat.le_of_ble_eq_true rfl, Nat.le_of_ble_eq_true rfl⟩) 0 1 rfl rfl rfl hw rfl hl.1 rfl (Nat.le_of_ble_eq_true rfl) dX1_wholeScript_46 ⟨Nat.le_of_ble_eq_true rfl, Nat.le_of_ble_eq_true rfl⟩ (fun H locs hw => ?_)
          refine lv_bipush (v := (59 : Int32)) hx hb dX1_wholeScript_49 (by decide) ?_
          have jn_70 : ∀ (t_24 : Int32), JX1_wholeScript_70 t_24 S_22 = some o_14 → ∀ (H : Heap) (locs : List Loc) (ls : Array Slot), cx_W g A s (sC g Rs nw im S_22 ++ ((Rs 0, .inr (9, [])) :: X)) H locs → lv_has ls 3 [(0, .ref (Rs 100)), (1, .int p1)] → W p l e rmX1_wholeScript s m av below meth c H locs 0 0 Q (F0 m 70 ls [.int t_24]) := by
            intro t_24 hJ_70 H locs ls hw hl
            unfold JX1_wholeScript_70 at hJ_70
            refine lv_istore_n hx hb dX1_wholeScript_70 rfl hl (by decide) rfl (fun ls hl => ?_)
            have hl : lv_has ls 3 [(2, .int t_24), (0, .ref (Rs 100)), (1, .int p1)] := hl
            refine lv_iload_n hx hb dX1_wholeScript_71 rfl (lv_at hl 0 rfl) ?_
            refine lv_if_eq (tgt := 14) hx hb dX1_wholeScript_72 (by decide) (fun c_25 => ?_) (fun c_25 => ?_)
            · replace hJ_70 := fx_tt c_25 hJ_70
              exact ih_14 S_22 t_24 (fx_bk hJ_70 hO_14) _ _ _ hw (lv_sub hl [1, 2, 0] rfl)
            · replace hJ_70 := fx_ff c_25 hJ_70
              refine lv_aload_n hx hb dX1_wholeScript_75 rfl (lv_at hl 1 rfl) ?_
              refine lv_dup hx hb dX1_wholeScript_76 rfl ?_
              refine gX1_3 E hw dX1_wholeScript_77 ?_
              refine lv_iconst (v := (1 : Int32)) hx hb dX1_wholeScript_80 (by decide) ?_
              refine lv_iadd hx hb dX1_wholeScript_81 ?_
              obtain ⟨S_26, eS_26⟩ : ∃ z : Sx, z = px_I S_22 3 ((gx_I S_22 3) + (1 : Int32)) := ⟨_, rfl⟩
              replace hJ_70 := fx_lt_e eS_26 hJ_70
              refine pX1_3 eS_26 E hw dX1_wholeScript_82 (fun H locs hw => ?_)
              refine lv_goto (tgt := 14) hx hb dX1_wholeScript_85 (by decide) ?_
              exact ih_14 S_26 t_24 (fx_bk hJ_70 hO_14) _ _ _ hw (lv_sub hl [1, 2, 0] rfl)
          have jn_69 : JX1_wholeScript_69 S_22 = some o_14 → ∀ (H : Heap) (locs : List Loc) (ls : Array Slot), cx_W g A s (sC g Rs nw im S_22 ++ ((Rs 0, .inr (9, [])) :: X)) H locs → lv_has ls 3 [(0, .ref (Rs 100)), (1, .int p1)] → W p l e rmX1_wholeScript s m av below meth c H locs 0 0 Q (F0 m 69 ls []) := by
            intro  hJ_69 H locs ls hw hl
            unfold JX1_wholeScript_69 at hJ_69
            refine lv_iconst (v := (0 : Int32)) hx hb dX1_wholeScript_69 (by decide) ?_
            exact jn_70 (0 : Int32) hJ_69 _ _ _ hw hl
          refine lv_icmp_ne (tgt := 69) hx hb dX1_wholeScript_51 (by decide) (fun c_27 => ?_) (fun c_27 => ?_)
          · replace hB_14 := fx_ff c_27 hB_14
            exact jn_69  hB_14 _ _ _ hw (lv_sub hl [0, 1] rfl)
          · replace hB_14 := fx_tt c_27 hB_14
            refine lv_aload_n hx hb dX1_wholeScript_54 rfl (lv_at hl 0 rfl) ?_
            refine gX1_15 E hw dX1_wholeScript_55 ?_
            refine lv_iload_n hx hb dX1_wholeScript_58 rfl (lv_at hl 1 rfl) ?_
            replace hB_14 := fx_gd_e hB_14
            obtain ⟨h_28, hB_14⟩ := hB_14
            refine raX1_15 E hw (fx_in_e h_28) dX1_wholeScript_59 ?_
            refine lv_bipush (v := (16 : Int32)) hx hb dX1_wholeScript_60 (by decide) ?_
            refine lv_icmp_ge (tgt := 69) hx hb dX1_wholeScript_62 (by decide) (fun c_29 => ?_) (fun c_29 => ?_)
            · replace hB_14 := fx_tt c_29 hB_14
              exact jn_69  hB_14 _ _ _ hw (lv_sub hl [0, 1] rfl)
            · replace hB_14 := fx_ff c_29 hB_14
              refine lv_iconst (v := (1 : Int32)) hx hb dX1_wholeScript_65 (by decide) ?_
              refine lv_goto (tgt := 70) hx hb dX1_wholeScript_66 (by decide) ?_
              exact jn_70 (1 : Int32) hB_14 _ _ _ hw (lv_sub hl [0, 1] rfl)
        · refine cx_cXv_t (ws := sC g Rs nw im S_12 ++ ((Rs 0, .inr (9, [])) :: X)) (ws' := sC g Rs nw im S_17 ++ ((Rs 0, .inr (9, [])) :: X)) (As := [.int ((5 : Int32) * (((16 : Int32) * p1) + (gx_A S_12 15 p1.toNatClampNeg)))]) (rest := []) E (mX1_stepRead l g A Rs _ _ _ S_12 ((5 : Int32) * (((16 : Int32) * p1) + (gx_A S_12 15 p1.toNatClampNeg))) h_16) (kwX1_X1_stepRead E ⟨Nat.le_of_ble_eq_true rfl, Nat.le_of_ble_eq_true rfl⟩) 0 1 rfl rfl rfl hw rfl hl.1 rfl (Nat.le_of_ble_eq_true rfl) dX1_wholeScript_32 (fun q_ H locs hw hT => ?_)
          obtain rfl := fx_ex hB_14 hO_14
          replace hF := fx_sm_r hF
          obtain rfl := Option.some.inj hF
          exact hthrow _ _ _ _ _ _ _ rfl hw hT
  exact key_14 _ S_3 (1 : Int32) hL_14 _ _ _ hw (lv_sub hl [1, 2, 0] rfl)
