/-! byteOf(IIIIII)I -/
def JX1_byteOf_45 (t_1 : Int32) (p6 : Int32) : Option Int32 :=
  some ((t_1 >>> (((24 : Int32) - ((8 : Int32) * (p6 - p6 / (4 : Int32) * (4 : Int32)))) &&& 31)) &&& (255 : Int32))
def FX1_byteOf (p1 : Int32) (p2 : Int32) (p3 : Int32) (p4 : Int32) (p5 : Int32) (p6 : Int32) : Option Int32 :=
  if (4 : Int32) ≤ p6 then (if (8 : Int32) ≤ p6 then (if (12 : Int32) ≤ p6 then (if (16 : Int32) ≤ p6 then (JX1_byteOf_45 p5 p6) else (JX1_byteOf_45 p4 p6)) else (JX1_byteOf_45 p3 p6)) else (JX1_byteOf_45 p2 p6)) else (JX1_byteOf_45 p1 p6)
set_option maxHeartbeats 4000000 in
set_option maxRecDepth 100000 in
theorem mX1_byteOf (l : Launch) (g : Gx) (A : Nat → Prop) (ws : va_W) (p1 : Int32) (p2 : Int32) (p3 : Int32) (p4 : Int32) (p5 : Int32) (p6 : Int32) {o : Int32} (hF : FX1_byteOf p1 p2 p3 p4 p5 p6 = some o) :
    cx_i l yX1_byteOf cX1_byteOf 7 .int rmX1_byteOf [.int p1, .int p2, .int p3, .int p4, .int p5, .int p6] g A ws o ws 0 0 := by
  refine cx_i_of (by decide) (Nat.le_of_ble_eq_true rfl) ?_
  intro p e s m av below meth c Q E hret H hw ls hl
  have E : cx_E p m meth c cX1_byteOf 7 s av RX1 g A := E
  have hx := E.1.1
  have hb := E.1.2.1
  have hl : lv_has ls 7 [(0, .int p1), (1, .int p2), (2, .int p3), (3, .int p4), (4, .int p5), (5, .int p6)] := hl
  generalize hlc : ([] : List Loc) = locs at hw ⊢
  clear hlc
  unfold FX1_byteOf at hF
  refine lv_iload hx hb dX1_byteOf_0 (lv_at hl 5 rfl) ?_
  refine lv_iconst (v := (4 : Int32)) hx hb dX1_byteOf_2 (by decide) ?_
  have jn_45 : ∀ (t_1 : Int32), JX1_byteOf_45 t_1 p6 = some o → ∀ (H : Heap) (locs : List Loc) (ls : Array Slot), cx_W g A s ws H locs → lv_has ls 7 [(5, .int p6)] → W p l e rmX1_byteOf s m av below meth c H locs 0 0 Q (F0 m 45 ls [.int t_1]) := by
    intro t_1 hJ_45 H locs ls hw hl
    unfold JX1_byteOf_45 at hJ_45
    refine lv_istore hx hb dX1_byteOf_45 hl (by decide) rfl (fun ls hl => ?_)
    have hl : lv_has ls 7 [(6, .int t_1), (5, .int p6)] := hl
    refine lv_iload hx hb dX1_byteOf_47 (lv_at hl 0 rfl) ?_
    refine lv_bipush (v := (24 : Int32)) hx hb dX1_byteOf_49 (by decide) ?_
    refine lv_bipush (v := (8 : Int32)) hx hb dX1_byteOf_51 (by decide) ?_
    refine lv_iload hx hb dX1_byteOf_53 (lv_at hl 1 rfl) ?_
    refine lv_iconst (v := (4 : Int32)) hx hb dX1_byteOf_55 (by decide) ?_
    refine lv_irem hx hb dX1_byteOf_56 (by decide) ?_
    refine lv_imul hx hb dX1_byteOf_57 ?_
    refine lv_isub hx hb dX1_byteOf_58 ?_
    refine lv_ishr hx hb dX1_byteOf_59 ?_
    refine lv_sipush (v := (255 : Int32)) hx hb dX1_byteOf_60 (by decide) ?_
    refine lv_iand hx hb dX1_byteOf_63 ?_
    obtain rfl := Option.some.inj hJ_45
    exact hret _ _ _ _ _ rfl rfl hw dX1_byteOf_64
  refine lv_icmp_ge (tgt := 10) hx hb dX1_byteOf_3 (by decide) (fun c_2 => ?_) (fun c_2 => ?_)
  · replace hF := fx_tt c_2 hF
    refine lv_iload hx hb dX1_byteOf_10 (lv_at hl 5 rfl) ?_
    refine lv_bipush (v := (8 : Int32)) hx hb dX1_byteOf_12 (by decide) ?_
    refine lv_icmp_ge (tgt := 21) hx hb dX1_byteOf_14 (by decide) (fun c_3 => ?_) (fun c_3 => ?_)
    · replace hF := fx_tt c_3 hF
      refine lv_iload hx hb dX1_byteOf_21 (lv_at hl 5 rfl) ?_
      refine lv_bipush (v := (12 : Int32)) hx hb dX1_byteOf_23 (by decide) ?_
      refine lv_icmp_ge (tgt := 32) hx hb dX1_byteOf_25 (by decide) (fun c_4 => ?_) (fun c_4 => ?_)
      · replace hF := fx_tt c_4 hF
        refine lv_iload hx hb dX1_byteOf_32 (lv_at hl 5 rfl) ?_
        refine lv_bipush (v := (16 : Int32)) hx hb dX1_byteOf_34 (by decide) ?_
        refine lv_icmp_ge (tgt := 43) hx hb dX1_byteOf_36 (by decide) (fun c_5 => ?_) (fun c_5 => ?_)
        · replace hF := fx_tt c_5 hF
          refine lv_iload hx hb dX1_byteOf_43 (lv_at hl 4 rfl) ?_
          exact jn_45 p5 hF _ _ _ hw (lv_sub hl [5] rfl)
        · replace hF := fx_ff c_5 hF
          refine lv_iload_n hx hb dX1_byteOf_39 rfl (lv_at hl 3 rfl) ?_
          refine lv_goto (tgt := 45) hx hb dX1_byteOf_40 (by decide) ?_
          exact jn_45 p4 hF _ _ _ hw (lv_sub hl [5] rfl)
      · replace hF := fx_ff c_4 hF
        refine lv_iload_n hx hb dX1_byteOf_28 rfl (lv_at hl 2 rfl) ?_
        refine lv_goto (tgt := 45) hx hb dX1_byteOf_29 (by decide) ?_
        exact jn_45 p3 hF _ _ _ hw (lv_sub hl [5] rfl)
    · replace hF := fx_ff c_3 hF
      refine lv_iload_n hx hb dX1_byteOf_17 rfl (lv_at hl 1 rfl) ?_
      refine lv_goto (tgt := 45) hx hb dX1_byteOf_18 (by decide) ?_
      exact jn_45 p2 hF _ _ _ hw (lv_sub hl [5] rfl)
  · replace hF := fx_ff c_2 hF
    refine lv_iload_n hx hb dX1_byteOf_6 rfl (lv_at hl 0 rfl) ?_
    refine lv_goto (tgt := 45) hx hb dX1_byteOf_7 (by decide) ?_
    exact jn_45 p1 hF _ _ _ hw (lv_sub hl [5] rfl)
/-! feed(IIIII)I -/
def JX1_feed_106 (S_3 : Sx) : Option (Int32 × Sx) :=
  some ((gx_I S_3 2), S_3)
def JX1_feed_100 (x7_5 : Int32) (S_9 : Sx) : Option ((Sx × Int32) ⊕ (Sx)) :=
  fx_lt (x7_5 + (1 : Int32)) (fun v_10 => some (.inl (S_9, v_10)))
def LX1_feed_55 (p1 : Int32) (p2 : Int32) (p3 : Int32) (p4 : Int32) (p5 : Int32) (q_ : Sx × Int32) : Option ((Sx × Int32) ⊕ (Sx)) :=
  fx_u2 q_ (fun S_4 x7_5 => if (20 : Int32) ≤ x7_5 then (some (.inr S_4)) else (fx_b1 (FX1_byteOf p1 p2 p3 p4 p5 x7_5) (fun r_7 => if r_7 = 0 then (JX1_feed_100 x7_5 S_4) else (fx_lt (gx_I S_4 2) (fun v_12 => fx_lt (px_I S_4 2 (v_12 + (1 : Int32))) (fun S_13 => fx_gd (fx_in v_12 280) (fx_lt (px_A S_13 1 (upd (gx_A S_13 1) v_12.toNatClampNeg (vp_nar .byte (r_7.toInt8.toInt32)))) (fun S_15 => JX1_feed_100 x7_5 S_15))))))))
def JX1_feed_37 (S : Sx) (x6_1 : Int32) (p1 : Int32) (p2 : Int32) (p3 : Int32) (p4 : Int32) (p5 : Int32) : Option (Int32 × Sx) :=
  if ((gx_I S 2) + x6_1) ≤ (280 : Int32) then (fx_b1 (fx_lp (LX1_feed_55 p1 p2 p3 p4 p5) 2000 (S, (0 : Int32))) (fun S_16 => JX1_feed_106 S_16)) else (some ((-1 : Int32), S))
def JX1_feed_31 (x7_18 : Int32) (x6_22 : Int32) : Option ((Int32 × Int32) ⊕ (Int32)) :=
  fx_lt (x7_18 + (1 : Int32)) (fun v_23 => some (.inl (x6_22, v_23)))
def LX1_feed_6 (p1 : Int32) (p2 : Int32) (p3 : Int32) (p4 : Int32) (p5 : Int32) (q_ : Int32 × Int32) : Option ((Int32 × Int32) ⊕ (Int32)) :=
  fx_u2 q_ (fun x6_17 x7_18 => if (20 : Int32) ≤ x7_18 then (some (.inr x6_17)) else (fx_b1 (FX1_byteOf p1 p2 p3 p4 p5 x7_18) (fun r_20 => if r_20 = 0 then (JX1_feed_31 x7_18 x6_17) else (fx_lt (x6_17 + (1 : Int32)) (fun v_25 => JX1_feed_31 x7_18 v_25)))))
def FX1_feed (S : Sx) (p1 : Int32) (p2 : Int32) (p3 : Int32) (p4 : Int32) (p5 : Int32) : Option (Int32 × Sx) :=
  fx_b1 (fx_lp (LX1_feed_6 p1 p2 p3 p4 p5) 2000 ((0 : Int32), (0 : Int32))) (fun y6_26 => JX1_feed_37 S y6_26 p1 p2 p3 p4 p5)
set_option maxHeartbeats 4000000 in
set_option maxRecDepth 100000 in
theorem mX1_feed (l : Launch) (g : Gx) (A : Nat → Prop) (Rs : Nat → Nat) (nw im : Option Nat) (X : va_W) (S : Sx) (p1 : Int32) (p2 : Int32) (p3 : Int32) (p4 : Int32) (p5 : Int32) {o : Int32 × Sx} (hF : FX1_feed S p1 p2 p3 p4 p5 = some o) :
    cx_i l yX1_feed cX1_feed 9 .int rmX1_feed [.ref (Rs 100), .int p1, .int p2, .int p3, .int p4, .int p5] g A (sC g Rs nw im S ++ X) o.1 (sC g Rs nw im o.2 ++ X) 0 0 := by
  refine cx_i_of (by decide) (Nat.le_of_ble_eq_true rfl) ?_
  intro p e s m av below meth c Q E hret H hw ls hl
  have E : cx_E p m meth c cX1_feed 9 s av RX1 g A := E
  have hx := E.1.1
  have hb := E.1.2.1
  have hl : lv_has ls 9 [(0, .ref (Rs 100)), (1, .int p1), (2, .int p2), (3, .int p3), (4, .int p4), (5, .int p5)] := hl
  generalize hlc : ([] : List Loc) = locs at hw ⊢
  clear hlc
  unfold FX1_feed at hF
  refine lv_iconst (v := (0 : Int32)) hx hb dX1_feed_0 (by decide) ?_
  refine lv_istore hx hb dX1_feed_1 hl (by decide) rfl (fun ls hl => ?_)
  have hl : lv_has ls 9 [(6, .int (0 : Int32)), (0, .ref (Rs 100)), (1, .int p1), (2, .int p2), (3, .int p3), (4, .int p4), (5, .int p5)] := hl
  refine lv_iconst (v := (0 : Int32)) hx hb dX1_feed_3 (by decide) ?_
  refine lv_istore hx hb dX1_feed_4 hl (by decide) rfl (fun ls hl => ?_)
  have hl : lv_has ls 9 [(7, .int (0 : Int32)), (6, .int (0 : Int32)), (0, .ref (Rs 100)), (1, .int p1), (2, .int p2), (3, .int p3), (4, .int p4), (5, .int p5)] := hl
  have jn_37 : ∀ (x6_1 : Int32), JX1_feed_37 S x6_1 p1 p2 p3 p4 p5 = some o → ∀ (H : Heap) (locs : List Loc) (ls : Array Slot), cx_W g A s (sC g Rs nw im S ++ X) H locs → lv_has ls 9 [(0, .ref (Rs 100)), (1, .int p1), (2, .int p2), (3, .int p3), (4, .int p4), (5, .int p5), (6, .int x6_1)] → W p l e rmX1_feed s m av below meth c H locs 0 0 Q (F0 m 37 ls []) := by
    intro x6_1 hJ_37 H locs ls hw hl
    unfold JX1_feed_37 at hJ_37
    refine lv_aload_n hx hb dX1_feed_37 rfl (lv_at hl 0 rfl) ?_
    refine gX1_2 E hw dX1_feed_38 ?_
    refine lv_iload hx hb dX1_feed_41 (lv_at hl 6 rfl) ?_
    refine lv_iadd hx hb dX1_feed_43 ?_
    refine lv_sipush (v := (280 : Int32)) hx hb dX1_feed_44 (by decide) ?_
    refine lv_icmp_le (tgt := 52) hx hb dX1_feed_47 (by decide) (fun c_2 => ?_) (fun c_2 => ?_)
    · replace hJ_37 := fx_tt c_2 hJ_37
      refine lv_iconst (v := (0 : Int32)) hx hb dX1_feed_52 (by decide) ?_
      refine lv_istore hx hb dX1_feed_53 hl (by decide) rfl (fun ls hl => ?_)
      have hl : lv_has ls 9 [(7, .int (0 : Int32)), (0, .ref (Rs 100)), (1, .int p1), (2, .int p2), (3, .int p3), (4, .int p4), (5, .int p5), (6, .int x6_1)] := hl
      have jn_106 : ∀ (S_3 : Sx), JX1_feed_106 S_3 = some o → ∀ (H : Heap) (locs : List Loc) (ls : Array Slot), cx_W g A s (sC g Rs nw im S_3 ++ X) H locs → lv_has ls 9 [(0, .ref (Rs 100))] → W p l e rmX1_feed s m av below meth c H locs 0 0 Q (F0 m 106 ls []) := by
        intro S_3 hJ_106 H locs ls hw hl
        unfold JX1_feed_106 at hJ_106
        refine lv_aload_n hx hb dX1_feed_106 rfl (lv_at hl 0 rfl) ?_
        refine gX1_2 E hw dX1_feed_107 ?_
        obtain rfl := Option.some.inj hJ_106
        exact hret _ _ _ _ _ rfl rfl hw dX1_feed_110
      replace hJ_37 := fx_b1_e hJ_37
      obtain ⟨ex_55, hL_55, hJ_37⟩ := hJ_37
      have key_55 : ∀ (n_55 : Nat) (S_4 : Sx) (x7_5 : Int32), fx_lp (LX1_feed_55 p1 p2 p3 p4 p5) n_55 (S_4, x7_5) = some ex_55 → ∀ (H : Heap) (locs : List Loc) (ls : Array Slot), cx_W g A s (sC g Rs nw im S_4 ++ X) H locs → lv_has ls 9 [(0, .ref (Rs 100)), (1, .int p1), (2, .int p2), (3, .int p3), (4, .int p4), (5, .int p5), (7, .int x7_5)] → W p l e rmX1_feed s m av below meth c H locs 0 0 Q (F0 m 55 ls []) := by
        intro n_55
        induction n_55 with
        | zero => intro S_4 x7_5 hL_55; exact fx_lp_0 hL_55
        | succ n_55 ih_55 =>
          intro S_4 x7_5 hL_55 H locs ls hw hl
          replace hL_55 := fx_lp_s hL_55
          obtain ⟨o_55, hB_55, hO_55⟩ := hL_55
          unfold LX1_feed_55 at hB_55
          replace hB_55 := fx_u2_e hB_55
          refine lv_iload hx hb dX1_feed_55 (lv_at hl 6 rfl) ?_
          refine lv_bipush (v := (20 : Int32)) hx hb dX1_feed_57 (by decide) ?_
          refine lv_icmp_ge (tgt := 106) hx hb dX1_feed_59 (by decide) (fun c_6 => ?_) (fun c_6 => ?_)
          · replace hB_55 := fx_tt c_6 hB_55
            obtain rfl := fx_ex hB_55 hO_55
            exact jn_106 S_4 hJ_37 _ _ _ hw (lv_sub hl [0] rfl)
          · replace hB_55 := fx_ff c_6 hB_55
            refine lv_iload_n hx hb dX1_feed_62 rfl (lv_at hl 1 rfl) ?_
            refine lv_iload_n hx hb dX1_feed_63 rfl (lv_at hl 2 rfl) ?_
            refine lv_iload_n hx hb dX1_feed_64 rfl (lv_at hl 3 rfl) ?_
            refine lv_iload hx hb dX1_feed_65 (lv_at hl 4 rfl) ?_
            refine lv_iload hx hb dX1_feed_67 (lv_at hl 5 rfl) ?_
            refine lv_iload hx hb dX1_feed_69 (lv_at hl 6 rfl) ?_
            replace hB_55 := fx_b1_e hB_55
            obtain ⟨r_7, h_8, hB_55⟩ := hB_55
            refine cx_cSi (r := r_7) (ws := sC g Rs nw im S_4 ++ X) (ws' := sC g Rs nw im S_4 ++ X) (As := [.int p1, .int p2, .int p3, .int p4, .int p5, .int x7_5]) (rest := []) E (mX1_byteOf l g A (sC g Rs nw im S_4 ++ X) p1 p2 p3 p4 p5 x7_5 h_8) (kwX1_X1_byteOf E ⟨Nat.le_of_ble_eq_true rfl, Nat.le_of_ble_eq_true rfl⟩) hw rfl hl.1 rfl (Nat.le_of_ble_eq_true rfl) dX1_feed_71 ⟨Nat.le_of_ble_eq_true rfl, Nat.le_of_ble_eq_true rfl⟩ (fun H locs hw => ?_)
            refine lv_istore hx hb dX1_feed_74 hl (by decide) rfl (fun ls hl => ?_)
            have hl : lv_has ls 9 [(8, .int r_7), (0, .ref (Rs 100)), (1, .int p1), (2, .int p2), (3, .int p3), (4, .int p4), (5, .int p5), (7, .int x7_5)] := hl
            refine lv_iload hx hb dX1_feed_76 (lv_at hl 0 rfl) ?_
            have jn_100 : ∀ (S_9 : Sx), JX1_feed_100 x7_5 S_9 = some o_55 → ∀ (H : Heap) (locs : List Loc) (ls : Array Slot), cx_W g A s (sC g Rs nw im S_9 ++ X) H locs → lv_has ls 9 [(0, .ref (Rs 100)), (1, .int p1), (2, .int p2), (3, .int p3), (4, .int p4), (5, .int p5), (7, .int x7_5)] → W p l e rmX1_feed s m av below meth c H locs 0 0 Q (F0 m 100 ls []) := by
              intro S_9 hJ_100 H locs ls hw hl
              unfold JX1_feed_100 at hJ_100
              obtain ⟨v_10, ev_10⟩ : ∃ z : Int32, z = x7_5 + (1 : Int32) := ⟨_, rfl⟩
              replace hJ_100 := fx_lt_e ev_10 hJ_100
              refine cx_iinc (z := (1 : Int32)) (v := v_10) hx hb dX1_feed_100 hl (k := 6) rfl (by decide) ev_10 (by decide) rfl (fun ls hl => ?_)
              have hl : lv_has ls 9 [(7, .int v_10), (0, .ref (Rs 100)), (1, .int p1), (2, .int p2), (3, .int p3), (4, .int p4), (5, .int p5)] := hl
              refine lv_goto (tgt := 55) hx hb dX1_feed_103 (by decide) ?_
              exact ih_55 S_9 v_10 (fx_bk hJ_100 hO_55) _ _ _ hw (lv_sub hl [1, 2, 3, 4, 5, 6, 0] rfl)
            refine lv_if_eq (tgt := 100) hx hb dX1_feed_78 (by decide) (fun c_11 => ?_) (fun c_11 => ?_)
            · replace hB_55 := fx_tt c_11 hB_55
              exact jn_100 S_4 hB_55 _ _ _ hw (lv_sub hl [1, 2, 3, 4, 5, 6, 7] rfl)
            · replace hB_55 := fx_ff c_11 hB_55
              refine lv_aload_n hx hb dX1_feed_81 rfl (lv_at hl 1 rfl) ?_
              refine gX1_1 E hw dX1_feed_82 ?_
              refine lv_aload_n hx hb dX1_feed_85 rfl (lv_at hl 1 rfl) ?_
              refine lv_dup hx hb dX1_feed_86 rfl ?_
              refine gX1_2 E hw dX1_feed_87 ?_
              refine lv_topi (fun v_12 ev_12 => ?_)
              replace hB_55 := fx_lt_e ev_12 hB_55
              refine lv_dup_x1 hx hb dX1_feed_90 rfl rfl ?_
              refine lv_iconst (v := (1 : Int32)) hx hb dX1_feed_91 (by decide) ?_
              refine lv_iadd hx hb dX1_feed_92 ?_
              obtain ⟨S_13, eS_13⟩ : ∃ z : Sx, z = px_I S_4 2 (v_12 + (1 : Int32)) := ⟨_, rfl⟩
              replace hB_55 := fx_lt_e eS_13 hB_55
              refine pX1_2 eS_13 E hw dX1_feed_93 (fun H locs hw => ?_)
              refine lv_iload hx hb dX1_feed_96 (lv_at hl 0 rfl) ?_
              refine lv_i2b hx hb dX1_feed_98 rfl ?_
              replace hB_55 := fx_gd_e hB_55
              obtain ⟨h_14, hB_55⟩ := hB_55
              obtain ⟨S_15, eS_15⟩ : ∃ z : Sx, z = px_A S_13 1 (upd (gx_A S_13 1) v_12.toNatClampNeg (vp_nar .byte (r_7.toInt8.toInt32))) := ⟨_, rfl⟩
              replace hB_55 := fx_lt_e eS_15 hB_55
              refine rsX1_1 eS_15 E hw (fx_in_e h_14) dX1_feed_99 (fun H locs hw => ?_)
              exact jn_100 S_15 hB_55 _ _ _ hw (lv_sub hl [1, 2, 3, 4, 5, 6, 7] rfl)
      exact key_55 _ S (0 : Int32) hL_55 _ _ _ hw (lv_sub hl [1, 2, 3, 4, 5, 6, 0] rfl)
    · replace hJ_37 := fx_ff c_2 hJ_37
      refine lv_iconst (v := (-1 : Int32)) hx hb dX1_feed_50 (by decide) ?_
      obtain rfl := Option.some.inj hJ_37
      exact hret _ _ _ _ _ rfl rfl hw dX1_feed_51
  replace hF := fx_b1_e hF
  obtain ⟨ex_6, hL_6, hF⟩ := hF
  have key_6 : ∀ (n_6 : Nat) (x6_17 : Int32) (x7_18 : Int32), fx_lp (LX1_feed_6 p1 p2 p3 p4 p5) n_6 (x6_17, x7_18) = some ex_6 → ∀ (H : Heap) (locs : List Loc) (ls : Array Slot), cx_W g A s (sC g Rs nw im S ++ X) H locs → lv_has ls 9 [(0, .ref (Rs 100)), (1, .int p1), (2, .int p2), (3, .int p3), (4, .int p4), (5, .int p5), (6, .int x6_17), (7, .int x7_18)] → W p l e rmX1_feed s m av below meth c H locs 0 0 Q (F0 m 6 ls []) := by
    intro n_6
    induction n_6 with
    | zero => intro x6_17 x7_18 hL_6; exact fx_lp_0 hL_6
    | succ n_6 ih_6 =>
      intro x6_17 x7_18 hL_6 H locs ls hw hl
      replace hL_6 := fx_lp_s hL_6
      obtain ⟨o_6, hB_6, hO_6⟩ := hL_6
      unfold LX1_feed_6 at hB_6
      replace hB_6 := fx_u2_e hB_6
      refine lv_iload hx hb dX1_feed_6 (lv_at hl 7 rfl) ?_
      refine lv_bipush (v := (20 : Int32)) hx hb dX1_feed_8 (by decide) ?_
      refine lv_icmp_ge (tgt := 37) hx hb dX1_feed_10 (by decide) (fun c_19 => ?_) (fun c_19 => ?_)
      · replace hB_6 := fx_tt c_19 hB_6
        obtain rfl := fx_ex hB_6 hO_6
        exact jn_37 x6_17 hF _ _ _ hw (lv_sub hl [0, 1, 2, 3, 4, 5, 6] rfl)
      · replace hB_6 := fx_ff c_19 hB_6
        refine lv_iload_n hx hb dX1_feed_13 rfl (lv_at hl 1 rfl) ?_
        refine lv_iload_n hx hb dX1_feed_14 rfl (lv_at hl 2 rfl) ?_
        refine lv_iload_n hx hb dX1_feed_15 rfl (lv_at hl 3 rfl) ?_
        refine lv_iload hx hb dX1_feed_16 (lv_at hl 4 rfl) ?_
        refine lv_iload hx hb dX1_feed_18 (lv_at hl 5 rfl) ?_
        refine lv_iload hx hb dX1_feed_20 (lv_at hl 7 rfl) ?_
        replace hB_6 := fx_b1_e hB_6
        obtain ⟨r_20, h_21, hB_6⟩ := hB_6
        refine cx_cSi (r := r_20) (ws := sC g Rs nw im S ++ X) (ws' := sC g Rs nw im S ++ X) (As := [.int p1, .int p2, .int p3, .int p4, .int p5, .int x7_18]) (rest := []) E (mX1_byteOf l g A (sC g Rs nw im S ++ X) p1 p2 p3 p4 p5 x7_18 h_21) (kwX1_X1_byteOf E ⟨Nat.le_of_ble_eq_true rfl, Nat.le_of_ble_eq_true rfl⟩) hw rfl hl.1 rfl (Nat.le_of_ble_eq_true rfl) dX1_feed_22 ⟨Nat.le_of_ble_eq_true rfl, Nat.le_of_ble_eq_true rfl⟩ (fun H locs hw => ?_)
        have jn_31 : ∀ (x6_22 : Int32), JX1_feed_31 x7_18 x6_22 = some o_6 → ∀ (H : Heap) (locs : List Loc) (ls : Array Slot), cx_W g A s (sC g Rs nw im S ++ X) H locs → lv_has ls 9 [(0, .ref (Rs 100)), (1, .int p1), (2, .int p2), (3, .int p3), (4, .int p4), (5, .int p5), (6, .int x6_22), (7, .int x7_18)] → W p l e rmX1_feed s m av below meth c H locs 0 0 Q (F0 m 31 ls []) := by
          intro x6_22 hJ_31 H locs ls hw hl
          unfold JX1_feed_31 at hJ_31
          obtain ⟨v_23, ev_23⟩ : ∃ z : Int32, z = x7_18 + (1 : Int32) := ⟨_, rfl⟩
          replace hJ_31 := fx_lt_e ev_23 hJ_31
          refine cx_iinc (z := (1 : Int32)) (v := v_23) hx hb dX1_feed_31 hl (k := 7) rfl (by decide) ev_23 (by decide) rfl (fun ls hl => ?_)
          have hl : lv_has ls 9 [(7, .int v_23), (0, .ref (Rs 100)), (1, .int p1), (2, .int p2), (3, .int p3), (4, .int p4), (5, .int p5), (6, .int x6_22)] := hl
          refine lv_goto (tgt := 6) hx hb dX1_feed_34 (by decide) ?_
          exact ih_6 x6_22 v_23 (fx_bk hJ_31 hO_6) _ _ _ hw (lv_sub hl [1, 2, 3, 4, 5, 6, 7, 0] rfl)
        refine lv_if_eq (tgt := 31) hx hb dX1_feed_25 (by decide) (fun c_24 => ?_) (fun c_24 => ?_)
        · replace hB_6 := fx_tt c_24 hB_6
          exact jn_31 x6_17 hB_6 _ _ _ hw hl
        · replace hB_6 := fx_ff c_24 hB_6
          obtain ⟨v_25, ev_25⟩ : ∃ z : Int32, z = x6_17 + (1 : Int32) := ⟨_, rfl⟩
          replace hB_6 := fx_lt_e ev_25 hB_6
          refine cx_iinc (z := (1 : Int32)) (v := v_25) hx hb dX1_feed_28 hl (k := 6) rfl (by decide) ev_25 (by decide) rfl (fun ls hl => ?_)
          have hl : lv_has ls 9 [(6, .int v_25), (0, .ref (Rs 100)), (1, .int p1), (2, .int p2), (3, .int p3), (4, .int p4), (5, .int p5), (7, .int x7_18)] := hl
          exact jn_31 v_25 hB_6 _ _ _ hw (lv_sub hl [1, 2, 3, 4, 5, 6, 0, 7] rfl)
  exact key_6 _ (0 : Int32) (0 : Int32) hL_6 _ _ _ hw (lv_sub hl [2, 3, 4, 5, 6, 7, 1, 0] rfl)
/-! in(III)Z -/
def FX1_in (p1 : Int32) (p2 : Int32) (p3 : Int32) : Option Int32 :=
  if p1 < p2 then (some (0 : Int32)) else (if p3 < p1 then (some (0 : Int32)) else (some (1 : Int32)))
set_option maxHeartbeats 4000000 in
set_option maxRecDepth 100000 in
theorem mX1_in (l : Launch) (g : Gx) (A : Nat → Prop) (ws : va_W) (p1 : Int32) (p2 : Int32) (p3 : Int32) {o : Int32} (hF : FX1_in p1 p2 p3 = some o) :
    cx_i l yX1_in cX1_in 3 .boolean rmX1_in [.int p1, .int p2, .int p3] g A ws o ws 0 0 := by
  refine cx_i_of (by decide) (Nat.le_of_ble_eq_true rfl) ?_
  intro p e s m av below meth c Q E hret H hw ls hl
  have E : cx_E p m meth c cX1_in 3 s av RX1 g A := E
  have hx := E.1.1
  have hb := E.1.2.1
  have hl : lv_has ls 3 [(0, .int p1), (1, .int p2), (2, .int p3)] := hl
  generalize hlc : ([] : List Loc) = locs at hw ⊢
  clear hlc
  unfold FX1_in at hF
  refine lv_iload_n hx hb dX1_in_0 rfl (lv_at hl 0 rfl) ?_
  refine lv_iload_n hx hb dX1_in_1 rfl (lv_at hl 1 rfl) ?_
  refine lv_icmp_lt (tgt := 14) hx hb dX1_in_2 (by decide) (fun c_1 => ?_) (fun c_1 => ?_)
  · replace hF := fx_tt c_1 hF
    refine lv_iconst (v := (0 : Int32)) hx hb dX1_in_14 (by decide) ?_
    obtain rfl := Option.some.inj hF
    exact hret _ _ _ _ _ rfl (by decide) hw dX1_in_15
  · replace hF := fx_ff c_1 hF
    refine lv_iload_n hx hb dX1_in_5 rfl (lv_at hl 0 rfl) ?_
    refine lv_iload_n hx hb dX1_in_6 rfl (lv_at hl 2 rfl) ?_
    refine lv_icmp_gt (tgt := 14) hx hb dX1_in_7 (by decide) (fun c_2 => ?_) (fun c_2 => ?_)
    · replace hF := fx_tt c_2 hF
      refine lv_iconst (v := (0 : Int32)) hx hb dX1_in_14 (by decide) ?_
      obtain rfl := Option.some.inj hF
      exact hret _ _ _ _ _ rfl (by decide) hw dX1_in_15
    · replace hF := fx_ff c_2 hF
      refine lv_iconst (v := (1 : Int32)) hx hb dX1_in_10 (by decide) ?_
      refine lv_goto (tgt := 15) hx hb dX1_in_11 (by decide) ?_
      obtain rfl := Option.some.inj hF
      exact hret _ _ _ _ _ rfl (by decide) hw dX1_in_15
/-! end(I)Z -/
def FX1_end (S : Sx) (p1 : Int32) : Option (Int32 × Sx) :=
  fx_b1 (FX1_in p1 (0 : Int32) (gx_I S 2)) (fun r_1 => if r_1 = 0 then (some ((0 : Int32), S)) else (fx_lt (px_I S 2 p1) (fun S_4 => some ((1 : Int32), S_4))))
set_option maxHeartbeats 4000000 in
set_option maxRecDepth 100000 in
theorem mX1_end (l : Launch) (g : Gx) (A : Nat → Prop) (Rs : Nat → Nat) (nw im : Option Nat) (X : va_W) (S : Sx) (p1 : Int32) {o : Int32 × Sx} (hF : FX1_end S p1 = some o) :
    cx_i l yX1_end cX1_end 2 .boolean rmX1_end [.ref (Rs 100), .int p1] g A (sC g Rs nw im S ++ X) o.1 (sC g Rs nw im o.2 ++ X) 0 0 := by
  refine cx_i_of (by decide) (Nat.le_of_ble_eq_true rfl) ?_
  intro p e s m av below meth c Q E hret H hw ls hl
  have E : cx_E p m meth c cX1_end 2 s av RX1 g A := E
  have hx := E.1.1
  have hb := E.1.2.1
  have hl : lv_has ls 2 [(0, .ref (Rs 100)), (1, .int p1)] := hl
  generalize hlc : ([] : List Loc) = locs at hw ⊢
  clear hlc
  unfold FX1_end at hF
  refine lv_iload_n hx hb dX1_end_0 rfl (lv_at hl 1 rfl) ?_
  refine lv_iconst (v := (0 : Int32)) hx hb dX1_end_1 (by decide) ?_
  refine lv_aload_n hx hb dX1_end_2 rfl (lv_at hl 0 rfl) ?_
  refine gX1_2 E hw dX1_end_3 ?_
  replace hF := fx_b1_e hF
  obtain ⟨r_1, h_2, hF⟩ := hF
  refine cx_cSi (r := r_1) (ws := sC g Rs nw im S ++ X) (ws' := sC g Rs nw im S ++ X) (As := [.int p1, .int (0 : Int32), .int (gx_I S 2)]) (rest := []) E (mX1_in l g A (sC g Rs nw im S ++ X) p1 (0 : Int32) (gx_I S 2) h_2) (kwX1_X1_in E ⟨Nat.le_of_ble_eq_true rfl, Nat.le_of_ble_eq_true rfl⟩) hw rfl hl.1 rfl (Nat.le_of_ble_eq_true rfl) dX1_end_6 ⟨Nat.le_of_ble_eq_true rfl, Nat.le_of_ble_eq_true rfl⟩ (fun H locs hw => ?_)
  refine lv_if_ne (tgt := 14) hx hb dX1_end_9 (by decide) (fun c_3 => ?_) (fun c_3 => ?_)
  · replace hF := fx_ff c_3 hF
    refine lv_aload_n hx hb dX1_end_14 rfl (lv_at hl 0 rfl) ?_
    refine lv_iload_n hx hb dX1_end_15 rfl (lv_at hl 1 rfl) ?_
    obtain ⟨S_4, eS_4⟩ : ∃ z : Sx, z = px_I S 2 p1 := ⟨_, rfl⟩
    replace hF := fx_lt_e eS_4 hF
    refine pX1_2 eS_4 E hw dX1_end_16 (fun H locs hw => ?_)
    refine lv_iconst (v := (1 : Int32)) hx hb dX1_end_19 (by decide) ?_
    obtain rfl := Option.some.inj hF
    exact hret _ _ _ _ _ rfl (by decide) hw dX1_end_20
  · replace hF := fx_tt c_3 hF
    refine lv_iconst (v := (0 : Int32)) hx hb dX1_end_12 (by decide) ?_
    obtain rfl := Option.some.inj hF
    exact hret _ _ _ _ _ rfl (by decide) hw dX1_end_13
/-! here()I -/
def FX1_here (S : Sx) : Option Int32 :=
  if (gx_I S 2) ≤ (gx_I S 3) then (some (-1 : Int32)) else (fx_gd (fx_in (gx_I S 3) 280) (some ((gx_A S 1 (gx_I S 3).toNatClampNeg) &&& (255 : Int32))))
set_option maxHeartbeats 4000000 in
set_option maxRecDepth 100000 in
theorem mX1_here (l : Launch) (g : Gx) (A : Nat → Prop) (Rs : Nat → Nat) (nw im : Option Nat) (X : va_W) (S : Sx) {o : Int32} (hF : FX1_here S = some o) :
    cx_i l yX1_here cX1_here 1 .int rmX1_here [.ref (Rs 100)] g A (sC g Rs nw im S ++ X) o (sC g Rs nw im S ++ X) 0 0 := by
  refine cx_i_of (by decide) (Nat.le_of_ble_eq_true rfl) ?_
  intro p e s m av below meth c Q E hret H hw ls hl
  have E : cx_E p m meth c cX1_here 1 s av RX1 g A := E
  have hx := E.1.1
  have hb := E.1.2.1
  have hl : lv_has ls 1 [(0, .ref (Rs 100))] := hl
  generalize hlc : ([] : List Loc) = locs at hw ⊢
  clear hlc
  unfold FX1_here at hF
  refine lv_aload_n hx hb dX1_here_0 rfl (lv_at hl 0 rfl) ?_
  refine gX1_3 E hw dX1_here_1 ?_
  refine lv_aload_n hx hb dX1_here_4 rfl (lv_at hl 0 rfl) ?_
  refine gX1_2 E hw dX1_here_5 ?_
  refine lv_icmp_ge (tgt := 27) hx hb dX1_here_8 (by decide) (fun c_1 => ?_) (fun c_1 => ?_)
  · replace hF := fx_tt c_1 hF
    refine lv_iconst (v := (-1 : Int32)) hx hb dX1_here_27 (by decide) ?_
    obtain rfl := Option.some.inj hF
    exact hret _ _ _ _ _ rfl rfl hw dX1_here_28
  · replace hF := fx_ff c_1 hF
    refine lv_aload_n hx hb dX1_here_11 rfl (lv_at hl 0 rfl) ?_
    refine gX1_1 E hw dX1_here_12 ?_
    refine lv_aload_n hx hb dX1_here_15 rfl (lv_at hl 0 rfl) ?_
    refine gX1_3 E hw dX1_here_16 ?_
    replace hF := fx_gd_e hF
    obtain ⟨h_2, hF⟩ := hF
    refine raX1_1 E hw (fx_in_e h_2) dX1_here_19 ?_
    refine lv_sipush (v := (255 : Int32)) hx hb dX1_here_20 (by decide) ?_
    refine lv_iand hx hb dX1_here_23 ?_
    refine lv_goto (tgt := 28) hx hb dX1_here_24 (by decide) ?_
    obtain rfl := Option.some.inj hF
    exact hret _ _ _ _ _ rfl rfl hw dX1_here_28
/-! ahead()I -/
def JX1_ahead_22 (S_1 : Sx) : Option (Int32 × Sx) :=
  fx_b1 (FX1_here S_1) (fun r_2 => some (r_2, S_1))
def LX1_ahead_0  (S_4 : Sx) : Option ((Sx) ⊕ (Sx)) :=
  fx_b1 (FX1_here S_4) (fun r_5 => if r_5 = (32 : Int32) then (fx_lt (px_I S_4 3 ((gx_I S_4 3) + (1 : Int32))) (fun S_8 => some (.inl S_8))) else (some (.inr S_4)))
def FX1_ahead (S : Sx) : Option (Int32 × Sx) :=
  fx_b1 (fx_lp (LX1_ahead_0) 2000 S) (fun S_9 => JX1_ahead_22 S_9)
set_option maxHeartbeats 4000000 in
set_option maxRecDepth 100000 in
theorem mX1_ahead (l : Launch) (g : Gx) (A : Nat → Prop) (Rs : Nat → Nat) (nw im : Option Nat) (X : va_W) (S : Sx) {o : Int32 × Sx} (hF : FX1_ahead S = some o) :
    cx_i l yX1_ahead cX1_ahead 1 .int rmX1_ahead [.ref (Rs 100)] g A (sC g Rs nw im S ++ X) o.1 (sC g Rs nw im o.2 ++ X) 0 0 := by
  refine cx_i_of (by decide) (Nat.le_of_ble_eq_true rfl) ?_
  intro p e s m av below meth c Q E hret H hw ls hl
  have E : cx_E p m meth c cX1_ahead 1 s av RX1 g A := E
  have hx := E.1.1
  have hb := E.1.2.1
  have hl : lv_has ls 1 [(0, .ref (Rs 100))] := hl
  generalize hlc : ([] : List Loc) = locs at hw ⊢
  clear hlc
  unfold FX1_ahead at hF
  have jn_22 : ∀ (S_1 : Sx), JX1_ahead_22 S_1 = some o → ∀ (H : Heap) (locs : List Loc) (ls : Array Slot), cx_W g A s (sC g Rs nw im S_1 ++ X) H locs → lv_has ls 1 [(0, .ref (Rs 100))] → W p l e rmX1_ahead s m av below meth c H locs 0 0 Q (F0 m 22 ls []) := by
    intro S_1 hJ_22 H locs ls hw hl
    unfold JX1_ahead_22 at hJ_22
    refine lv_aload_n hx hb dX1_ahead_22 rfl (lv_at hl 0 rfl) ?_
    replace hJ_22 := fx_b1_e hJ_22
    obtain ⟨r_2, h_3, hJ_22⟩ := hJ_22
    refine cx_cVi (r := r_2) (ws := sC g Rs nw im S_1 ++ X) (ws' := sC g Rs nw im S_1 ++ X) (As := []) (rest := []) E (mX1_here l g A Rs _ _ _ S_1 h_3) (kwX1_X1_here E ⟨Nat.le_of_ble_eq_true rfl, Nat.le_of_ble_eq_true rfl⟩) 0 1 rfl rfl rfl hw rfl hl.1 rfl (Nat.le_of_ble_eq_true rfl) dX1_ahead_23 ⟨Nat.le_of_ble_eq_true rfl, Nat.le_of_ble_eq_true rfl⟩ (fun H locs hw => ?_)
    obtain rfl := Option.some.inj hJ_22
    exact hret _ _ _ _ _ rfl rfl hw dX1_ahead_26
  replace hF := fx_b1_e hF
  obtain ⟨ex_0, hL_0, hF⟩ := hF
  have key_0 : ∀ (n_0 : Nat) (S_4 : Sx), fx_lp (LX1_ahead_0) n_0 S_4 = some ex_0 → ∀ (H : Heap) (locs : List Loc) (ls : Array Slot), cx_W g A s (sC g Rs nw im S_4 ++ X) H locs → lv_has ls 1 [(0, .ref (Rs 100))] → W p l e rmX1_ahead s m av below meth c H locs 0 0 Q (F0 m 0 ls []) := by
    intro n_0
    induction n_0 with
    | zero => intro S_4 hL_0; exact fx_lp_0 hL_0
    | succ n_0 ih_0 =>
      intro S_4 hL_0 H locs ls hw hl
      replace hL_0 := fx_lp_s hL_0
      obtain ⟨o_0, hB_0, hO_0⟩ := hL_0
      unfold LX1_ahead_0 at hB_0
      refine lv_aload_n hx hb dX1_ahead_0 rfl (lv_at hl 0 rfl) ?_
      replace hB_0 := fx_b1_e hB_0
      obtain ⟨r_5, h_6, hB_0⟩ := hB_0
      refine cx_cVi (r := r_5) (ws := sC g Rs nw im S_4 ++ X) (ws' := sC g Rs nw im S_4 ++ X) (As := []) (rest := []) E (mX1_here l g A Rs _ _ _ S_4 h_6) (kwX1_X1_here E ⟨Nat.le_of_ble_eq_true rfl, Nat.le_of_ble_eq_true rfl⟩) 0 1 rfl rfl rfl hw rfl hl.1 rfl (Nat.le_of_ble_eq_true rfl) dX1_ahead_1 ⟨Nat.le_of_ble_eq_true rfl, Nat.le_of_ble_eq_true rfl⟩ (fun H locs hw => ?_)
      refine lv_bipush (v := (32 : Int32)) hx hb dX1_ahead_4 (by decide) ?_
      refine lv_icmp_ne (tgt := 22) hx hb dX1_ahead_6 (by decide) (fun c_7 => ?_) (fun c_7 => ?_)
      · replace hB_0 := fx_ff c_7 hB_0
        obtain rfl := fx_ex hB_0 hO_0
        exact jn_22 S_4 hF _ _ _ hw hl
      · replace hB_0 := fx_tt c_7 hB_0
        refine lv_aload_n hx hb dX1_ahead_9 rfl (lv_at hl 0 rfl) ?_
        refine lv_dup hx hb dX1_ahead_10 rfl ?_
        refine gX1_3 E hw dX1_ahead_11 ?_
        refine lv_iconst (v := (1 : Int32)) hx hb dX1_ahead_14 (by decide) ?_
        refine lv_iadd hx hb dX1_ahead_15 ?_
        obtain ⟨S_8, eS_8⟩ : ∃ z : Sx, z = px_I S_4 3 ((gx_I S_4 3) + (1 : Int32)) := ⟨_, rfl⟩
        replace hB_0 := fx_lt_e eS_8 hB_0
        refine pX1_3 eS_8 E hw dX1_ahead_16 (fun H locs hw => ?_)
        refine lv_goto (tgt := 0) hx hb dX1_ahead_19 (by decide) ?_
        exact ih_0 S_8 (fx_bk hB_0 hO_0) _ _ _ hw hl
  exact key_0 _ S hL_0 _ _ _ hw hl
/-! has(II)Z -/
def FX1_has (p1 : Int32) (p2 : Int32) : Option Int32 :=
  if ((p1 >>> (p2 &&& 31)) &&& (1 : Int32)) = (1 : Int32) then (some (1 : Int32)) else (some (0 : Int32))
set_option maxHeartbeats 4000000 in
set_option maxRecDepth 100000 in
theorem mX1_has (l : Launch) (g : Gx) (A : Nat → Prop) (ws : va_W) (p1 : Int32) (p2 : Int32) {o : Int32} (hF : FX1_has p1 p2 = some o) :
    cx_i l yX1_has cX1_has 2 .boolean rmX1_has [.int p1, .int p2] g A ws o ws 0 0 := by
  refine cx_i_of (by decide) (Nat.le_of_ble_eq_true rfl) ?_
  intro p e s m av below meth c Q E hret H hw ls hl
  have E : cx_E p m meth c cX1_has 2 s av RX1 g A := E
  have hx := E.1.1
  have hb := E.1.2.1
  have hl : lv_has ls 2 [(0, .int p1), (1, .int p2)] := hl
  generalize hlc : ([] : List Loc) = locs at hw ⊢
  clear hlc
  unfold FX1_has at hF
  refine lv_iload_n hx hb dX1_has_0 rfl (lv_at hl 0 rfl) ?_
  refine lv_iload_n hx hb dX1_has_1 rfl (lv_at hl 1 rfl) ?_
  refine lv_ishr hx hb dX1_has_2 ?_
  refine lv_iconst (v := (1 : Int32)) hx hb dX1_has_3 (by decide) ?_
  refine lv_iand hx hb dX1_has_4 ?_
  refine lv_iconst (v := (1 : Int32)) hx hb dX1_has_5 (by decide) ?_
  refine lv_icmp_ne (tgt := 13) hx hb dX1_has_6 (by decide) (fun c_1 => ?_) (fun c_1 => ?_)
  · replace hF := fx_ff c_1 hF
    refine lv_iconst (v := (0 : Int32)) hx hb dX1_has_13 (by decide) ?_
    obtain rfl := Option.some.inj hF
    exact hret _ _ _ _ _ rfl (by decide) hw dX1_has_14
  · replace hF := fx_tt c_1 hF
    refine lv_iconst (v := (1 : Int32)) hx hb dX1_has_9 (by decide) ?_
    refine lv_goto (tgt := 14) hx hb dX1_has_10 (by decide) ?_
    obtain rfl := Option.some.inj hF
    exact hret _ _ _ _ _ rfl (by decide) hw dX1_has_14
/-! isDigit(I)Z -/
def FX1_isDigit (p1 : Int32) : Option Int32 :=
  fx_b1 (FX1_in p1 (48 : Int32) (57 : Int32)) (fun r_1 => fx_gd (fx_zb r_1) (some r_1))
set_option maxHeartbeats 4000000 in
set_option maxRecDepth 100000 in
theorem mX1_isDigit (l : Launch) (g : Gx) (A : Nat → Prop) (ws : va_W) (p1 : Int32) {o : Int32} (hF : FX1_isDigit p1 = some o) :
    cx_i l yX1_isDigit cX1_isDigit 1 .boolean rmX1_isDigit [.int p1] g A ws o ws 0 0 := by
  refine cx_i_of (by decide) (Nat.le_of_ble_eq_true rfl) ?_
  intro p e s m av below meth c Q E hret H hw ls hl
  have E : cx_E p m meth c cX1_isDigit 1 s av RX1 g A := E
  have hx := E.1.1
  have hb := E.1.2.1
  have hl : lv_has ls 1 [(0, .int p1)] := hl
  generalize hlc : ([] : List Loc) = locs at hw ⊢
  clear hlc
  unfold FX1_isDigit at hF
  refine lv_iload_n hx hb dX1_isDigit_0 rfl (lv_at hl 0 rfl) ?_
  refine lv_bipush (v := (48 : Int32)) hx hb dX1_isDigit_1 (by decide) ?_
  refine lv_bipush (v := (57 : Int32)) hx hb dX1_isDigit_3 (by decide) ?_
  replace hF := fx_b1_e hF
  obtain ⟨r_1, h_2, hF⟩ := hF
  refine cx_cSi (r := r_1) (ws := ws) (ws' := ws) (As := [.int p1, .int (48 : Int32), .int (57 : Int32)]) (rest := []) E (mX1_in l g A ws p1 (48 : Int32) (57 : Int32) h_2) (kwX1_X1_in E ⟨Nat.le_of_ble_eq_true rfl, Nat.le_of_ble_eq_true rfl⟩) hw rfl hl.1 rfl (Nat.le_of_ble_eq_true rfl) dX1_isDigit_5 ⟨Nat.le_of_ble_eq_true rfl, Nat.le_of_ble_eq_true rfl⟩ (fun H locs hw => ?_)
  replace hF := fx_gd_e hF
  obtain ⟨h_3, hF⟩ := hF
  obtain rfl := Option.some.inj hF
  exact hret _ _ _ _ _ rfl (fx_zb_nar h_3) hw dX1_isDigit_8
/-! data()I -/
def FX1_data (S : Sx) : Option Int32 :=
  some (gx_A S 6 (0 : Int32).toNatClampNeg)
set_option maxHeartbeats 4000000 in
set_option maxRecDepth 100000 in
theorem mX1_data (l : Launch) (g : Gx) (A : Nat → Prop) (Rs : Nat → Nat) (nw im : Option Nat) (X : va_W) (S : Sx) {o : Int32} (hF : FX1_data S = some o) :
    cx_i l yX1_data cX1_data 1 .int rmX1_data [.ref (Rs 100)] g A (sC g Rs nw im S ++ X) o (sC g Rs nw im S ++ X) 0 0 := by
  refine cx_i_of (by decide) (Nat.le_of_ble_eq_true rfl) ?_
  intro p e s m av below meth c Q E hret H hw ls hl
  have E : cx_E p m meth c cX1_data 1 s av RX1 g A := E
  have hx := E.1.1
  have hb := E.1.2.1
  have hl : lv_has ls 1 [(0, .ref (Rs 100))] := hl
  generalize hlc : ([] : List Loc) = locs at hw ⊢
  clear hlc
  unfold FX1_data at hF
  refine lv_aload_n hx hb dX1_data_0 rfl (lv_at hl 0 rfl) ?_
  refine gX1_6 E hw dX1_data_1 ?_
  refine lv_iconst (v := (0 : Int32)) hx hb dX1_data_4 (by decide) ?_
  refine raX1_6 E hw (fx_in_e (by decide)) dX1_data_5 ?_
  obtain rfl := Option.some.inj hF
  exact hret _ _ _ _ _ rfl rfl hw dX1_data_6
/-! stripes()I -/
def FX1_stripes (S : Sx) : Option Int32 :=
  some (gx_A S 6 (1 : Int32).toNatClampNeg)
set_option maxHeartbeats 4000000 in
set_option maxRecDepth 100000 in
theorem mX1_stripes (l : Launch) (g : Gx) (A : Nat → Prop) (Rs : Nat → Nat) (nw im : Option Nat) (X : va_W) (S : Sx) {o : Int32} (hF : FX1_stripes S = some o) :
    cx_i l yX1_stripes cX1_stripes 1 .int rmX1_stripes [.ref (Rs 100)] g A (sC g Rs nw im S ++ X) o (sC g Rs nw im S ++ X) 0 0 := by
  refine cx_i_of (by decide) (Nat.le_of_ble_eq_true rfl) ?_
  intro p e s m av below meth c Q E hret H hw ls hl
  have E : cx_E p m meth c cX1_stripes 1 s av RX1 g A := E
  have hx := E.1.1
  have hb := E.1.2.1
  have hl : lv_has ls 1 [(0, .ref (Rs 100))] := hl
  generalize hlc : ([] : List Loc) = locs at hw ⊢
  clear hlc
  unfold FX1_stripes at hF
  refine lv_aload_n hx hb dX1_stripes_0 rfl (lv_at hl 0 rfl) ?_
  refine gX1_6 E hw dX1_stripes_1 ?_
  refine lv_iconst (v := (1 : Int32)) hx hb dX1_stripes_4 (by decide) ?_
  refine raX1_6 E hw (fx_in_e (by decide)) dX1_stripes_5 ?_
  obtain rfl := Option.some.inj hF
  exact hret _ _ _ _ _ rfl rfl hw dX1_stripes_6
/-! chunk()I -/
def FX1_chunk (S : Sx) : Option Int32 :=
  some (gx_A S 6 (2 : Int32).toNatClampNeg)
set_option maxHeartbeats 4000000 in
set_option maxRecDepth 100000 in
theorem mX1_chunk (l : Launch) (g : Gx) (A : Nat → Prop) (Rs : Nat → Nat) (nw im : Option Nat) (X : va_W) (S : Sx) {o : Int32} (hF : FX1_chunk S = some o) :
    cx_i l yX1_chunk cX1_chunk 1 .int rmX1_chunk [.ref (Rs 100)] g A (sC g Rs nw im S ++ X) o (sC g Rs nw im S ++ X) 0 0 := by
  refine cx_i_of (by decide) (Nat.le_of_ble_eq_true rfl) ?_
  intro p e s m av below meth c Q E hret H hw ls hl
  have E : cx_E p m meth c cX1_chunk 1 s av RX1 g A := E
  have hx := E.1.1
  have hb := E.1.2.1
  have hl : lv_has ls 1 [(0, .ref (Rs 100))] := hl
  generalize hlc : ([] : List Loc) = locs at hw ⊢
  clear hlc
  unfold FX1_chunk at hF
  refine lv_aload_n hx hb dX1_chunk_0 rfl (lv_at hl 0 rfl) ?_
  refine gX1_6 E hw dX1_chunk_1 ?_
  refine lv_iconst (v := (2 : Int32)) hx hb dX1_chunk_4 (by decide) ?_
  refine raX1_6 E hw (fx_in_e (by decide)) dX1_chunk_5 ?_
  obtain rfl := Option.some.inj hF
  exact hret _ _ _ _ _ rfl rfl hw dX1_chunk_6
/-! addresses()I -/
def FX1_addresses (S : Sx) : Option Int32 :=
  fx_b1 (FX1_data S) (fun r_1 => fx_b1 (FX1_stripes S) (fun r_3 => fx_b1 (FX1_chunk S) (fun r_5 => some ((r_1 * r_3) * r_5))))
set_option maxHeartbeats 4000000 in
set_option maxRecDepth 100000 in
theorem mX1_addresses (l : Launch) (g : Gx) (A : Nat → Prop) (Rs : Nat → Nat) (nw im : Option Nat) (X : va_W) (S : Sx) {o : Int32} (hF : FX1_addresses S = some o) :
    cx_i l yX1_addresses cX1_addresses 1 .int rmX1_addresses [.ref (Rs 100)] g A (sC g Rs nw im S ++ X) o (sC g Rs nw im S ++ X) 0 0 := by
  refine cx_i_of (by decide) (Nat.le_of_ble_eq_true rfl) ?_
  intro p e s m av below meth c Q E hret H hw ls hl
  have E : cx_E p m meth c cX1_addresses 1 s av RX1 g A := E
  have hx := E.1.1
  have hb := E.1.2.1
  have hl : lv_has ls 1 [(0, .ref (Rs 100))] := hl
  generalize hlc : ([] : List Loc) = locs at hw ⊢
  clear hlc
  unfold FX1_addresses at hF
  refine lv_aload_n hx hb dX1_addresses_0 rfl (lv_at hl 0 rfl) ?_
  replace hF := fx_b1_e hF
  obtain ⟨r_1, h_2, hF⟩ := hF
  refine cx_cVi (r := r_1) (ws := sC g Rs nw im S ++ X) (ws' := sC g Rs nw im S ++ X) (As := []) (rest := []) E (mX1_data l g A Rs _ _ _ S h_2) (kwX1_X1_data E ⟨Nat.le_of_ble_eq_true rfl, Nat.le_of_ble_eq_true rfl⟩) 0 1 rfl rfl rfl hw rfl hl.1 rfl (Nat.le_of_ble_eq_true rfl) dX1_addresses_1 ⟨Nat.le_of_ble_eq_true rfl, Nat.le_of_ble_eq_true rfl⟩ (fun H locs hw => ?_)
  refine lv_aload_n hx hb dX1_addresses_4 rfl (lv_at hl 0 rfl) ?_
  replace hF := fx_b1_e hF
  obtain ⟨r_3, h_4, hF⟩ := hF
  refine cx_cVi (r := r_3) (ws := sC g Rs nw im S ++ X) (ws' := sC g Rs nw im S ++ X) (As := []) (rest := [.int r_1]) E (mX1_stripes l g A Rs _ _ _ S h_4) (kwX1_X1_stripes E ⟨Nat.le_of_ble_eq_true rfl, Nat.le_of_ble_eq_true rfl⟩) 0 1 rfl rfl rfl hw rfl hl.1 rfl (Nat.le_of_ble_eq_true rfl) dX1_addresses_5 ⟨Nat.le_of_ble_eq_true rfl, Nat.le_of_ble_eq_true rfl⟩ (fun H locs hw => ?_)
  refine lv_imul hx hb dX1_addresses_8 ?_
  refine lv_aload_n hx hb dX1_addresses_9 rfl (lv_at hl 0 rfl) ?_
  replace hF := fx_b1_e hF
  obtain ⟨r_5, h_6, hF⟩ := hF
  refine cx_cVi (r := r_5) (ws := sC g Rs nw im S ++ X) (ws' := sC g Rs nw im S ++ X) (As := []) (rest := [.int (r_1 * r_3)]) E (mX1_chunk l g A Rs _ _ _ S h_6) (kwX1_X1_chunk E ⟨Nat.le_of_ble_eq_true rfl, Nat.le_of_ble_eq_true rfl⟩) 0 1 rfl rfl rfl hw rfl hl.1 rfl (Nat.le_of_ble_eq_true rfl) dX1_addresses_10 ⟨Nat.le_of_ble_eq_true rfl, Nat.le_of_ble_eq_true rfl⟩ (fun H locs hw => ?_)
  refine lv_imul hx hb dX1_addresses_13 ?_
  obtain rfl := Option.some.inj hF
  exact hret _ _ _ _ _ rfl rfl hw dX1_addresses_14
/-! disks()I -/
def FX1_disks (S : Sx) : Option Int32 :=
  some ((gx_A S 6 (0 : Int32).toNatClampNeg) + (2 : Int32))
set_option maxHeartbeats 4000000 in
set_option maxRecDepth 100000 in
theorem mX1_disks (l : Launch) (g : Gx) (A : Nat → Prop) (Rs : Nat → Nat) (nw im : Option Nat) (X : va_W) (S : Sx) {o : Int32} (hF : FX1_disks S = some o) :
    cx_i l yX1_disks cX1_disks 1 .int rmX1_disks [.ref (Rs 100)] g A (sC g Rs nw im S ++ X) o (sC g Rs nw im S ++ X) 0 0 := by
  refine cx_i_of (by decide) (Nat.le_of_ble_eq_true rfl) ?_
  intro p e s m av below meth c Q E hret H hw ls hl
  have E : cx_E p m meth c cX1_disks 1 s av RX1 g A := E
  have hx := E.1.1
  have hb := E.1.2.1
  have hl : lv_has ls 1 [(0, .ref (Rs 100))] := hl
  generalize hlc : ([] : List Loc) = locs at hw ⊢
  clear hlc
  unfold FX1_disks at hF
  refine lv_aload_n hx hb dX1_disks_0 rfl (lv_at hl 0 rfl) ?_
  refine gX1_6 E hw dX1_disks_1 ?_
  refine lv_iconst (v := (0 : Int32)) hx hb dX1_disks_4 (by decide) ?_
  refine raX1_6 E hw (fx_in_e (by decide)) dX1_disks_5 ?_
  refine lv_iconst (v := (2 : Int32)) hx hb dX1_disks_6 (by decide) ?_
  refine lv_iadd hx hb dX1_disks_7 ?_
  obtain rfl := Option.some.inj hF
  exact hret _ _ _ _ _ rfl rfl hw dX1_disks_8
/-! diskOf(II)I -/
def JX1_diskOf_48 (r_1 : Int32) (t_10 : Int32) (t_11 : Int32) : Option Int32 :=
  fx_gd (fx_nz r_1) (some ((t_10 + t_11) - (t_10 + t_11) / r_1 * r_1))
def FX1_diskOf (S : Sx) (p1 : Int32) (p2 : Int32) : Option Int32 :=
  fx_b1 (FX1_disks S) (fun r_1 => fx_gd (fx_nz r_1) (fx_lt ((r_1 - (1 : Int32)) - (p1 - p1 / r_1 * r_1)) (fun v_4 => fx_b1 (FX1_data S) (fun r_5 => if p2 = r_5 then (some v_4) else (fx_b1 (FX1_data S) (fun r_8 => if p2 = (r_8 + (1 : Int32)) then (JX1_diskOf_48 r_1 (v_4 + (1 : Int32)) (0 : Int32)) else (JX1_diskOf_48 r_1 (v_4 + (1 : Int32)) (p2 + (1 : Int32)))))))))
set_option maxHeartbeats 4000000 in
set_option maxRecDepth 100000 in
theorem mX1_diskOf (l : Launch) (g : Gx) (A : Nat → Prop) (Rs : Nat → Nat) (nw im : Option Nat) (X : va_W) (S : Sx) (p1 : Int32) (p2 : Int32) {o : Int32} (hF : FX1_diskOf S p1 p2 = some o) :
    cx_i l yX1_diskOf cX1_diskOf 5 .int rmX1_diskOf [.ref (Rs 100), .int p1, .int p2] g A (sC g Rs nw im S ++ X) o (sC g Rs nw im S ++ X) 0 0 := by
  refine cx_i_of (by decide) (Nat.le_of_ble_eq_true rfl) ?_
  intro p e s m av below meth c Q E hret H hw ls hl
  have E : cx_E p m meth c cX1_diskOf 5 s av RX1 g A := E
  have hx := E.1.1
  have hb := E.1.2.1
  have hl : lv_has ls 5 [(0, .ref (Rs 100)), (1, .int p1), (2, .int p2)] := hl
  generalize hlc : ([] : List Loc) = locs at hw ⊢
  clear hlc
  unfold FX1_diskOf at hF
  refine lv_aload_n hx hb dX1_diskOf_0 rfl (lv_at hl 0 rfl) ?_
  replace hF := fx_b1_e hF
  obtain ⟨r_1, h_2, hF⟩ := hF
  refine cx_cVi (r := r_1) (ws := sC g Rs nw im S ++ X) (ws' := sC g Rs nw im S ++ X) (As := []) (rest := []) E (mX1_disks l g A Rs _ _ _ S h_2) (kwX1_X1_disks E ⟨Nat.le_of_ble_eq_true rfl, Nat.le_of_ble_eq_true rfl⟩) 0 1 rfl rfl rfl hw rfl hl.1 rfl (Nat.le_of_ble_eq_true rfl) dX1_diskOf_1 ⟨Nat.le_of_ble_eq_true rfl, Nat.le_of_ble_eq_true rfl⟩ (fun H locs hw => ?_)
  refine lv_istore_n hx hb dX1_diskOf_4 rfl hl (by decide) rfl (fun ls hl => ?_)
  have hl : lv_has ls 5 [(3, .int r_1), (0, .ref (Rs 100)), (1, .int p1), (2, .int p2)] := hl
  refine lv_iload_n hx hb dX1_diskOf_5 rfl (lv_at hl 0 rfl) ?_
  refine lv_iconst (v := (1 : Int32)) hx hb dX1_diskOf_6 (by decide) ?_
  refine lv_isub hx hb dX1_diskOf_7 ?_
  refine lv_iload_n hx hb dX1_diskOf_8 rfl (lv_at hl 2 rfl) ?_
  refine lv_iload_n hx hb dX1_diskOf_9 rfl (lv_at hl 0 rfl) ?_
  replace hF := fx_gd_e hF
  obtain ⟨h_3, hF⟩ := hF
  refine lv_irem hx hb dX1_diskOf_10 (fx_nz_e h_3) ?_
  refine lv_isub hx hb dX1_diskOf_11 ?_
  refine lv_topi (fun v_4 ev_4 => ?_)
  replace hF := fx_lt_e ev_4 hF
  refine lv_istore hx hb dX1_diskOf_12 hl (by decide) rfl (fun ls hl => ?_)
  have hl : lv_has ls 5 [(4, .int v_4), (3, .int r_1), (0, .ref (Rs 100)), (1, .int p1), (2, .int p2)] := hl
  refine lv_iload_n hx hb dX1_diskOf_14 rfl (lv_at hl 4 rfl) ?_
  refine lv_aload_n hx hb dX1_diskOf_15 rfl (lv_at hl 2 rfl) ?_
  replace hF := fx_b1_e hF
  obtain ⟨r_5, h_6, hF⟩ := hF
  refine cx_cVi (r := r_5) (ws := sC g Rs nw im S ++ X) (ws' := sC g Rs nw im S ++ X) (As := []) (rest := [.int p2]) E (mX1_data l g A Rs _ _ _ S h_6) (kwX1_X1_data E ⟨Nat.le_of_ble_eq_true rfl, Nat.le_of_ble_eq_true rfl⟩) 0 1 rfl rfl rfl hw rfl hl.1 rfl (Nat.le_of_ble_eq_true rfl) dX1_diskOf_16 ⟨Nat.le_of_ble_eq_true rfl, Nat.le_of_ble_eq_true rfl⟩ (fun H locs hw => ?_)
  refine lv_icmp_ne (tgt := 27) hx hb dX1_diskOf_19 (by decide) (fun c_7 => ?_) (fun c_7 => ?_)
  · replace hF := fx_ff c_7 hF
    refine lv_iload hx hb dX1_diskOf_27 (lv_at hl 0 rfl) ?_
    refine lv_iconst (v := (1 : Int32)) hx hb dX1_diskOf_29 (by decide) ?_
    refine lv_iadd hx hb dX1_diskOf_30 ?_
    refine lv_iload_n hx hb dX1_diskOf_31 rfl (lv_at hl 4 rfl) ?_
    refine lv_aload_n hx hb dX1_diskOf_32 rfl (lv_at hl 2 rfl) ?_
    replace hF := fx_b1_e hF
    obtain ⟨r_8, h_9, hF⟩ := hF
    refine cx_cVi (r := r_8) (ws := sC g Rs nw im S ++ X) (ws' := sC g Rs nw im S ++ X) (As := []) (rest := [.int p2, .int (v_4 + (1 : Int32))]) E (mX1_data l g A Rs _ _ _ S h_9) (kwX1_X1_data E ⟨Nat.le_of_ble_eq_true rfl, Nat.le_of_ble_eq_true rfl⟩) 0 1 rfl rfl rfl hw rfl hl.1 rfl (Nat.le_of_ble_eq_true rfl) dX1_diskOf_33 ⟨Nat.le_of_ble_eq_true rfl, Nat.le_of_ble_eq_true rfl⟩ (fun H locs hw => ?_)
    refine lv_iconst (v := (1 : Int32)) hx hb dX1_diskOf_36 (by decide) ?_
    refine lv_iadd hx hb dX1_diskOf_37 ?_
    have jn_48 : ∀ (t_10 : Int32) (t_11 : Int32), JX1_diskOf_48 r_1 t_10 t_11 = some o → ∀ (H : Heap) (locs : List Loc) (ls : Array Slot), cx_W g A s (sC g Rs nw im S ++ X) H locs → lv_has ls 5 [(3, .int r_1)] → W p l e rmX1_diskOf s m av below meth c H locs 0 0 Q (F0 m 48 ls [.int t_11, .int t_10]) := by
      intro t_10 t_11 hJ_48 H locs ls hw hl
      unfold JX1_diskOf_48 at hJ_48
      refine lv_iadd hx hb dX1_diskOf_48 ?_
      refine lv_iload_n hx hb dX1_diskOf_49 rfl (lv_at hl 0 rfl) ?_
      replace hJ_48 := fx_gd_e hJ_48
      obtain ⟨h_12, hJ_48⟩ := hJ_48
      refine lv_irem hx hb dX1_diskOf_50 (fx_nz_e h_12) ?_
      obtain rfl := Option.some.inj hJ_48
      exact hret _ _ _ _ _ rfl rfl hw dX1_diskOf_51
    refine lv_icmp_ne (tgt := 45) hx hb dX1_diskOf_38 (by decide) (fun c_13 => ?_) (fun c_13 => ?_)
    · replace hF := fx_ff c_13 hF
      refine lv_iload_n hx hb dX1_diskOf_45 rfl (lv_at hl 4 rfl) ?_
      refine lv_iconst (v := (1 : Int32)) hx hb dX1_diskOf_46 (by decide) ?_
      refine lv_iadd hx hb dX1_diskOf_47 ?_
      exact jn_48 (v_4 + (1 : Int32)) (p2 + (1 : Int32)) hF _ _ _ hw (lv_sub hl [1] rfl)
    · replace hF := fx_tt c_13 hF
      refine lv_iconst (v := (0 : Int32)) hx hb dX1_diskOf_41 (by decide) ?_
      refine lv_goto (tgt := 48) hx hb dX1_diskOf_42 (by decide) ?_
      exact jn_48 (v_4 + (1 : Int32)) (0 : Int32) hF _ _ _ hw (lv_sub hl [1] rfl)
  · replace hF := fx_tt c_7 hF
    refine lv_iload hx hb dX1_diskOf_22 (lv_at hl 0 rfl) ?_
    refine lv_goto (tgt := 51) hx hb dX1_diskOf_24 (by decide) ?_
    obtain rfl := Option.some.inj hF
    exact hret _ _ _ _ _ rfl rfl hw dX1_diskOf_51
/-! lays(I)V -/
def FX1_lays (S : Sx) (p1 : Int32) : Option Sx :=
  fx_b1 (FX1_chunk S) (fun r_1 => fx_gd (fx_nz r_1) (fx_lt (px_I S 25 (p1 - p1 / r_1 * r_1)) (fun S_4 => fx_b1 (FX1_chunk S_4) (fun r_5 => fx_gd (fx_nz r_5) (fx_b1 (FX1_data S_4) (fun r_8 => fx_gd (fx_nz r_8) (fx_lt (px_I S_4 26 ((p1 / r_5) - (p1 / r_5) / r_8 * r_8)) (fun S_11 => fx_b1 (FX1_chunk S_11) (fun r_12 => fx_gd (fx_nz r_12) (fx_b1 (FX1_data S_11) (fun r_15 => fx_gd (fx_nz r_15) (fx_lt (px_I S_11 24 ((p1 / r_12) / r_15)) (fun S_18 => fx_b1 (FX1_diskOf S_18 (gx_I S_18 24) (gx_I S_18 26)) (fun r_19 => fx_lt (px_I S_18 23 r_19) (fun S_21 => some S_21)))))))))))))))
set_option maxHeartbeats 4000000 in
set_option maxRecDepth 100000 in
theorem mX1_lays (l : Launch) (g : Gx) (A : Nat → Prop) (Rs : Nat → Nat) (nw im : Option Nat) (X : va_W) (S : Sx) (p1 : Int32) {o : Sx} (hF : FX1_lays S p1 = some o) :
    cx_v l yX1_lays cX1_lays 2 rmX1_lays [.ref (Rs 100), .int p1] g A (sC g Rs nw im S ++ X) (sC g Rs nw im o ++ X) 0 0 := by
  refine cx_v_of (by decide) (Nat.le_of_ble_eq_true rfl) ?_
  intro p e s m av below meth c Q E hret H hw ls hl
  have E : cx_E p m meth c cX1_lays 2 s av RX1 g A := E
  have hx := E.1.1
  have hb := E.1.2.1
  have hl : lv_has ls 2 [(0, .ref (Rs 100)), (1, .int p1)] := hl
  generalize hlc : ([] : List Loc) = locs at hw ⊢
  clear hlc
  unfold FX1_lays at hF
  refine lv_aload_n hx hb dX1_lays_0 rfl (lv_at hl 0 rfl) ?_
  refine lv_iload_n hx hb dX1_lays_1 rfl (lv_at hl 1 rfl) ?_
  refine lv_aload_n hx hb dX1_lays_2 rfl (lv_at hl 0 rfl) ?_
  replace hF := fx_b1_e hF
  obtain ⟨r_1, h_2, hF⟩ := hF
  refine cx_cVi (r := r_1) (ws := sC g Rs nw im S ++ X) (ws' := sC g Rs nw im S ++ X) (As := []) (rest := [.int p1, .ref (Rs 100)]) E (mX1_chunk l g A Rs _ _ _ S h_2) (kwX1_X1_chunk E ⟨Nat.le_of_ble_eq_true rfl, Nat.le_of_ble_eq_true rfl⟩) 0 1 rfl rfl rfl hw rfl hl.1 rfl (Nat.le_of_ble_eq_true rfl) dX1_lays_3 ⟨Nat.le_of_ble_eq_true rfl, Nat.le_of_ble_eq_true rfl⟩ (fun H locs hw => ?_)
  replace hF := fx_gd_e hF
  obtain ⟨h_3, hF⟩ := hF
  refine lv_irem hx hb dX1_lays_6 (fx_nz_e h_3) ?_
  obtain ⟨S_4, eS_4⟩ : ∃ z : Sx, z = px_I S 25 (p1 - p1 / r_1 * r_1) := ⟨_, rfl⟩
  replace hF := fx_lt_e eS_4 hF
  refine pX1_25 eS_4 E hw dX1_lays_7 (fun H locs hw => ?_)
  refine lv_aload_n hx hb dX1_lays_10 rfl (lv_at hl 0 rfl) ?_
  refine lv_iload_n hx hb dX1_lays_11 rfl (lv_at hl 1 rfl) ?_
  refine lv_aload_n hx hb dX1_lays_12 rfl (lv_at hl 0 rfl) ?_
  replace hF := fx_b1_e hF
  obtain ⟨r_5, h_6, hF⟩ := hF
  refine cx_cVi (r := r_5) (ws := sC g Rs nw im S_4 ++ X) (ws' := sC g Rs nw im S_4 ++ X) (As := []) (rest := [.int p1, .ref (Rs 100)]) E (mX1_chunk l g A Rs _ _ _ S_4 h_6) (kwX1_X1_chunk E ⟨Nat.le_of_ble_eq_true rfl, Nat.le_of_ble_eq_true rfl⟩) 0 1 rfl rfl rfl hw rfl hl.1 rfl (Nat.le_of_ble_eq_true rfl) dX1_lays_13 ⟨Nat.le_of_ble_eq_true rfl, Nat.le_of_ble_eq_true rfl⟩ (fun H locs hw => ?_)
  replace hF := fx_gd_e hF
  obtain ⟨h_7, hF⟩ := hF
  refine lv_idiv hx hb dX1_lays_16 (fx_nz_e h_7) ?_
  refine lv_aload_n hx hb dX1_lays_17 rfl (lv_at hl 0 rfl) ?_
  replace hF := fx_b1_e hF
  obtain ⟨r_8, h_9, hF⟩ := hF
  refine cx_cVi (r := r_8) (ws := sC g Rs nw im S_4 ++ X) (ws' := sC g Rs nw im S_4 ++ X) (As := []) (rest := [.int (p1 / r_5), .ref (Rs 100)]) E (mX1_data l g A Rs _ _ _ S_4 h_9) (kwX1_X1_data E ⟨Nat.le_of_ble_eq_true rfl, Nat.le_of_ble_eq_true rfl⟩) 0 1 rfl rfl rfl hw rfl hl.1 rfl (Nat.le_of_ble_eq_true rfl) dX1_lays_18 ⟨Nat.le_of_ble_eq_true rfl, Nat.le_of_ble_eq_true rfl⟩ (fun H locs hw => ?_)
  replace hF := fx_gd_e hF
  obtain ⟨h_10, hF⟩ := hF
  refine lv_irem hx hb dX1_lays_21 (fx_nz_e h_10) ?_
  obtain ⟨S_11, eS_11⟩ : ∃ z : Sx, z = px_I S_4 26 ((p1 / r_5) - (p1 / r_5) / r_8 * r_8) := ⟨_, rfl⟩
  replace hF := fx_lt_e eS_11 hF
  refine pX1_26 eS_11 E hw dX1_lays_22 (fun H locs hw => ?_)
  refine lv_aload_n hx hb dX1_lays_25 rfl (lv_at hl 0 rfl) ?_
  refine lv_iload_n hx hb dX1_lays_26 rfl (lv_at hl 1 rfl) ?_
  refine lv_aload_n hx hb dX1_lays_27 rfl (lv_at hl 0 rfl) ?_
  replace hF := fx_b1_e hF
  obtain ⟨r_12, h_13, hF⟩ := hF
  refine cx_cVi (r := r_12) (ws := sC g Rs nw im S_11 ++ X) (ws' := sC g Rs nw im S_11 ++ X) (As := []) (rest := [.int p1, .ref (Rs 100)]) E (mX1_chunk l g A Rs _ _ _ S_11 h_13) (kwX1_X1_chunk E ⟨Nat.le_of_ble_eq_true rfl, Nat.le_of_ble_eq_true rfl⟩) 0 1 rfl rfl rfl hw rfl hl.1 rfl (Nat.le_of_ble_eq_true rfl) dX1_lays_28 ⟨Nat.le_of_ble_eq_true rfl, Nat.le_of_ble_eq_true rfl⟩ (fun H locs hw => ?_)
  replace hF := fx_gd_e hF
  obtain ⟨h_14, hF⟩ := hF
  refine lv_idiv hx hb dX1_lays_31 (fx_nz_e h_14) ?_
  refine lv_aload_n hx hb dX1_lays_32 rfl (lv_at hl 0 rfl) ?_
  replace hF := fx_b1_e hF
  obtain ⟨r_15, h_16, hF⟩ := hF
  refine cx_cVi (r := r_15) (ws := sC g Rs nw im S_11 ++ X) (ws' := sC g Rs nw im S_11 ++ X) (As := []) (rest := [.int (p1 / r_12), .ref (Rs 100)]) E (mX1_data l g A Rs _ _ _ S_11 h_16) (kwX1_X1_data E ⟨Nat.le_of_ble_eq_true rfl, Nat.le_of_ble_eq_true rfl⟩) 0 1 rfl rfl rfl hw rfl hl.1 rfl (Nat.le_of_ble_eq_true rfl) dX1_lays_33 ⟨Nat.le_of_ble_eq_true rfl, Nat.le_of_ble_eq_true rfl⟩ (fun H locs hw => ?_)
  replace hF := fx_gd_e hF
  obtain ⟨h_17, hF⟩ := hF
  refine lv_idiv hx hb dX1_lays_36 (fx_nz_e h_17) ?_
  obtain ⟨S_18, eS_18⟩ : ∃ z : Sx, z = px_I S_11 24 ((p1 / r_12) / r_15) := ⟨_, rfl⟩
  replace hF := fx_lt_e eS_18 hF
  refine pX1_24 eS_18 E hw dX1_lays_37 (fun H locs hw => ?_)
  refine lv_aload_n hx hb dX1_lays_40 rfl (lv_at hl 0 rfl) ?_
  refine lv_aload_n hx hb dX1_lays_41 rfl (lv_at hl 0 rfl) ?_
  refine lv_aload_n hx hb dX1_lays_42 rfl (lv_at hl 0 rfl) ?_
  refine gX1_24 E hw dX1_lays_43 ?_
  refine lv_aload_n hx hb dX1_lays_46 rfl (lv_at hl 0 rfl) ?_
  refine gX1_26 E hw dX1_lays_47 ?_
  replace hF := fx_b1_e hF
  obtain ⟨r_19, h_20, hF⟩ := hF
  refine cx_cVi (r := r_19) (ws := sC g Rs nw im S_18 ++ X) (ws' := sC g Rs nw im S_18 ++ X) (As := [.int (gx_I S_18 24), .int (gx_I S_18 26)]) (rest := [.ref (Rs 100)]) E (mX1_diskOf l g A Rs _ _ _ S_18 (gx_I S_18 24) (gx_I S_18 26) h_20) (kwX1_X1_diskOf E ⟨Nat.le_of_ble_eq_true rfl, Nat.le_of_ble_eq_true rfl⟩) 0 1 rfl rfl rfl hw rfl hl.1 rfl (Nat.le_of_ble_eq_true rfl) dX1_lays_50 ⟨Nat.le_of_ble_eq_true rfl, Nat.le_of_ble_eq_true rfl⟩ (fun H locs hw => ?_)
  obtain ⟨S_21, eS_21⟩ : ∃ z : Sx, z = px_I S_18 23 r_19 := ⟨_, rfl⟩
  replace hF := fx_lt_e eS_21 hF
  refine pX1_23 eS_21 E hw dX1_lays_53 (fun H locs hw => ?_)
  obtain rfl := Option.some.inj hF
  exact hret _ _ _ _ hw dX1_lays_56
/-! cellOf(III)I -/
def FX1_cellOf (p1 : Int32) (p2 : Int32) (p3 : Int32) : Option Int32 :=
  some (((4 : Int32) * (((12 : Int32) * p1) + p2)) + p3)
set_option maxHeartbeats 4000000 in
set_option maxRecDepth 100000 in
theorem mX1_cellOf (l : Launch) (g : Gx) (A : Nat → Prop) (ws : va_W) (p1 : Int32) (p2 : Int32) (p3 : Int32) {o : Int32} (hF : FX1_cellOf p1 p2 p3 = some o) :
    cx_i l yX1_cellOf cX1_cellOf 3 .int rmX1_cellOf [.int p1, .int p2, .int p3] g A ws o ws 0 0 := by
  refine cx_i_of (by decide) (Nat.le_of_ble_eq_true rfl) ?_
  intro p e s m av below meth c Q E hret H hw ls hl
  have E : cx_E p m meth c cX1_cellOf 3 s av RX1 g A := E
  have hx := E.1.1
  have hb := E.1.2.1
  have hl : lv_has ls 3 [(0, .int p1), (1, .int p2), (2, .int p3)] := hl
  generalize hlc : ([] : List Loc) = locs at hw ⊢
  clear hlc
  unfold FX1_cellOf at hF
  refine lv_iconst (v := (4 : Int32)) hx hb dX1_cellOf_0 (by decide) ?_
  refine lv_bipush (v := (12 : Int32)) hx hb dX1_cellOf_1 (by decide) ?_
  refine lv_iload_n hx hb dX1_cellOf_3 rfl (lv_at hl 0 rfl) ?_
  refine lv_imul hx hb dX1_cellOf_4 ?_
  refine lv_iload_n hx hb dX1_cellOf_5 rfl (lv_at hl 1 rfl) ?_
  refine lv_iadd hx hb dX1_cellOf_6 ?_
  refine lv_imul hx hb dX1_cellOf_7 ?_
  refine lv_iload_n hx hb dX1_cellOf_8 rfl (lv_at hl 2 rfl) ?_
  refine lv_iadd hx hb dX1_cellOf_9 ?_
  obtain rfl := Option.some.inj hF
  exact hret _ _ _ _ _ rfl rfl hw dX1_cellOf_10
/-! get(III)I -/
def FX1_get_s (S : Sx) (N : Sx) (p1 : Int32) (p2 : Int32) (p3 : Int32) : Option Int32 :=
  fx_b1 (FX1_diskOf S p1 p2) (fun r_1 => fx_b1 (FX1_cellOf r_1 p1 p3) (fun r_3 => fx_gd (fx_in r_3 384) (some (gx_A N 0 r_3.toNatClampNeg))))
set_option maxHeartbeats 4000000 in
set_option maxRecDepth 100000 in
theorem mX1_get_s (l : Launch) (g : Gx) (A : Nat → Prop) (Rs Rn : Nat → Nat) (im : Option Nat) (X : va_W) (S : Sx) (N : Sx) (p1 : Int32) (p2 : Int32) (p3 : Int32) {o : Int32} (hF : FX1_get_s S N p1 p2 p3 = some o) :
    cx_i l yX1_get cX1_get 4 .int rmX1_get [.ref (Rs 100), .int p1, .int p2, .int p3] g A (sC g Rs (some (Rn 100)) im S ++ (stC g Rn N ++ X)) o (sC g Rs (some (Rn 100)) im S ++ (stC g Rn N ++ X)) 0 0 := by
  refine cx_i_of (by decide) (Nat.le_of_ble_eq_true rfl) ?_
  intro p e s m av below meth c Q E hret H hw ls hl
  have E : cx_E p m meth c cX1_get 4 s av RX1 g A := E
  have hx := E.1.1
  have hb := E.1.2.1
  have hl : lv_has ls 4 [(0, .ref (Rs 100)), (1, .int p1), (2, .int p2), (3, .int p3)] := hl
  generalize hlc : ([] : List Loc) = locs at hw ⊢
  clear hlc
  unfold FX1_get_s at hF
  refine lv_aload_n hx hb dX1_get_0 rfl (lv_at hl 0 rfl) ?_
  refine gX1_19s E hw dX1_get_1 ?_
  refine gNX7_0 E hw dX1_get_4 ?_
  refine lv_aload_n hx hb dX1_get_7 rfl (lv_at hl 0 rfl) ?_
  refine lv_iload_n hx hb dX1_get_8 rfl (lv_at hl 1 rfl) ?_
  refine lv_iload_n hx hb dX1_get_9 rfl (lv_at hl 2 rfl) ?_
  replace hF := fx_b1_e hF
  obtain ⟨r_1, h_2, hF⟩ := hF
  refine cx_cVi (r := r_1) (ws := sC g Rs (some (Rn 100)) im S ++ (stC g Rn N ++ X)) (ws' := sC g Rs (some (Rn 100)) im S ++ (stC g Rn N ++ X)) (As := [.int p1, .int p2]) (rest := [.ref (Rn 0)]) E (mX1_diskOf l g A Rs _ _ _ S p1 p2 h_2) (kwX1_X1_diskOf E ⟨Nat.le_of_ble_eq_true rfl, Nat.le_of_ble_eq_true rfl⟩) 0 1 rfl rfl rfl hw rfl hl.1 rfl (Nat.le_of_ble_eq_true rfl) dX1_get_10 ⟨Nat.le_of_ble_eq_true rfl, Nat.le_of_ble_eq_true rfl⟩ (fun H locs hw => ?_)
  refine lv_iload_n hx hb dX1_get_13 rfl (lv_at hl 1 rfl) ?_
  refine lv_iload_n hx hb dX1_get_14 rfl (lv_at hl 3 rfl) ?_
  replace hF := fx_b1_e hF
  obtain ⟨r_3, h_4, hF⟩ := hF
  refine cx_cSi (r := r_3) (ws := sC g Rs (some (Rn 100)) im S ++ (stC g Rn N ++ X)) (ws' := sC g Rs (some (Rn 100)) im S ++ (stC g Rn N ++ X)) (As := [.int r_1, .int p1, .int p3]) (rest := [.ref (Rn 0)]) E (mX1_cellOf l g A (sC g Rs (some (Rn 100)) im S ++ (stC g Rn N ++ X)) r_1 p1 p3 h_4) (kwX1_X1_cellOf E ⟨Nat.le_of_ble_eq_true rfl, Nat.le_of_ble_eq_true rfl⟩) hw rfl hl.1 rfl (Nat.le_of_ble_eq_true rfl) dX1_get_15 ⟨Nat.le_of_ble_eq_true rfl, Nat.le_of_ble_eq_true rfl⟩ (fun H locs hw => ?_)
  replace hF := fx_gd_e hF
  obtain ⟨h_5, hF⟩ := hF
  refine raX7_0 E hw (fx_in_e h_5) dX1_get_18 ?_
  obtain rfl := Option.some.inj hF
  exact hret _ _ _ _ _ rfl rfl hw dX1_get_19
/-! get(III)I -/
def FX1_get_n (S : Sx) (p1 : Int32) (p2 : Int32) (p3 : Int32) : Option Int32 :=
  none
set_option maxHeartbeats 4000000 in
set_option maxRecDepth 100000 in
theorem mX1_get_n (l : Launch) (g : Gx) (A : Nat → Prop) (Rs : Nat → Nat) (im : Option Nat) (X : va_W) (S : Sx) (p1 : Int32) (p2 : Int32) (p3 : Int32) {o : Int32} (hF : FX1_get_n S p1 p2 p3 = some o) :
    cx_i l yX1_get cX1_get 4 .int rmX1_get [.ref (Rs 100), .int p1, .int p2, .int p3] g A (sC g Rs none im S ++ X) o (sC g Rs none im S ++ X) 0 0 := by
  refine cx_i_of (by decide) (Nat.le_of_ble_eq_true rfl) ?_
  intro p e s m av below meth c Q E hret H hw ls hl
  have E : cx_E p m meth c cX1_get 4 s av RX1 g A := E
  have hx := E.1.1
  have hb := E.1.2.1
  have hl : lv_has ls 4 [(0, .ref (Rs 100)), (1, .int p1), (2, .int p2), (3, .int p3)] := hl
  generalize hlc : ([] : List Loc) = locs at hw ⊢
  clear hlc
  unfold FX1_get_n at hF
  refine lv_aload_n hx hb dX1_get_0 rfl (lv_at hl 0 rfl) ?_
  refine gX1_19n E hw dX1_get_1 ?_
  exact fx_no hF
/-! put(IIII)V -/
def FX1_put_s (S : Sx) (N : Sx) (p1 : Int32) (p2 : Int32) (p3 : Int32) (p4 : Int32) : Option Sx :=
  fx_b1 (FX1_diskOf S p1 p2) (fun r_1 => fx_b1 (FX1_cellOf r_1 p1 p3) (fun r_3 => fx_gd (fx_in r_3 384) (fx_lt (px_A N 0 (upd (gx_A N 0) r_3.toNatClampNeg p4)) (fun N_6 => some N_6))))
set_option maxHeartbeats 4000000 in
set_option maxRecDepth 100000 in
theorem mX1_put_s (l : Launch) (g : Gx) (A : Nat → Prop) (Rs Rn : Nat → Nat) (im : Option Nat) (X : va_W) (S : Sx) (N : Sx) (p1 : Int32) (p2 : Int32) (p3 : Int32) (p4 : Int32) {o : Sx} (hF : FX1_put_s S N p1 p2 p3 p4 = some o) :
    cx_v l yX1_put cX1_put 5 rmX1_put [.ref (Rs 100), .int p1, .int p2, .int p3, .int p4] g A (sC g Rs (some (Rn 100)) im S ++ (stC g Rn N ++ X)) (sC g Rs (some (Rn 100)) im S ++ (stC g Rn o ++ X)) 0 0 := by
  refine cx_v_of (by decide) (Nat.le_of_ble_eq_true rfl) ?_
  intro p e s m av below meth c Q E hret H hw ls hl
  have E : cx_E p m meth c cX1_put 5 s av RX1 g A := E
  have hx := E.1.1
  have hb := E.1.2.1
  have hl : lv_has ls 5 [(0, .ref (Rs 100)), (1, .int p1), (2, .int p2), (3, .int p3), (4, .int p4)] := hl
  generalize hlc : ([] : List Loc) = locs at hw ⊢
  clear hlc
  unfold FX1_put_s at hF
  refine lv_aload_n hx hb dX1_put_0 rfl (lv_at hl 0 rfl) ?_
  refine gX1_19s E hw dX1_put_1 ?_
  refine gNX7_0 E hw dX1_put_4 ?_
  refine lv_aload_n hx hb dX1_put_7 rfl (lv_at hl 0 rfl) ?_
  refine lv_iload_n hx hb dX1_put_8 rfl (lv_at hl 1 rfl) ?_
  refine lv_iload_n hx hb dX1_put_9 rfl (lv_at hl 2 rfl) ?_
  replace hF := fx_b1_e hF
  obtain ⟨r_1, h_2, hF⟩ := hF
  refine cx_cVi (r := r_1) (ws := sC g Rs (some (Rn 100)) im S ++ (stC g Rn N ++ X)) (ws' := sC g Rs (some (Rn 100)) im S ++ (stC g Rn N ++ X)) (As := [.int p1, .int p2]) (rest := [.ref (Rn 0)]) E (mX1_diskOf l g A Rs _ _ _ S p1 p2 h_2) (kwX1_X1_diskOf E ⟨Nat.le_of_ble_eq_true rfl, Nat.le_of_ble_eq_true rfl⟩) 0 1 rfl rfl rfl hw rfl hl.1 rfl (Nat.le_of_ble_eq_true rfl) dX1_put_10 ⟨Nat.le_of_ble_eq_true rfl, Nat.le_of_ble_eq_true rfl⟩ (fun H locs hw => ?_)
  refine lv_iload_n hx hb dX1_put_13 rfl (lv_at hl 1 rfl) ?_
  refine lv_iload_n hx hb dX1_put_14 rfl (lv_at hl 3 rfl) ?_
  replace hF := fx_b1_e hF
  obtain ⟨r_3, h_4, hF⟩ := hF
  refine cx_cSi (r := r_3) (ws := sC g Rs (some (Rn 100)) im S ++ (stC g Rn N ++ X)) (ws' := sC g Rs (some (Rn 100)) im S ++ (stC g Rn N ++ X)) (As := [.int r_1, .int p1, .int p3]) (rest := [.ref (Rn 0)]) E (mX1_cellOf l g A (sC g Rs (some (Rn 100)) im S ++ (stC g Rn N ++ X)) r_1 p1 p3 h_4) (kwX1_X1_cellOf E ⟨Nat.le_of_ble_eq_true rfl, Nat.le_of_ble_eq_true rfl⟩) hw rfl hl.1 rfl (Nat.le_of_ble_eq_true rfl) dX1_put_15 ⟨Nat.le_of_ble_eq_true rfl, Nat.le_of_ble_eq_true rfl⟩ (fun H locs hw => ?_)
  refine lv_iload hx hb dX1_put_18 (lv_at hl 4 rfl) ?_
  replace hF := fx_gd_e hF
  obtain ⟨h_5, hF⟩ := hF
  obtain ⟨N_6, eN_6⟩ : ∃ z : Sx, z = px_A N 0 (upd (gx_A N 0) r_3.toNatClampNeg p4) := ⟨_, rfl⟩
  replace hF := fx_lt_e eN_6 hF
  refine rsX7_0 eN_6 E hw (fx_in_e h_5) dX1_put_20 (fun H locs hw => ?_)
  obtain rfl := Option.some.inj hF
  exact hret _ _ _ _ hw dX1_put_21
/-! put(IIII)V -/
def FX1_put_n (S : Sx) (p1 : Int32) (p2 : Int32) (p3 : Int32) (p4 : Int32) : Option Unit :=
  none
set_option maxHeartbeats 4000000 in
set_option maxRecDepth 100000 in
theorem mX1_put_n (l : Launch) (g : Gx) (A : Nat → Prop) (Rs : Nat → Nat) (im : Option Nat) (X : va_W) (S : Sx) (p1 : Int32) (p2 : Int32) (p3 : Int32) (p4 : Int32) {o : Unit} (hF : FX1_put_n S p1 p2 p3 p4 = some o) :
    cx_v l yX1_put cX1_put 5 rmX1_put [.ref (Rs 100), .int p1, .int p2, .int p3, .int p4] g A (sC g Rs none im S ++ X) (sC g Rs none im S ++ X) 0 0 := by
  refine cx_v_of (by decide) (Nat.le_of_ble_eq_true rfl) ?_
  intro p e s m av below meth c Q E hret H hw ls hl
  have E : cx_E p m meth c cX1_put 5 s av RX1 g A := E
  have hx := E.1.1
  have hb := E.1.2.1
  have hl : lv_has ls 5 [(0, .ref (Rs 100)), (1, .int p1), (2, .int p2), (3, .int p3), (4, .int p4)] := hl
  generalize hlc : ([] : List Loc) = locs at hw ⊢
  clear hlc
  unfold FX1_put_n at hF
  refine lv_aload_n hx hb dX1_put_0 rfl (lv_at hl 0 rfl) ?_
  refine gX1_19n E hw dX1_put_1 ?_
  exact fx_no hF
/-! isThere(II)Z -/
def FX7_isThere (N : Sx) (p1 : Int32) (p2 : Int32) : Option Int32 :=
  fx_gd (fx_in p1 8) (if (gx_A N 1 p1.toNatClampNeg) = 0 then (some (1 : Int32)) else (fx_gd (fx_in p1 8) (if (gx_A N 1 p1.toNatClampNeg) = (2 : Int32) then (fx_gd (fx_in p1 8) (if (gx_A N 2 p1.toNatClampNeg) ≤ p2 then (some (0 : Int32)) else (some (1 : Int32)))) else (some (0 : Int32)))))
set_option maxHeartbeats 4000000 in
set_option maxRecDepth 100000 in
theorem mX7_isThere (l : Launch) (g : Gx) (A : Nat → Prop) (Rn : Nat → Nat) (X : va_W) (N : Sx) (p1 : Int32) (p2 : Int32) {o : Int32} (hF : FX7_isThere N p1 p2 = some o) :
    cx_i l yX7_isThere cX7_isThere 3 .boolean rmX7_isThere [.ref (Rn 100), .int p1, .int p2] g A (stC g Rn N ++ X) o (stC g Rn N ++ X) 0 0 := by
  refine cx_i_of (by decide) (Nat.le_of_ble_eq_true rfl) ?_
  intro p e s m av below meth c Q E hret H hw ls hl
  have E : cx_E p m meth c cX7_isThere 3 s av RX7 g A := E
  have hx := E.1.1
  have hb := E.1.2.1
  have hl : lv_has ls 3 [(0, .ref (Rn 100)), (1, .int p1), (2, .int p2)] := hl
  generalize hlc : ([] : List Loc) = locs at hw ⊢
  clear hlc
  unfold FX7_isThere at hF
  refine lv_aload_n hx hb dX7_isThere_0 rfl (lv_at hl 0 rfl) ?_
  refine gY7_1 E hw dX7_isThere_1 ?_
  refine lv_iload_n hx hb dX7_isThere_4 rfl (lv_at hl 1 rfl) ?_
  replace hF := fx_gd_e hF
  obtain ⟨h_1, hF⟩ := hF
  refine raY7_1 E hw (fx_in_e h_1) dX7_isThere_5 ?_
  refine lv_if_eq (tgt := 29) hx hb dX7_isThere_6 (by decide) (fun c_2 => ?_) (fun c_2 => ?_)
  · replace hF := fx_tt c_2 hF
    refine lv_iconst (v := (1 : Int32)) hx hb dX7_isThere_29 (by decide) ?_
    refine lv_goto (tgt := 34) hx hb dX7_isThere_30 (by decide) ?_
    obtain rfl := Option.some.inj hF
    exact hret _ _ _ _ _ rfl (by decide) hw dX7_isThere_34
  · replace hF := fx_ff c_2 hF
    refine lv_aload_n hx hb dX7_isThere_9 rfl (lv_at hl 0 rfl) ?_
    refine gY7_1 E hw dX7_isThere_10 ?_
    refine lv_iload_n hx hb dX7_isThere_13 rfl (lv_at hl 1 rfl) ?_
    replace hF := fx_gd_e hF
    obtain ⟨h_3, hF⟩ := hF
    refine raY7_1 E hw (fx_in_e h_3) dX7_isThere_14 ?_
    refine lv_iconst (v := (2 : Int32)) hx hb dX7_isThere_15 (by decide) ?_
    refine lv_icmp_ne (tgt := 33) hx hb dX7_isThere_16 (by decide) (fun c_4 => ?_) (fun c_4 => ?_)
    · replace hF := fx_ff c_4 hF
      refine lv_iconst (v := (0 : Int32)) hx hb dX7_isThere_33 (by decide) ?_
      obtain rfl := Option.some.inj hF
      exact hret _ _ _ _ _ rfl (by decide) hw dX7_isThere_34
    · replace hF := fx_tt c_4 hF
      refine lv_iload_n hx hb dX7_isThere_19 rfl (lv_at hl 2 rfl) ?_
      refine lv_aload_n hx hb dX7_isThere_20 rfl (lv_at hl 0 rfl) ?_
      refine gY7_2 E hw dX7_isThere_21 ?_
      refine lv_iload_n hx hb dX7_isThere_24 rfl (lv_at hl 1 rfl) ?_
      replace hF := fx_gd_e hF
      obtain ⟨h_5, hF⟩ := hF
      refine raY7_2 E hw (fx_in_e h_5) dX7_isThere_25 ?_
      refine lv_icmp_ge (tgt := 33) hx hb dX7_isThere_26 (by decide) (fun c_6 => ?_) (fun c_6 => ?_)
      · replace hF := fx_tt c_6 hF
        refine lv_iconst (v := (0 : Int32)) hx hb dX7_isThere_33 (by decide) ?_
        obtain rfl := Option.some.inj hF
        exact hret _ _ _ _ _ rfl (by decide) hw dX7_isThere_34
      · replace hF := fx_ff c_6 hF
        refine lv_iconst (v := (1 : Int32)) hx hb dX7_isThere_29 (by decide) ?_
        refine lv_goto (tgt := 34) hx hb dX7_isThere_30 (by decide) ?_
        obtain rfl := Option.some.inj hF
        exact hret _ _ _ _ _ rfl (by decide) hw dX7_isThere_34
/-! isThere(II)Z -/
def FX1_isThere_s (S : Sx) (N : Sx) (p1 : Int32) (p2 : Int32) : Option Int32 :=
  fx_b1 (FX1_diskOf S p1 p2) (fun r_1 => fx_b1 (FX7_isThere N r_1 p1) (fun r_3 => fx_gd (fx_zb r_3) (some r_3)))
set_option maxHeartbeats 4000000 in
set_option maxRecDepth 100000 in
theorem mX1_isThere_s (l : Launch) (g : Gx) (A : Nat → Prop) (Rs Rn : Nat → Nat) (im : Option Nat) (X : va_W) (S : Sx) (N : Sx) (p1 : Int32) (p2 : Int32) {o : Int32} (hF : FX1_isThere_s S N p1 p2 = some o) :
    cx_i l yX1_isThere cX1_isThere 3 .boolean rmX1_isThere [.ref (Rs 100), .int p1, .int p2] g A (sC g Rs (some (Rn 100)) im S ++ (stC g Rn N ++ X)) o (sC g Rs (some (Rn 100)) im S ++ (stC g Rn N ++ X)) 0 0 := by
  refine cx_i_of (by decide) (Nat.le_of_ble_eq_true rfl) ?_
  intro p e s m av below meth c Q E hret H hw ls hl
  have E : cx_E p m meth c cX1_isThere 3 s av RX1 g A := E
  have hx := E.1.1
  have hb := E.1.2.1
  have hl : lv_has ls 3 [(0, .ref (Rs 100)), (1, .int p1), (2, .int p2)] := hl
  generalize hlc : ([] : List Loc) = locs at hw ⊢
  clear hlc
  unfold FX1_isThere_s at hF
  refine lv_aload_n hx hb dX1_isThere_0 rfl (lv_at hl 0 rfl) ?_
  refine gX1_19s E hw dX1_isThere_1 ?_
  refine lv_aload_n hx hb dX1_isThere_4 rfl (lv_at hl 0 rfl) ?_
  refine lv_iload_n hx hb dX1_isThere_5 rfl (lv_at hl 1 rfl) ?_
  refine lv_iload_n hx hb dX1_isThere_6 rfl (lv_at hl 2 rfl) ?_
  replace hF := fx_b1_e hF
  obtain ⟨r_1, h_2, hF⟩ := hF
  refine cx_cVi (r := r_1) (ws := sC g Rs (some (Rn 100)) im S ++ (stC g Rn N ++ X)) (ws' := sC g Rs (some (Rn 100)) im S ++ (stC g Rn N ++ X)) (As := [.int p1, .int p2]) (rest := [.ref (Rn 100)]) E (mX1_diskOf l g A Rs _ _ _ S p1 p2 h_2) (kwX1_X1_diskOf E ⟨Nat.le_of_ble_eq_true rfl, Nat.le_of_ble_eq_true rfl⟩) 0 1 rfl rfl rfl hw rfl hl.1 rfl (Nat.le_of_ble_eq_true rfl) dX1_isThere_7 ⟨Nat.le_of_ble_eq_true rfl, Nat.le_of_ble_eq_true rfl⟩ (fun H locs hw => ?_)
  refine lv_iload_n hx hb dX1_isThere_10 rfl (lv_at hl 1 rfl) ?_
  replace hF := fx_b1_e hF
  obtain ⟨r_3, h_4, hF⟩ := hF
  have hw : cx_W g A s (stC g Rn N ++ (sC g Rs (some (Rn 100)) im S ++ X)) H locs := cx_W.perm hw (List.perm_append_comm_assoc _ _ _)
  refine cx_cVi (r := r_3) (ws := stC g Rn N ++ (sC g Rs (some (Rn 100)) im S ++ X)) (ws' := stC g Rn N ++ (sC g Rs (some (Rn 100)) im S ++ X)) (As := [.int r_1, .int p1]) (rest := []) E (mX7_isThere l g A Rn _ N r_1 p1 h_4) (kwX1_X7_isThere E ⟨Nat.le_of_ble_eq_true rfl, Nat.le_of_ble_eq_true rfl⟩) 0 2 rfl rfl rfl hw rfl hl.1 rfl (Nat.le_of_ble_eq_true rfl) dX1_isThere_11 ⟨Nat.le_of_ble_eq_true rfl, Nat.le_of_ble_eq_true rfl⟩ (fun H locs hw => ?_)
  have hw : cx_W g A s (sC g Rs (some (Rn 100)) im S ++ (stC g Rn N ++ X)) H locs := cx_W.perm hw (List.perm_append_comm_assoc _ _ _)
  replace hF := fx_gd_e hF
  obtain ⟨h_5, hF⟩ := hF
  obtain rfl := Option.some.inj hF
  exact hret _ _ _ _ _ rfl (fx_zb_nar h_5) hw dX1_isThere_14
/-! isThere(II)Z -/
def FX1_isThere_n (S : Sx) (p1 : Int32) (p2 : Int32) : Option Int32 :=
  fx_b1 (FX1_diskOf S p1 p2) (fun r_1 => none)
set_option maxHeartbeats 4000000 in
set_option maxRecDepth 100000 in
theorem mX1_isThere_n (l : Launch) (g : Gx) (A : Nat → Prop) (Rs : Nat → Nat) (im : Option Nat) (X : va_W) (S : Sx) (p1 : Int32) (p2 : Int32) {o : Int32} (hF : FX1_isThere_n S p1 p2 = some o) :
    cx_i l yX1_isThere cX1_isThere 3 .boolean rmX1_isThere [.ref (Rs 100), .int p1, .int p2] g A (sC g Rs none im S ++ X) o (sC g Rs none im S ++ X) 0 0 := by
  refine cx_i_of (by decide) (Nat.le_of_ble_eq_true rfl) ?_
  intro p e s m av below meth c Q E hret H hw ls hl
  have E : cx_E p m meth c cX1_isThere 3 s av RX1 g A := E
  have hx := E.1.1
  have hb := E.1.2.1
  have hl : lv_has ls 3 [(0, .ref (Rs 100)), (1, .int p1), (2, .int p2)] := hl
  generalize hlc : ([] : List Loc) = locs at hw ⊢
  clear hlc
  unfold FX1_isThere_n at hF
  refine lv_aload_n hx hb dX1_isThere_0 rfl (lv_at hl 0 rfl) ?_
  refine gX1_19n E hw dX1_isThere_1 ?_
  refine lv_aload_n hx hb dX1_isThere_4 rfl (lv_at hl 0 rfl) ?_
  refine lv_iload_n hx hb dX1_isThere_5 rfl (lv_at hl 1 rfl) ?_
  refine lv_iload_n hx hb dX1_isThere_6 rfl (lv_at hl 2 rfl) ?_
  replace hF := fx_b1_e hF
  obtain ⟨r_1, h_2, hF⟩ := hF
  refine cx_cVi (r := r_1) (ws := sC g Rs none im S ++ X) (ws' := sC g Rs none im S ++ X) (As := [.int p1, .int p2]) (rest := [.null]) E (mX1_diskOf l g A Rs _ _ _ S p1 p2 h_2) (kwX1_X1_diskOf E ⟨Nat.le_of_ble_eq_true rfl, Nat.le_of_ble_eq_true rfl⟩) 0 1 rfl rfl rfl hw rfl hl.1 rfl (Nat.le_of_ble_eq_true rfl) dX1_isThere_7 ⟨Nat.le_of_ble_eq_true rfl, Nat.le_of_ble_eq_true rfl⟩ (fun H locs hw => ?_)
  refine lv_iload_n hx hb dX1_isThere_10 rfl (lv_at hl 1 rfl) ?_
  exact fx_no hF
/-! power(I)I -/
def FX3_power (S : Sx) (p1 : Int32) : Option Int32 :=
  fx_gd (fx_in (p1 - p1 / (255 : Int32) * (255 : Int32)) 512) (some (gx_A S 40 (p1 - p1 / (255 : Int32) * (255 : Int32)).toNatClampNeg))
set_option maxHeartbeats 4000000 in
set_option maxRecDepth 100000 in
theorem mX3_power (l : Launch) (g : Gx) (A : Nat → Prop) (Rs : Nat → Nat) (nw im : Option Nat) (X : va_W) (S : Sx) (p1 : Int32) {o : Int32} (hF : FX3_power S p1 = some o) :
    cx_i l yX3_power cX3_power 2 .int rmX3_power [.ref (Rs 18), .int p1] g A (sC g Rs nw im S ++ X) o (sC g Rs nw im S ++ X) 0 0 := by
  refine cx_i_of (by decide) (Nat.le_of_ble_eq_true rfl) ?_
  intro p e s m av below meth c Q E hret H hw ls hl
  have E : cx_E p m meth c cX3_power 2 s av RX3 g A := E
  have hx := E.1.1
  have hb := E.1.2.1
  have hl : lv_has ls 2 [(0, .ref (Rs 18)), (1, .int p1)] := hl
  generalize hlc : ([] : List Loc) = locs at hw ⊢
  clear hlc
  unfold FX3_power at hF
  refine lv_aload_n hx hb dX3_power_0 rfl (lv_at hl 0 rfl) ?_
  refine gX3_0 E hw dX3_power_1 ?_
  refine lv_iload_n hx hb dX3_power_4 rfl (lv_at hl 1 rfl) ?_
  refine lv_sipush (v := (255 : Int32)) hx hb dX3_power_5 (by decide) ?_
  refine lv_irem hx hb dX3_power_8 (by decide) ?_
  replace hF := fx_gd_e hF
  obtain ⟨h_1, hF⟩ := hF
  refine raX1_40 E hw (fx_in_e h_1) dX3_power_9 ?_
  obtain rfl := Option.some.inj hF
  exact hret _ _ _ _ _ rfl rfl hw dX3_power_10
/-! times(II)I -/
def FX3_times (S : Sx) (p1 : Int32) (p2 : Int32) : Option Int32 :=
  if p1 = 0 then (some (0 : Int32)) else (if p2 = 0 then (some (0 : Int32)) else (fx_gd (fx_in p1 256) (fx_gd (fx_in p2 256) (fx_gd (fx_in ((gx_A S 41 p1.toNatClampNeg) + (gx_A S 41 p2.toNatClampNeg)) 512) (some (gx_A S 40 ((gx_A S 41 p1.toNatClampNeg) + (gx_A S 41 p2.toNatClampNeg)).toNatClampNeg))))))
set_option maxHeartbeats 4000000 in
set_option maxRecDepth 100000 in
theorem mX3_times (l : Launch) (g : Gx) (A : Nat → Prop) (Rs : Nat → Nat) (nw im : Option Nat) (X : va_W) (S : Sx) (p1 : Int32) (p2 : Int32) {o : Int32} (hF : FX3_times S p1 p2 = some o) :
    cx_i l yX3_times cX3_times 3 .int rmX3_times [.ref (Rs 18), .int p1, .int p2] g A (sC g Rs nw im S ++ X) o (sC g Rs nw im S ++ X) 0 0 := by
  refine cx_i_of (by decide) (Nat.le_of_ble_eq_true rfl) ?_
  intro p e s m av below meth c Q E hret H hw ls hl
  have E : cx_E p m meth c cX3_times 3 s av RX3 g A := E
  have hx := E.1.1
  have hb := E.1.2.1
  have hl : lv_has ls 3 [(0, .ref (Rs 18)), (1, .int p1), (2, .int p2)] := hl
  generalize hlc : ([] : List Loc) = locs at hw ⊢
  clear hlc
  unfold FX3_times at hF
  refine lv_iload_n hx hb dX3_times_0 rfl (lv_at hl 1 rfl) ?_
  refine lv_if_eq (tgt := 8) hx hb dX3_times_1 (by decide) (fun c_1 => ?_) (fun c_1 => ?_)
  · replace hF := fx_tt c_1 hF
    refine lv_iconst (v := (0 : Int32)) hx hb dX3_times_8 (by decide) ?_
    refine lv_goto (tgt := 30) hx hb dX3_times_9 (by decide) ?_
    obtain rfl := Option.some.inj hF
    exact hret _ _ _ _ _ rfl rfl hw dX3_times_30
  · replace hF := fx_ff c_1 hF
    refine lv_iload_n hx hb dX3_times_4 rfl (lv_at hl 2 rfl) ?_
    refine lv_if_ne (tgt := 12) hx hb dX3_times_5 (by decide) (fun c_2 => ?_) (fun c_2 => ?_)
    · replace hF := fx_ff c_2 hF
      refine lv_aload_n hx hb dX3_times_12 rfl (lv_at hl 0 rfl) ?_
      refine gX3_0 E hw dX3_times_13 ?_
      refine lv_aload_n hx hb dX3_times_16 rfl (lv_at hl 0 rfl) ?_
      refine gX3_1 E hw dX3_times_17 ?_
      refine lv_iload_n hx hb dX3_times_20 rfl (lv_at hl 1 rfl) ?_
      replace hF := fx_gd_e hF
      obtain ⟨h_3, hF⟩ := hF
      refine raX1_41 E hw (fx_in_e h_3) dX3_times_21 ?_
      refine lv_aload_n hx hb dX3_times_22 rfl (lv_at hl 0 rfl) ?_
      refine gX3_1 E hw dX3_times_23 ?_
      refine lv_iload_n hx hb dX3_times_26 rfl (lv_at hl 2 rfl) ?_
      replace hF := fx_gd_e hF
      obtain ⟨h_4, hF⟩ := hF
      refine raX1_41 E hw (fx_in_e h_4) dX3_times_27 ?_
      refine lv_iadd hx hb dX3_times_28 ?_
      replace hF := fx_gd_e hF
      obtain ⟨h_5, hF⟩ := hF
      refine raX1_40 E hw (fx_in_e h_5) dX3_times_29 ?_
      obtain rfl := Option.some.inj hF
      exact hret _ _ _ _ _ rfl rfl hw dX3_times_30
    · replace hF := fx_tt c_2 hF
      refine lv_iconst (v := (0 : Int32)) hx hb dX3_times_8 (by decide) ?_
      refine lv_goto (tgt := 30) hx hb dX3_times_9 (by decide) ?_
      obtain rfl := Option.some.inj hF
      exact hret _ _ _ _ _ rfl rfl hw dX3_times_30
/-! changesSums(IZZ)V -/
def JX1_changesSums_s_40 (p3 : Int32) (N_3 : Sx) (S : Sx) (r_1 : Int32) (p1 : Int32) : Option Sx :=
  if p3 = 0 then (some N_3) else (fx_b1 (FX1_get_s S N_3 (gx_I S 24) (r_1 + (1 : Int32)) (gx_I S 25)) (fun r_5 => fx_b1 (FX3_power S (gx_I S 26)) (fun r_7 => fx_b1 (FX3_times S p1 r_7) (fun r_9 => fx_b1 (FX1_put_s S N_3 (gx_I S 24) (r_1 + (1 : Int32)) (gx_I S 25) (r_5 ^^^ r_9)) (fun N_11 => some N_11)))))
def FX1_changesSums_s (S : Sx) (N : Sx) (p1 : Int32) (p2 : Int32) (p3 : Int32) : Option Sx :=
  fx_b1 (FX1_data S) (fun r_1 => if p2 = 0 then (JX1_changesSums_s_40 p3 N S r_1 p1) else (fx_b1 (FX1_get_s S N (gx_I S 24) r_1 (gx_I S 25)) (fun r_14 => fx_b1 (FX1_put_s S N (gx_I S 24) r_1 (gx_I S 25) (r_14 ^^^ p1)) (fun N_16 => JX1_changesSums_s_40 p3 N_16 S r_1 p1))))
set_option maxHeartbeats 4000000 in
set_option maxRecDepth 100000 in
theorem mX1_changesSums_s (l : Launch) (g : Gx) (A : Nat → Prop) (Rs Rn : Nat → Nat) (im : Option Nat) (X : va_W) (S : Sx) (N : Sx) (p1 : Int32) (p2 : Int32) (p3 : Int32) {o : Sx} (hF : FX1_changesSums_s S N p1 p2 p3 = some o) :
    cx_v l yX1_changesSums cX1_changesSums 5 rmX1_changesSums [.ref (Rs 100), .int p1, .int p2, .int p3] g A (sC g Rs (some (Rn 100)) im S ++ (stC g Rn N ++ X)) (sC g Rs (some (Rn 100)) im S ++ (stC g Rn o ++ X)) 0 0 := by
  refine cx_v_of (by decide) (Nat.le_of_ble_eq_true rfl) ?_
  intro p e s m av below meth c Q E hret H hw ls hl
  have E : cx_E p m meth c cX1_changesSums 5 s av RX1 g A := E
  have hx := E.1.1
  have hb := E.1.2.1
  have hl : lv_has ls 5 [(0, .ref (Rs 100)), (1, .int p1), (2, .int p2), (3, .int p3)] := hl
  generalize hlc : ([] : List Loc) = locs at hw ⊢
  clear hlc
  unfold FX1_changesSums_s at hF
  refine lv_aload_n hx hb dX1_changesSums_0 rfl (lv_at hl 0 rfl) ?_
  replace hF := fx_b1_e hF
  obtain ⟨r_1, h_2, hF⟩ := hF
  refine cx_cVi (r := r_1) (ws := sC g Rs (some (Rn 100)) im S ++ (stC g Rn N ++ X)) (ws' := sC g Rs (some (Rn 100)) im S ++ (stC g Rn N ++ X)) (As := []) (rest := []) E (mX1_data l g A Rs _ _ _ S h_2) (kwX1_X1_data E ⟨Nat.le_of_ble_eq_true rfl, Nat.le_of_ble_eq_true rfl⟩) 0 1 rfl rfl rfl hw rfl hl.1 rfl (Nat.le_of_ble_eq_true rfl) dX1_changesSums_1 ⟨Nat.le_of_ble_eq_true rfl, Nat.le_of_ble_eq_true rfl⟩ (fun H locs hw => ?_)
  refine lv_istore hx hb dX1_changesSums_4 hl (by decide) rfl (fun ls hl => ?_)
  have hl : lv_has ls 5 [(4, .int r_1), (0, .ref (Rs 100)), (1, .int p1), (2, .int p2), (3, .int p3)] := hl
  refine lv_iload_n hx hb dX1_changesSums_6 rfl (lv_at hl 3 rfl) ?_
  have jn_40 : ∀ (N_3 : Sx), JX1_changesSums_s_40 p3 N_3 S r_1 p1 = some o → ∀ (H : Heap) (locs : List Loc) (ls : Array Slot), cx_W g A s (sC g Rs (some (Rn 100)) im S ++ (stC g Rn N_3 ++ X)) H locs → lv_has ls 5 [(0, .ref (Rs 100)), (1, .int p1), (3, .int p3), (4, .int r_1)] → W p l e rmX1_changesSums s m av below meth c H locs 0 0 Q (F0 m 40 ls []) := by
    intro N_3 hJ_40 H locs ls hw hl
    unfold JX1_changesSums_s_40 at hJ_40
    refine lv_iload_n hx hb dX1_changesSums_40 rfl (lv_at hl 2 rfl) ?_
    refine lv_if_eq (tgt := 96) hx hb dX1_changesSums_41 (by decide) (fun c_4 => ?_) (fun c_4 => ?_)
    · replace hJ_40 := fx_tt c_4 hJ_40
      obtain rfl := Option.some.inj hJ_40
      exact hret _ _ _ _ hw dX1_changesSums_96
    · replace hJ_40 := fx_ff c_4 hJ_40
      refine lv_aload_n hx hb dX1_changesSums_44 rfl (lv_at hl 0 rfl) ?_
      refine lv_aload_n hx hb dX1_changesSums_45 rfl (lv_at hl 0 rfl) ?_
      refine gX1_24 E hw dX1_changesSums_46 ?_
      refine lv_iload hx hb dX1_changesSums_49 (lv_at hl 3 rfl) ?_
      refine lv_iconst (v := (1 : Int32)) hx hb dX1_changesSums_51 (by decide) ?_
      refine lv_iadd hx hb dX1_changesSums_52 ?_
      refine lv_aload_n hx hb dX1_changesSums_53 rfl (lv_at hl 0 rfl) ?_
      refine gX1_25 E hw dX1_changesSums_54 ?_
      refine lv_aload_n hx hb dX1_changesSums_57 rfl (lv_at hl 0 rfl) ?_
      refine lv_aload_n hx hb dX1_changesSums_58 rfl (lv_at hl 0 rfl) ?_
      refine gX1_24 E hw dX1_changesSums_59 ?_
      refine lv_iload hx hb dX1_changesSums_62 (lv_at hl 3 rfl) ?_
      refine lv_iconst (v := (1 : Int32)) hx hb dX1_changesSums_64 (by decide) ?_
      refine lv_iadd hx hb dX1_changesSums_65 ?_
      refine lv_aload_n hx hb dX1_changesSums_66 rfl (lv_at hl 0 rfl) ?_
      refine gX1_25 E hw dX1_changesSums_67 ?_
      replace hJ_40 := fx_b1_e hJ_40
      obtain ⟨r_5, h_6, hJ_40⟩ := hJ_40
      refine cx_cVi (r := r_5) (ws := sC g Rs (some (Rn 100)) im S ++ (stC g Rn N_3 ++ X)) (ws' := sC g Rs (some (Rn 100)) im S ++ (stC g Rn N_3 ++ X)) (As := [.int (gx_I S 24), .int (r_1 + (1 : Int32)), .int (gx_I S 25)]) (rest := [.int (gx_I S 25), .int (r_1 + (1 : Int32)), .int (gx_I S 24), .ref (Rs 100)]) E (mX1_get_s l g A Rs Rn _ _ S N_3 (gx_I S 24) (r_1 + (1 : Int32)) (gx_I S 25) h_6) (kwX1_X1_get E ⟨Nat.le_of_ble_eq_true rfl, Nat.le_of_ble_eq_true rfl⟩) 0 1 rfl rfl rfl hw rfl hl.1 rfl (Nat.le_of_ble_eq_true rfl) dX1_changesSums_70 ⟨Nat.le_of_ble_eq_true rfl, Nat.le_of_ble_eq_true rfl⟩ (fun H locs hw => ?_)
      refine lv_aload_n hx hb dX1_changesSums_73 rfl (lv_at hl 0 rfl) ?_
      refine gX1_18 E hw dX1_changesSums_74 ?_
      refine lv_iload_n hx hb dX1_changesSums_77 rfl (lv_at hl 1 rfl) ?_
      refine lv_aload_n hx hb dX1_changesSums_78 rfl (lv_at hl 0 rfl) ?_
      refine gX1_18 E hw dX1_changesSums_79 ?_
      refine lv_aload_n hx hb dX1_changesSums_82 rfl (lv_at hl 0 rfl) ?_
      refine gX1_26 E hw dX1_changesSums_83 ?_
      replace hJ_40 := fx_b1_e hJ_40
      obtain ⟨r_7, h_8, hJ_40⟩ := hJ_40
      refine cx_cVi (r := r_7) (ws := sC g Rs (some (Rn 100)) im S ++ (stC g Rn N_3 ++ X)) (ws' := sC g Rs (some (Rn 100)) im S ++ (stC g Rn N_3 ++ X)) (As := [.int (gx_I S 26)]) (rest := [.int p1, .ref (Rs 18), .int r_5, .int (gx_I S 25), .int (r_1 + (1 : Int32)), .int (gx_I S 24), .ref (Rs 100)]) E (mX3_power l g A Rs _ _ _ S (gx_I S 26) h_8) (kwX1_X3_power E ⟨Nat.le_of_ble_eq_true rfl, Nat.le_of_ble_eq_true rfl⟩) 16 3 rfl rfl rfl hw rfl hl.1 rfl (Nat.le_of_ble_eq_true rfl) dX1_changesSums_86 ⟨Nat.le_of_ble_eq_true rfl, Nat.le_of_ble_eq_true rfl⟩ (fun H locs hw => ?_)
      replace hJ_40 := fx_b1_e hJ_40
      obtain ⟨r_9, h_10, hJ_40⟩ := hJ_40
      refine cx_cVi (r := r_9) (ws := sC g Rs (some (Rn 100)) im S ++ (stC g Rn N_3 ++ X)) (ws' := sC g Rs (some (Rn 100)) im S ++ (stC g Rn N_3 ++ X)) (As := [.int p1, .int r_7]) (rest := [.int r_5, .int (gx_I S 25), .int (r_1 + (1 : Int32)), .int (gx_I S 24), .ref (Rs 100)]) E (mX3_times l g A Rs _ _ _ S p1 r_7 h_10) (kwX1_X3_times E ⟨Nat.le_of_ble_eq_true rfl, Nat.le_of_ble_eq_true rfl⟩) 16 3 rfl rfl rfl hw rfl hl.1 rfl (Nat.le_of_ble_eq_true rfl) dX1_changesSums_89 ⟨Nat.le_of_ble_eq_true rfl, Nat.le_of_ble_eq_true rfl⟩ (fun H locs hw => ?_)
      refine lv_ixor hx hb dX1_changesSums_92 ?_
      replace hJ_40 := fx_b1_e hJ_40
      obtain ⟨N_11, h_12, hJ_40⟩ := hJ_40
      refine cx_cVv (ws := sC g Rs (some (Rn 100)) im S ++ (stC g Rn N_3 ++ X)) (ws' := sC g Rs (some (Rn 100)) im S ++ (stC g Rn N_11 ++ X)) (As := [.int (gx_I S 24), .int (r_1 + (1 : Int32)), .int (gx_I S 25), .int (r_5 ^^^ r_9)]) (rest := []) E (mX1_put_s l g A Rs Rn _ _ S N_3 (gx_I S 24) (r_1 + (1 : Int32)) (gx_I S 25) (r_5 ^^^ r_9) h_12) (kwX1_X1_put E ⟨Nat.le_of_ble_eq_true rfl, Nat.le_of_ble_eq_true rfl⟩) 0 1 rfl rfl rfl hw rfl hl.1 rfl (Nat.le_of_ble_eq_true rfl) dX1_changesSums_93 ⟨Nat.le_of_ble_eq_true rfl, Nat.le_of_ble_eq_true rfl⟩ (fun H locs hw => ?_)
      obtain rfl := Option.some.inj hJ_40
      exact hret _ _ _ _ hw dX1_changesSums_96
  refine lv_if_eq (tgt := 40) hx hb dX1_changesSums_7 (by decide) (fun c_13 => ?_) (fun c_13 => ?_)
  · replace hF := fx_tt c_13 hF
    exact jn_40 N hF _ _ _ hw (lv_sub hl [1, 2, 4, 0] rfl)
  · replace hF := fx_ff c_13 hF
    refine lv_aload_n hx hb dX1_changesSums_10 rfl (lv_at hl 1 rfl) ?_
    refine lv_aload_n hx hb dX1_changesSums_11 rfl (lv_at hl 1 rfl) ?_
    refine gX1_24 E hw dX1_changesSums_12 ?_
    refine lv_iload hx hb dX1_changesSums_15 (lv_at hl 0 rfl) ?_
    refine lv_aload_n hx hb dX1_changesSums_17 rfl (lv_at hl 1 rfl) ?_
    refine gX1_25 E hw dX1_changesSums_18 ?_
    refine lv_aload_n hx hb dX1_changesSums_21 rfl (lv_at hl 1 rfl) ?_
    refine lv_aload_n hx hb dX1_changesSums_22 rfl (lv_at hl 1 rfl) ?_
    refine gX1_24 E hw dX1_changesSums_23 ?_
    refine lv_iload hx hb dX1_changesSums_26 (lv_at hl 0 rfl) ?_
    refine lv_aload_n hx hb dX1_changesSums_28 rfl (lv_at hl 1 rfl) ?_
    refine gX1_25 E hw dX1_changesSums_29 ?_
    replace hF := fx_b1_e hF
    obtain ⟨r_14, h_15, hF⟩ := hF
    refine cx_cVi (r := r_14) (ws := sC g Rs (some (Rn 100)) im S ++ (stC g Rn N ++ X)) (ws' := sC g Rs (some (Rn 100)) im S ++ (stC g Rn N ++ X)) (As := [.int (gx_I S 24), .int r_1, .int (gx_I S 25)]) (rest := [.int (gx_I S 25), .int r_1, .int (gx_I S 24), .ref (Rs 100)]) E (mX1_get_s l g A Rs Rn _ _ S N (gx_I S 24) r_1 (gx_I S 25) h_15) (kwX1_X1_get E ⟨Nat.le_of_ble_eq_true rfl, Nat.le_of_ble_eq_true rfl⟩) 0 1 rfl rfl rfl hw rfl hl.1 rfl (Nat.le_of_ble_eq_true rfl) dX1_changesSums_32 ⟨Nat.le_of_ble_eq_true rfl, Nat.le_of_ble_eq_true rfl⟩ (fun H locs hw => ?_)
    refine lv_iload_n hx hb dX1_changesSums_35 rfl (lv_at hl 2 rfl) ?_
    refine lv_ixor hx hb dX1_changesSums_36 ?_
    replace hF := fx_b1_e hF
    obtain ⟨N_16, h_17, hF⟩ := hF
    refine cx_cVv (ws := sC g Rs (some (Rn 100)) im S ++ (stC g Rn N ++ X)) (ws' := sC g Rs (some (Rn 100)) im S ++ (stC g Rn N_16 ++ X)) (As := [.int (gx_I S 24), .int r_1, .int (gx_I S 25), .int (r_14 ^^^ p1)]) (rest := []) E (mX1_put_s l g A Rs Rn _ _ S N (gx_I S 24) r_1 (gx_I S 25) (r_14 ^^^ p1) h_17) (kwX1_X1_put E ⟨Nat.le_of_ble_eq_true rfl, Nat.le_of_ble_eq_true rfl⟩) 0 1 rfl rfl rfl hw rfl hl.1 rfl (Nat.le_of_ble_eq_true rfl) dX1_changesSums_37 ⟨Nat.le_of_ble_eq_true rfl, Nat.le_of_ble_eq_true rfl⟩ (fun H locs hw => ?_)
    exact jn_40 N_16 hF _ _ _ hw (lv_sub hl [1, 2, 4, 0] rfl)
/-! changesSums(IZZ)V -/
def JX1_changesSums_n_40 (p3 : Int32) (S : Sx) (r_1 : Int32) (p1 : Int32) : Option Unit :=
  if p3 = 0 then (some ()) else (fx_b1 (FX1_get_n S (gx_I S 24) (r_1 + (1 : Int32)) (gx_I S 25)) (fun r_4 => fx_b1 (FX3_power S (gx_I S 26)) (fun r_6 => fx_b1 (FX3_times S p1 r_6) (fun r_8 => fx_b1 (FX1_put_n S (gx_I S 24) (r_1 + (1 : Int32)) (gx_I S 25) (r_4 ^^^ r_8)) (fun _ => some ())))))
def FX1_changesSums_n (S : Sx) (p1 : Int32) (p2 : Int32) (p3 : Int32) : Option Unit :=
  fx_b1 (FX1_data S) (fun r_1 => if p2 = 0 then (JX1_changesSums_n_40 p3 S r_1 p1) else (fx_b1 (FX1_get_n S (gx_I S 24) r_1 (gx_I S 25)) (fun r_12 => fx_b1 (FX1_put_n S (gx_I S 24) r_1 (gx_I S 25) (r_12 ^^^ p1)) (fun _ => JX1_changesSums_n_40 p3 S r_1 p1))))
set_option maxHeartbeats 4000000 in
set_option maxRecDepth 100000 in
theorem mX1_changesSums_n (l : Launch) (g : Gx) (A : Nat → Prop) (Rs : Nat → Nat) (im : Option Nat) (X : va_W) (S : Sx) (p1 : Int32) (p2 : Int32) (p3 : Int32) {o : Unit} (hF : FX1_changesSums_n S p1 p2 p3 = some o) :
    cx_v l yX1_changesSums cX1_changesSums 5 rmX1_changesSums [.ref (Rs 100), .int p1, .int p2, .int p3] g A (sC g Rs none im S ++ X) (sC g Rs none im S ++ X) 0 0 := by
  refine cx_v_of (by decide) (Nat.le_of_ble_eq_true rfl) ?_
  intro p e s m av below meth c Q E hret H hw ls hl
  have E : cx_E p m meth c cX1_changesSums 5 s av RX1 g A := E
  have hx := E.1.1
  have hb := E.1.2.1
  have hl : lv_has ls 5 [(0, .ref (Rs 100)), (1, .int p1), (2, .int p2), (3, .int p3)] := hl
  generalize hlc : ([] : List Loc) = locs at hw ⊢
  clear hlc
  unfold FX1_changesSums_n at hF
  refine lv_aload_n hx hb dX1_changesSums_0 rfl (lv_at hl 0 rfl) ?_
  replace hF := fx_b1_e hF
  obtain ⟨r_1, h_2, hF⟩ := hF
  refine cx_cVi (r := r_1) (ws := sC g Rs none im S ++ X) (ws' := sC g Rs none im S ++ X) (As := []) (rest := []) E (mX1_data l g A Rs _ _ _ S h_2) (kwX1_X1_data E ⟨Nat.le_of_ble_eq_true rfl, Nat.le_of_ble_eq_true rfl⟩) 0 1 rfl rfl rfl hw rfl hl.1 rfl (Nat.le_of_ble_eq_true rfl) dX1_changesSums_1 ⟨Nat.le_of_ble_eq_true rfl, Nat.le_of_ble_eq_true rfl⟩ (fun H locs hw => ?_)
  refine lv_istore hx hb dX1_changesSums_4 hl (by decide) rfl (fun ls hl => ?_)
  have hl : lv_has ls 5 [(4, .int r_1), (0, .ref (Rs 100)), (1, .int p1), (2, .int p2), (3, .int p3)] := hl
  refine lv_iload_n hx hb dX1_changesSums_6 rfl (lv_at hl 3 rfl) ?_
  have jn_40 : JX1_changesSums_n_40 p3 S r_1 p1 = some o → ∀ (H : Heap) (locs : List Loc) (ls : Array Slot), cx_W g A s (sC g Rs none im S ++ X) H locs → lv_has ls 5 [(0, .ref (Rs 100)), (1, .int p1), (3, .int p3), (4, .int r_1)] → W p l e rmX1_changesSums s m av below meth c H locs 0 0 Q (F0 m 40 ls []) := by
    intro  hJ_40 H locs ls hw hl
    unfold JX1_changesSums_n_40 at hJ_40
    refine lv_iload_n hx hb dX1_changesSums_40 rfl (lv_at hl 2 rfl) ?_
    refine lv_if_eq (tgt := 96) hx hb dX1_changesSums_41 (by decide) (fun c_3 => ?_) (fun c_3 => ?_)
    · replace hJ_40 := fx_tt c_3 hJ_40
      obtain rfl := Option.some.inj hJ_40
      exact hret _ _ _ _ hw dX1_changesSums_96
    · replace hJ_40 := fx_ff c_3 hJ_40
      refine lv_aload_n hx hb dX1_changesSums_44 rfl (lv_at hl 0 rfl) ?_
      refine lv_aload_n hx hb dX1_changesSums_45 rfl (lv_at hl 0 rfl) ?_
      refine gX1_24 E hw dX1_changesSums_46 ?_
      refine lv_iload hx hb dX1_changesSums_49 (lv_at hl 3 rfl) ?_
      refine lv_iconst (v := (1 : Int32)) hx hb dX1_changesSums_51 (by decide) ?_
      refine lv_iadd hx hb dX1_changesSums_52 ?_
      refine lv_aload_n hx hb dX1_changesSums_53 rfl (lv_at hl 0 rfl) ?_
      refine gX1_25 E hw dX1_changesSums_54 ?_
      refine lv_aload_n hx hb dX1_changesSums_57 rfl (lv_at hl 0 rfl) ?_
      refine lv_aload_n hx hb dX1_changesSums_58 rfl (lv_at hl 0 rfl) ?_
      refine gX1_24 E hw dX1_changesSums_59 ?_
      refine lv_iload hx hb dX1_changesSums_62 (lv_at hl 3 rfl) ?_
      refine lv_iconst (v := (1 : Int32)) hx hb dX1_changesSums_64 (by decide) ?_
      refine lv_iadd hx hb dX1_changesSums_65 ?_
      refine lv_aload_n hx hb dX1_changesSums_66 rfl (lv_at hl 0 rfl) ?_
      refine gX1_25 E hw dX1_changesSums_67 ?_
      replace hJ_40 := fx_b1_e hJ_40
      obtain ⟨r_4, h_5, hJ_40⟩ := hJ_40
      refine cx_cVi (r := r_4) (ws := sC g Rs none im S ++ X) (ws' := sC g Rs none im S ++ X) (As := [.int (gx_I S 24), .int (r_1 + (1 : Int32)), .int (gx_I S 25)]) (rest := [.int (gx_I S 25), .int (r_1 + (1 : Int32)), .int (gx_I S 24), .ref (Rs 100)]) E (mX1_get_n l g A Rs _ _ S (gx_I S 24) (r_1 + (1 : Int32)) (gx_I S 25) h_5) (kwX1_X1_get E ⟨Nat.le_of_ble_eq_true rfl, Nat.le_of_ble_eq_true rfl⟩) 0 1 rfl rfl rfl hw rfl hl.1 rfl (Nat.le_of_ble_eq_true rfl) dX1_changesSums_70 ⟨Nat.le_of_ble_eq_true rfl, Nat.le_of_ble_eq_true rfl⟩ (fun H locs hw => ?_)
      refine lv_aload_n hx hb dX1_changesSums_73 rfl (lv_at hl 0 rfl) ?_
      refine gX1_18 E hw dX1_changesSums_74 ?_
      refine lv_iload_n hx hb dX1_changesSums_77 rfl (lv_at hl 1 rfl) ?_
      refine lv_aload_n hx hb dX1_changesSums_78 rfl (lv_at hl 0 rfl) ?_
      refine gX1_18 E hw dX1_changesSums_79 ?_
      refine lv_aload_n hx hb dX1_changesSums_82 rfl (lv_at hl 0 rfl) ?_
      refine gX1_26 E hw dX1_changesSums_83 ?_
      replace hJ_40 := fx_b1_e hJ_40
      obtain ⟨r_6, h_7, hJ_40⟩ := hJ_40
      refine cx_cVi (r := r_6) (ws := sC g Rs none im S ++ X) (ws' := sC g Rs none im S ++ X) (As := [.int (gx_I S 26)]) (rest := [.int p1, .ref (Rs 18), .int r_4, .int (gx_I S 25), .int (r_1 + (1 : Int32)), .int (gx_I S 24), .ref (Rs 100)]) E (mX3_power l g A Rs _ _ _ S (gx_I S 26) h_7) (kwX1_X3_power E ⟨Nat.le_of_ble_eq_true rfl, Nat.le_of_ble_eq_true rfl⟩) 16 3 rfl rfl rfl hw rfl hl.1 rfl (Nat.le_of_ble_eq_true rfl) dX1_changesSums_86 ⟨Nat.le_of_ble_eq_true rfl, Nat.le_of_ble_eq_true rfl⟩ (fun H locs hw => ?_)
      replace hJ_40 := fx_b1_e hJ_40
      obtain ⟨r_8, h_9, hJ_40⟩ := hJ_40
      refine cx_cVi (r := r_8) (ws := sC g Rs none im S ++ X) (ws' := sC g Rs none im S ++ X) (As := [.int p1, .int r_6]) (rest := [.int r_4, .int (gx_I S 25), .int (r_1 + (1 : Int32)), .int (gx_I S 24), .ref (Rs 100)]) E (mX3_times l g A Rs _ _ _ S p1 r_6 h_9) (kwX1_X3_times E ⟨Nat.le_of_ble_eq_true rfl, Nat.le_of_ble_eq_true rfl⟩) 16 3 rfl rfl rfl hw rfl hl.1 rfl (Nat.le_of_ble_eq_true rfl) dX1_changesSums_89 ⟨Nat.le_of_ble_eq_true rfl, Nat.le_of_ble_eq_true rfl⟩ (fun H locs hw => ?_)
      refine lv_ixor hx hb dX1_changesSums_92 ?_
      replace hJ_40 := fx_b1_e hJ_40
      obtain ⟨_, h_10, hJ_40⟩ := hJ_40
      refine cx_cVv (ws := sC g Rs none im S ++ X) (ws' := sC g Rs none im S ++ X) (As := [.int (gx_I S 24), .int (r_1 + (1 : Int32)), .int (gx_I S 25), .int (r_4 ^^^ r_8)]) (rest := []) E (mX1_put_n l g A Rs _ _ S (gx_I S 24) (r_1 + (1 : Int32)) (gx_I S 25) (r_4 ^^^ r_8) h_10) (kwX1_X1_put E ⟨Nat.le_of_ble_eq_true rfl, Nat.le_of_ble_eq_true rfl⟩) 0 1 rfl rfl rfl hw rfl hl.1 rfl (Nat.le_of_ble_eq_true rfl) dX1_changesSums_93 ⟨Nat.le_of_ble_eq_true rfl, Nat.le_of_ble_eq_true rfl⟩ (fun H locs hw => ?_)
      obtain rfl := Option.some.inj hJ_40
      exact hret _ _ _ _ hw dX1_changesSums_96
  refine lv_if_eq (tgt := 40) hx hb dX1_changesSums_7 (by decide) (fun c_11 => ?_) (fun c_11 => ?_)
  · replace hF := fx_tt c_11 hF
    exact jn_40  hF _ _ _ hw (lv_sub hl [1, 2, 4, 0] rfl)
  · replace hF := fx_ff c_11 hF
    refine lv_aload_n hx hb dX1_changesSums_10 rfl (lv_at hl 1 rfl) ?_
    refine lv_aload_n hx hb dX1_changesSums_11 rfl (lv_at hl 1 rfl) ?_
    refine gX1_24 E hw dX1_changesSums_12 ?_
    refine lv_iload hx hb dX1_changesSums_15 (lv_at hl 0 rfl) ?_
    refine lv_aload_n hx hb dX1_changesSums_17 rfl (lv_at hl 1 rfl) ?_
    refine gX1_25 E hw dX1_changesSums_18 ?_
    refine lv_aload_n hx hb dX1_changesSums_21 rfl (lv_at hl 1 rfl) ?_
    refine lv_aload_n hx hb dX1_changesSums_22 rfl (lv_at hl 1 rfl) ?_
    refine gX1_24 E hw dX1_changesSums_23 ?_
    refine lv_iload hx hb dX1_changesSums_26 (lv_at hl 0 rfl) ?_
    refine lv_aload_n hx hb dX1_changesSums_28 rfl (lv_at hl 1 rfl) ?_
    refine gX1_25 E hw dX1_changesSums_29 ?_
    replace hF := fx_b1_e hF
    obtain ⟨r_12, h_13, hF⟩ := hF
    refine cx_cVi (r := r_12) (ws := sC g Rs none im S ++ X) (ws' := sC g Rs none im S ++ X) (As := [.int (gx_I S 24), .int r_1, .int (gx_I S 25)]) (rest := [.int (gx_I S 25), .int r_1, .int (gx_I S 24), .ref (Rs 100)]) E (mX1_get_n l g A Rs _ _ S (gx_I S 24) r_1 (gx_I S 25) h_13) (kwX1_X1_get E ⟨Nat.le_of_ble_eq_true rfl, Nat.le_of_ble_eq_true rfl⟩) 0 1 rfl rfl rfl hw rfl hl.1 rfl (Nat.le_of_ble_eq_true rfl) dX1_changesSums_32 ⟨Nat.le_of_ble_eq_true rfl, Nat.le_of_ble_eq_true rfl⟩ (fun H locs hw => ?_)
    refine lv_iload_n hx hb dX1_changesSums_35 rfl (lv_at hl 2 rfl) ?_
    refine lv_ixor hx hb dX1_changesSums_36 ?_
    replace hF := fx_b1_e hF
    obtain ⟨_, h_14, hF⟩ := hF
    refine cx_cVv (ws := sC g Rs none im S ++ X) (ws' := sC g Rs none im S ++ X) (As := [.int (gx_I S 24), .int r_1, .int (gx_I S 25), .int (r_12 ^^^ p1)]) (rest := []) E (mX1_put_n l g A Rs _ _ S (gx_I S 24) r_1 (gx_I S 25) (r_12 ^^^ p1) h_14) (kwX1_X1_put E ⟨Nat.le_of_ble_eq_true rfl, Nat.le_of_ble_eq_true rfl⟩) 0 1 rfl rfl rfl hw rfl hl.1 rfl (Nat.le_of_ble_eq_true rfl) dX1_changesSums_37 ⟨Nat.le_of_ble_eq_true rfl, Nat.le_of_ble_eq_true rfl⟩ (fun H locs hw => ?_)
    exact jn_40  hF _ _ _ hw (lv_sub hl [1, 2, 4, 0] rfl)
/-! changesBy(I)V -/
def FX1_changesBy_s (S : Sx) (N : Sx) (p1 : Int32) : Option Sx :=
  fx_b1 (FX1_get_s S N (gx_I S 24) (gx_I S 26) (gx_I S 25)) (fun r_1 => fx_b1 (FX1_put_s S N (gx_I S 24) (gx_I S 26) (gx_I S 25) (r_1 ^^^ p1)) (fun N_3 => fx_b1 (FX1_data S) (fun r_5 => fx_b1 (FX1_isThere_s S N_3 (gx_I S 24) r_5) (fun r_7 => fx_b1 (FX1_data S) (fun r_9 => fx_b1 (FX1_isThere_s S N_3 (gx_I S 24) (r_9 + (1 : Int32))) (fun r_11 => fx_b1 (FX1_changesSums_s S N_3 p1 r_7 r_11) (fun N_13 => some N_13)))))))
set_option maxHeartbeats 4000000 in
set_option maxRecDepth 100000 in
theorem mX1_changesBy_s (l : Launch) (g : Gx) (A : Nat → Prop) (Rs Rn : Nat → Nat) (im : Option Nat) (X : va_W) (S : Sx) (N : Sx) (p1 : Int32) {o : Sx} (hF : FX1_changesBy_s S N p1 = some o) :
    cx_v l yX1_changesBy cX1_changesBy 2 rmX1_changesBy [.ref (Rs 100), .int p1] g A (sC g Rs (some (Rn 100)) im S ++ (stC g Rn N ++ X)) (sC g Rs (some (Rn 100)) im S ++ (stC g Rn o ++ X)) 0 0 := by
  refine cx_v_of (by decide) (Nat.le_of_ble_eq_true rfl) ?_
  intro p e s m av below meth c Q E hret H hw ls hl
  have E : cx_E p m meth c cX1_changesBy 2 s av RX1 g A := E
  have hx := E.1.1
  have hb := E.1.2.1
  have hl : lv_has ls 2 [(0, .ref (Rs 100)), (1, .int p1)] := hl
  generalize hlc : ([] : List Loc) = locs at hw ⊢
  clear hlc
  unfold FX1_changesBy_s at hF
  refine lv_aload_n hx hb dX1_changesBy_0 rfl (lv_at hl 0 rfl) ?_
  refine lv_aload_n hx hb dX1_changesBy_1 rfl (lv_at hl 0 rfl) ?_
  refine gX1_24 E hw dX1_changesBy_2 ?_
  refine lv_aload_n hx hb dX1_changesBy_5 rfl (lv_at hl 0 rfl) ?_
  refine gX1_26 E hw dX1_changesBy_6 ?_
  refine lv_aload_n hx hb dX1_changesBy_9 rfl (lv_at hl 0 rfl) ?_
  refine gX1_25 E hw dX1_changesBy_10 ?_
  refine lv_aload_n hx hb dX1_changesBy_13 rfl (lv_at hl 0 rfl) ?_
  refine lv_aload_n hx hb dX1_changesBy_14 rfl (lv_at hl 0 rfl) ?_
  refine gX1_24 E hw dX1_changesBy_15 ?_
  refine lv_aload_n hx hb dX1_changesBy_18 rfl (lv_at hl 0 rfl) ?_
  refine gX1_26 E hw dX1_changesBy_19 ?_
  refine lv_aload_n hx hb dX1_changesBy_22 rfl (lv_at hl 0 rfl) ?_
  refine gX1_25 E hw dX1_changesBy_23 ?_
  replace hF := fx_b1_e hF
  obtain ⟨r_1, h_2, hF⟩ := hF
  refine cx_cVi (r := r_1) (ws := sC g Rs (some (Rn 100)) im S ++ (stC g Rn N ++ X)) (ws' := sC g Rs (some (Rn 100)) im S ++ (stC g Rn N ++ X)) (As := [.int (gx_I S 24), .int (gx_I S 26), .int (gx_I S 25)]) (rest := [.int (gx_I S 25), .int (gx_I S 26), .int (gx_I S 24), .ref (Rs 100)]) E (mX1_get_s l g A Rs Rn _ _ S N (gx_I S 24) (gx_I S 26) (gx_I S 25) h_2) (kwX1_X1_get E ⟨Nat.le_of_ble_eq_true rfl, Nat.le_of_ble_eq_true rfl⟩) 0 1 rfl rfl rfl hw rfl hl.1 rfl (Nat.le_of_ble_eq_true rfl) dX1_changesBy_26 ⟨Nat.le_of_ble_eq_true rfl, Nat.le_of_ble_eq_true rfl⟩ (fun H locs hw => ?_)
  refine lv_iload_n hx hb dX1_changesBy_29 rfl (lv_at hl 1 rfl) ?_
  refine lv_ixor hx hb dX1_changesBy_30 ?_
  replace hF := fx_b1_e hF
  obtain ⟨N_3, h_4, hF⟩ := hF
  refine cx_cVv (ws := sC g Rs (some (Rn 100)) im S ++ (stC g Rn N ++ X)) (ws' := sC g Rs (some (Rn 100)) im S ++ (stC g Rn N_3 ++ X)) (As := [.int (gx_I S 24), .int (gx_I S 26), .int (gx_I S 25), .int (r_1 ^^^ p1)]) (rest := []) E (mX1_put_s l g A Rs Rn _ _ S N (gx_I S 24) (gx_I S 26) (gx_I S 25) (r_1 ^^^ p1) h_4) (kwX1_X1_put E ⟨Nat.le_of_ble_eq_true rfl, Nat.le_of_ble_eq_true rfl⟩) 0 1 rfl rfl rfl hw rfl hl.1 rfl (Nat.le_of_ble_eq_true rfl) dX1_changesBy_31 ⟨Nat.le_of_ble_eq_true rfl, Nat.le_of_ble_eq_true rfl⟩ (fun H locs hw => ?_)
  refine lv_aload_n hx hb dX1_changesBy_34 rfl (lv_at hl 0 rfl) ?_
  refine lv_iload_n hx hb dX1_changesBy_35 rfl (lv_at hl 1 rfl) ?_
  refine lv_aload_n hx hb dX1_changesBy_36 rfl (lv_at hl 0 rfl) ?_
  refine lv_aload_n hx hb dX1_changesBy_37 rfl (lv_at hl 0 rfl) ?_
  refine gX1_24 E hw dX1_changesBy_38 ?_
  refine lv_aload_n hx hb dX1_changesBy_41 rfl (lv_at hl 0 rfl) ?_
  replace hF := fx_b1_e hF
  obtain ⟨r_5, h_6, hF⟩ := hF
  refine cx_cVi (r := r_5) (ws := sC g Rs (some (Rn 100)) im S ++ (stC g Rn N_3 ++ X)) (ws' := sC g Rs (some (Rn 100)) im S ++ (stC g Rn N_3 ++ X)) (As := []) (rest := [.int (gx_I S 24), .ref (Rs 100), .int p1, .ref (Rs 100)]) E (mX1_data l g A Rs _ _ _ S h_6) (kwX1_X1_data E ⟨Nat.le_of_ble_eq_true rfl, Nat.le_of_ble_eq_true rfl⟩) 0 1 rfl rfl rfl hw rfl hl.1 rfl (Nat.le_of_ble_eq_true rfl) dX1_changesBy_42 ⟨Nat.le_of_ble_eq_true rfl, Nat.le_of_ble_eq_true rfl⟩ (fun H locs hw => ?_)
  replace hF := fx_b1_e hF
  obtain ⟨r_7, h_8, hF⟩ := hF
  refine cx_cVi (r := r_7) (ws := sC g Rs (some (Rn 100)) im S ++ (stC g Rn N_3 ++ X)) (ws' := sC g Rs (some (Rn 100)) im S ++ (stC g Rn N_3 ++ X)) (As := [.int (gx_I S 24), .int r_5]) (rest := [.int p1, .ref (Rs 100)]) E (mX1_isThere_s l g A Rs Rn _ _ S N_3 (gx_I S 24) r_5 h_8) (kwX1_X1_isThere E ⟨Nat.le_of_ble_eq_true rfl, Nat.le_of_ble_eq_true rfl⟩) 0 1 rfl rfl rfl hw rfl hl.1 rfl (Nat.le_of_ble_eq_true rfl) dX1_changesBy_45 ⟨Nat.le_of_ble_eq_true rfl, Nat.le_of_ble_eq_true rfl⟩ (fun H locs hw => ?_)
  refine lv_aload_n hx hb dX1_changesBy_48 rfl (lv_at hl 0 rfl) ?_
  refine lv_aload_n hx hb dX1_changesBy_49 rfl (lv_at hl 0 rfl) ?_
  refine gX1_24 E hw dX1_changesBy_50 ?_
  refine lv_aload_n hx hb dX1_changesBy_53 rfl (lv_at hl 0 rfl) ?_
  replace hF := fx_b1_e hF
  obtain ⟨r_9, h_10, hF⟩ := hF
  refine cx_cVi (r := r_9) (ws := sC g Rs (some (Rn 100)) im S ++ (stC g Rn N_3 ++ X)) (ws' := sC g Rs (some (Rn 100)) im S ++ (stC g Rn N_3 ++ X)) (As := []) (rest := [.int (gx_I S 24), .ref (Rs 100), .int r_7, .int p1, .ref (Rs 100)]) E (mX1_data l g A Rs _ _ _ S h_10) (kwX1_X1_data E ⟨Nat.le_of_ble_eq_true rfl, Nat.le_of_ble_eq_true rfl⟩) 0 1 rfl rfl rfl hw rfl hl.1 rfl (Nat.le_of_ble_eq_true rfl) dX1_changesBy_54 ⟨Nat.le_of_ble_eq_true rfl, Nat.le_of_ble_eq_true rfl⟩ (fun H locs hw => ?_)
  refine lv_iconst (v := (1 : Int32)) hx hb dX1_changesBy_57 (by decide) ?_
  refine lv_iadd hx hb dX1_changesBy_58 ?_
  replace hF := fx_b1_e hF
  obtain ⟨r_11, h_12, hF⟩ := hF
  refine cx_cVi (r := r_11) (ws := sC g Rs (some (Rn 100)) im S ++ (stC g Rn N_3 ++ X)) (ws' := sC g Rs (some (Rn 100)) im S ++ (stC g Rn N_3 ++ X)) (As := [.int (gx_I S 24), .int (r_9 + (1 : Int32))]) (rest := [.int r_7, .int p1, .ref (Rs 100)]) E (mX1_isThere_s l g A Rs Rn _ _ S N_3 (gx_I S 24) (r_9 + (1 : Int32)) h_12) (kwX1_X1_isThere E ⟨Nat.le_of_ble_eq_true rfl, Nat.le_of_ble_eq_true rfl⟩) 0 1 rfl rfl rfl hw rfl hl.1 rfl (Nat.le_of_ble_eq_true rfl) dX1_changesBy_59 ⟨Nat.le_of_ble_eq_true rfl, Nat.le_of_ble_eq_true rfl⟩ (fun H locs hw => ?_)
  replace hF := fx_b1_e hF
  obtain ⟨N_13, h_14, hF⟩ := hF
  refine cx_cVv (ws := sC g Rs (some (Rn 100)) im S ++ (stC g Rn N_3 ++ X)) (ws' := sC g Rs (some (Rn 100)) im S ++ (stC g Rn N_13 ++ X)) (As := [.int p1, .int r_7, .int r_11]) (rest := []) E (mX1_changesSums_s l g A Rs Rn _ _ S N_3 p1 r_7 r_11 h_14) (kwX1_X1_changesSums E ⟨Nat.le_of_ble_eq_true rfl, Nat.le_of_ble_eq_true rfl⟩) 0 1 rfl rfl rfl hw rfl hl.1 rfl (Nat.le_of_ble_eq_true rfl) dX1_changesBy_62 ⟨Nat.le_of_ble_eq_true rfl, Nat.le_of_ble_eq_true rfl⟩ (fun H locs hw => ?_)
  obtain rfl := Option.some.inj hF
  exact hret _ _ _ _ hw dX1_changesBy_65
/-! changesBy(I)V -/
def FX1_changesBy_n (S : Sx) (p1 : Int32) : Option Unit :=
  fx_b1 (FX1_get_n S (gx_I S 24) (gx_I S 26) (gx_I S 25)) (fun r_1 => fx_b1 (FX1_put_n S (gx_I S 24) (gx_I S 26) (gx_I S 25) (r_1 ^^^ p1)) (fun _ => fx_b1 (FX1_data S) (fun r_4 => fx_b1 (FX1_isThere_n S (gx_I S 24) r_4) (fun r_6 => fx_b1 (FX1_data S) (fun r_8 => fx_b1 (FX1_isThere_n S (gx_I S 24) (r_8 + (1 : Int32))) (fun r_10 => fx_b1 (FX1_changesSums_n S p1 r_6 r_10) (fun _ => some ())))))))
set_option maxHeartbeats 4000000 in
set_option maxRecDepth 100000 in
theorem mX1_changesBy_n (l : Launch) (g : Gx) (A : Nat → Prop) (Rs : Nat → Nat) (im : Option Nat) (X : va_W) (S : Sx) (p1 : Int32) {o : Unit} (hF : FX1_changesBy_n S p1 = some o) :
    cx_v l yX1_changesBy cX1_changesBy 2 rmX1_changesBy [.ref (Rs 100), .int p1] g A (sC g Rs none im S ++ X) (sC g Rs none im S ++ X) 0 0 := by
  refine cx_v_of (by decide) (Nat.le_of_ble_eq_true rfl) ?_
  intro p e s m av below meth c Q E hret H hw ls hl
  have E : cx_E p m meth c cX1_changesBy 2 s av RX1 g A := E
  have hx := E.1.1
  have hb := E.1.2.1
  have hl : lv_has ls 2 [(0, .ref (Rs 100)), (1, .int p1)] := hl
  generalize hlc : ([] : List Loc) = locs at hw ⊢
  clear hlc
  unfold FX1_changesBy_n at hF
  refine lv_aload_n hx hb dX1_changesBy_0 rfl (lv_at hl 0 rfl) ?_
  refine lv_aload_n hx hb dX1_changesBy_1 rfl (lv_at hl 0 rfl) ?_
  refine gX1_24 E hw dX1_changesBy_2 ?_
  refine lv_aload_n hx hb dX1_changesBy_5 rfl (lv_at hl 0 rfl) ?_
  refine gX1_26 E hw dX1_changesBy_6 ?_
  refine lv_aload_n hx hb dX1_changesBy_9 rfl (lv_at hl 0 rfl) ?_
  refine gX1_25 E hw dX1_changesBy_10 ?_
  refine lv_aload_n hx hb dX1_changesBy_13 rfl (lv_at hl 0 rfl) ?_
  refine lv_aload_n hx hb dX1_changesBy_14 rfl (lv_at hl 0 rfl) ?_
  refine gX1_24 E hw dX1_changesBy_15 ?_
  refine lv_aload_n hx hb dX1_changesBy_18 rfl (lv_at hl 0 rfl) ?_
  refine gX1_26 E hw dX1_changesBy_19 ?_
  refine lv_aload_n hx hb dX1_changesBy_22 rfl (lv_at hl 0 rfl) ?_
  refine gX1_25 E hw dX1_changesBy_23 ?_
  replace hF := fx_b1_e hF
  obtain ⟨r_1, h_2, hF⟩ := hF
  refine cx_cVi (r := r_1) (ws := sC g Rs none im S ++ X) (ws' := sC g Rs none im S ++ X) (As := [.int (gx_I S 24), .int (gx_I S 26), .int (gx_I S 25)]) (rest := [.int (gx_I S 25), .int (gx_I S 26), .int (gx_I S 24), .ref (Rs 100)]) E (mX1_get_n l g A Rs _ _ S (gx_I S 24) (gx_I S 26) (gx_I S 25) h_2) (kwX1_X1_get E ⟨Nat.le_of_ble_eq_true rfl, Nat.le_of_ble_eq_true rfl⟩) 0 1 rfl rfl rfl hw rfl hl.1 rfl (Nat.le_of_ble_eq_true rfl) dX1_changesBy_26 ⟨Nat.le_of_ble_eq_true rfl, Nat.le_of_ble_eq_true rfl⟩ (fun H locs hw => ?_)
  refine lv_iload_n hx hb dX1_changesBy_29 rfl (lv_at hl 1 rfl) ?_
  refine lv_ixor hx hb dX1_changesBy_30 ?_
  replace hF := fx_b1_e hF
  obtain ⟨_, h_3, hF⟩ := hF
  refine cx_cVv (ws := sC g Rs none im S ++ X) (ws' := sC g Rs none im S ++ X) (As := [.int (gx_I S 24), .int (gx_I S 26), .int (gx_I S 25), .int (r_1 ^^^ p1)]) (rest := []) E (mX1_put_n l g A Rs _ _ S (gx_I S 24) (gx_I S 26) (gx_I S 25) (r_1 ^^^ p1) h_3) (kwX1_X1_put E ⟨Nat.le_of_ble_eq_true rfl, Nat.le_of_ble_eq_true rfl⟩) 0 1 rfl rfl rfl hw rfl hl.1 rfl (Nat.le_of_ble_eq_true rfl) dX1_changesBy_31 ⟨Nat.le_of_ble_eq_true rfl, Nat.le_of_ble_eq_true rfl⟩ (fun H locs hw => ?_)
  refine lv_aload_n hx hb dX1_changesBy_34 rfl (lv_at hl 0 rfl) ?_
  refine lv_iload_n hx hb dX1_changesBy_35 rfl (lv_at hl 1 rfl) ?_
  refine lv_aload_n hx hb dX1_changesBy_36 rfl (lv_at hl 0 rfl) ?_
  refine lv_aload_n hx hb dX1_changesBy_37 rfl (lv_at hl 0 rfl) ?_
  refine gX1_24 E hw dX1_changesBy_38 ?_
  refine lv_aload_n hx hb dX1_changesBy_41 rfl (lv_at hl 0 rfl) ?_
  replace hF := fx_b1_e hF
  obtain ⟨r_4, h_5, hF⟩ := hF
  refine cx_cVi (r := r_4) (ws := sC g Rs none im S ++ X) (ws' := sC g Rs none im S ++ X) (As := []) (rest := [.int (gx_I S 24), .ref (Rs 100), .int p1, .ref (Rs 100)]) E (mX1_data l g A Rs _ _ _ S h_5) (kwX1_X1_data E ⟨Nat.le_of_ble_eq_true rfl, Nat.le_of_ble_eq_true rfl⟩) 0 1 rfl rfl rfl hw rfl hl.1 rfl (Nat.le_of_ble_eq_true rfl) dX1_changesBy_42 ⟨Nat.le_of_ble_eq_true rfl, Nat.le_of_ble_eq_true rfl⟩ (fun H locs hw => ?_)
  replace hF := fx_b1_e hF
  obtain ⟨r_6, h_7, hF⟩ := hF
  refine cx_cVi (r := r_6) (ws := sC g Rs none im S ++ X) (ws' := sC g Rs none im S ++ X) (As := [.int (gx_I S 24), .int r_4]) (rest := [.int p1, .ref (Rs 100)]) E (mX1_isThere_n l g A Rs _ _ S (gx_I S 24) r_4 h_7) (kwX1_X1_isThere E ⟨Nat.le_of_ble_eq_true rfl, Nat.le_of_ble_eq_true rfl⟩) 0 1 rfl rfl rfl hw rfl hl.1 rfl (Nat.le_of_ble_eq_true rfl) dX1_changesBy_45 ⟨Nat.le_of_ble_eq_true rfl, Nat.le_of_ble_eq_true rfl⟩ (fun H locs hw => ?_)
  refine lv_aload_n hx hb dX1_changesBy_48 rfl (lv_at hl 0 rfl) ?_
  refine lv_aload_n hx hb dX1_changesBy_49 rfl (lv_at hl 0 rfl) ?_
  refine gX1_24 E hw dX1_changesBy_50 ?_
  refine lv_aload_n hx hb dX1_changesBy_53 rfl (lv_at hl 0 rfl) ?_
  replace hF := fx_b1_e hF
  obtain ⟨r_8, h_9, hF⟩ := hF
  refine cx_cVi (r := r_8) (ws := sC g Rs none im S ++ X) (ws' := sC g Rs none im S ++ X) (As := []) (rest := [.int (gx_I S 24), .ref (Rs 100), .int r_6, .int p1, .ref (Rs 100)]) E (mX1_data l g A Rs _ _ _ S h_9) (kwX1_X1_data E ⟨Nat.le_of_ble_eq_true rfl, Nat.le_of_ble_eq_true rfl⟩) 0 1 rfl rfl rfl hw rfl hl.1 rfl (Nat.le_of_ble_eq_true rfl) dX1_changesBy_54 ⟨Nat.le_of_ble_eq_true rfl, Nat.le_of_ble_eq_true rfl⟩ (fun H locs hw => ?_)
  refine lv_iconst (v := (1 : Int32)) hx hb dX1_changesBy_57 (by decide) ?_
  refine lv_iadd hx hb dX1_changesBy_58 ?_
  replace hF := fx_b1_e hF
  obtain ⟨r_10, h_11, hF⟩ := hF
  refine cx_cVi (r := r_10) (ws := sC g Rs none im S ++ X) (ws' := sC g Rs none im S ++ X) (As := [.int (gx_I S 24), .int (r_8 + (1 : Int32))]) (rest := [.int r_6, .int p1, .ref (Rs 100)]) E (mX1_isThere_n l g A Rs _ _ S (gx_I S 24) (r_8 + (1 : Int32)) h_11) (kwX1_X1_isThere E ⟨Nat.le_of_ble_eq_true rfl, Nat.le_of_ble_eq_true rfl⟩) 0 1 rfl rfl rfl hw rfl hl.1 rfl (Nat.le_of_ble_eq_true rfl) dX1_changesBy_59 ⟨Nat.le_of_ble_eq_true rfl, Nat.le_of_ble_eq_true rfl⟩ (fun H locs hw => ?_)
  replace hF := fx_b1_e hF
  obtain ⟨_, h_12, hF⟩ := hF
  refine cx_cVv (ws := sC g Rs none im S ++ X) (ws' := sC g Rs none im S ++ X) (As := [.int p1, .int r_6, .int r_10]) (rest := []) E (mX1_changesSums_n l g A Rs _ _ S p1 r_6 r_10 h_12) (kwX1_X1_changesSums E ⟨Nat.le_of_ble_eq_true rfl, Nat.le_of_ble_eq_true rfl⟩) 0 1 rfl rfl rfl hw rfl hl.1 rfl (Nat.le_of_ble_eq_true rfl) dX1_changesBy_62 ⟨Nat.le_of_ble_eq_true rfl, Nat.le_of_ble_eq_true rfl⟩ (fun H locs hw => ?_)
  obtain rfl := Option.some.inj hF
  exact hret _ _ _ _ hw dX1_changesBy_65
/-! takeScript()I -/
def JX1_takeScript_59 (S_3 : Sx) : Option (Int32 × Sx) :=
  fx_lt (px_I S_3 17 ((gx_I S_3 17) + (1 : Int32))) (fun S_4 => some (((gx_I S_4 17) - (1 : Int32)), S_4))
def LX1_takeScript_17  (q_ : Sx × Int32) : Option ((Sx × Int32) ⊕ (Sx)) :=
  fx_u2 q_ (fun S_5 x1_6 => if ((5 : Int32) * (gx_A S_5 15 (4 : Int32).toNatClampNeg)) ≤ x1_6 then (some (.inr S_5)) else (fx_gd (fx_in ((320 : Int32) + x1_6) 400) (fx_gd (fx_in (((80 : Int32) * (gx_I S_5 17)) + x1_6) 400) (fx_lt (px_A S_5 14 (upd (gx_A S_5 14) (((80 : Int32) * (gx_I S_5 17)) + x1_6).toNatClampNeg (gx_A S_5 14 ((320 : Int32) + x1_6).toNatClampNeg))) (fun S_10 => fx_lt (x1_6 + (1 : Int32)) (fun v_11 => some (.inl (S_10, v_11))))))))
def FX1_takeScript (S : Sx) : Option (Int32 × Sx) :=
  fx_gd (fx_in (gx_I S 17) 5) (fx_lt (px_A S 15 (upd (gx_A S 15) (gx_I S 17).toNatClampNeg (gx_A S 15 (4 : Int32).toNatClampNeg))) (fun S_2 => fx_b1 (fx_lp (LX1_takeScript_17) 2000 (S_2, (0 : Int32))) (fun S_12 => JX1_takeScript_59 S_12)))
set_option maxHeartbeats 4000000 in
set_option maxRecDepth 100000 in
theorem mX1_takeScript (l : Launch) (g : Gx) (A : Nat → Prop) (Rs : Nat → Nat) (nw im : Option Nat) (X : va_W) (S : Sx) {o : Int32 × Sx} (hF : FX1_takeScript S = some o) :
    cx_i l yX1_takeScript cX1_takeScript 2 .int rmX1_takeScript [.ref (Rs 100)] g A (sC g Rs nw im S ++ X) o.1 (sC g Rs nw im o.2 ++ X) 0 0 := by
  refine cx_i_of (by decide) (Nat.le_of_ble_eq_true rfl) ?_
  intro p e s m av below meth c Q E hret H hw ls hl
  have E : cx_E p m meth c cX1_takeScript 2 s av RX1 g A := E
  have hx := E.1.1
  have hb := E.1.2.1
  have hl : lv_has ls 2 [(0, .ref (Rs 100))] := hl
  generalize hlc : ([] : List Loc) = locs at hw ⊢
  clear hlc
  unfold FX1_takeScript at hF
  refine lv_aload_n hx hb dX1_takeScript_0 rfl (lv_at hl 0 rfl) ?_
  refine gX1_15 E hw dX1_takeScript_1 ?_
  refine lv_aload_n hx hb dX1_takeScript_4 rfl (lv_at hl 0 rfl) ?_
  refine gX1_17 E hw dX1_takeScript_5 ?_
  refine lv_aload_n hx hb dX1_takeScript_8 rfl (lv_at hl 0 rfl) ?_
  refine gX1_15 E hw dX1_takeScript_9 ?_
  refine lv_iconst (v := (4 : Int32)) hx hb dX1_takeScript_12 (by decide) ?_
  refine raX1_15 E hw (fx_in_e (by decide)) dX1_takeScript_13 ?_
  replace hF := fx_gd_e hF
  obtain ⟨h_1, hF⟩ := hF
  obtain ⟨S_2, eS_2⟩ : ∃ z : Sx, z = px_A S 15 (upd (gx_A S 15) (gx_I S 17).toNatClampNeg (gx_A S 15 (4 : Int32).toNatClampNeg)) := ⟨_, rfl⟩
  replace hF := fx_lt_e eS_2 hF
  refine rsX1_15 eS_2 E hw (fx_in_e h_1) dX1_takeScript_14 (fun H locs hw => ?_)
  refine lv_iconst (v := (0 : Int32)) hx hb dX1_takeScript_15 (by decide) ?_
  refine lv_istore_n hx hb dX1_takeScript_16 rfl hl (by decide) rfl (fun ls hl => ?_)
  have hl : lv_has ls 2 [(1, .int (0 : Int32)), (0, .ref (Rs 100))] := hl
  have jn_59 : ∀ (S_3 : Sx), JX1_takeScript_59 S_3 = some o → ∀ (H : Heap) (locs : List Loc) (ls : Array Slot), cx_W g A s (sC g Rs nw im S_3 ++ X) H locs → lv_has ls 2 [(0, .ref (Rs 100))] → W p l e rmX1_takeScript s m av below meth c H locs 0 0 Q (F0 m 59 ls []) := by
    intro S_3 hJ_59 H locs ls hw hl
    unfold JX1_takeScript_59 at hJ_59
    refine lv_aload_n hx hb dX1_takeScript_59 rfl (lv_at hl 0 rfl) ?_
    refine lv_dup hx hb dX1_takeScript_60 rfl ?_
    refine gX1_17 E hw dX1_takeScript_61 ?_
    refine lv_iconst (v := (1 : Int32)) hx hb dX1_takeScript_64 (by decide) ?_
    refine lv_iadd hx hb dX1_takeScript_65 ?_
    obtain ⟨S_4, eS_4⟩ : ∃ z : Sx, z = px_I S_3 17 ((gx_I S_3 17) + (1 : Int32)) := ⟨_, rfl⟩
    replace hJ_59 := fx_lt_e eS_4 hJ_59
    refine pX1_17 eS_4 E hw dX1_takeScript_66 (fun H locs hw => ?_)
    refine lv_aload_n hx hb dX1_takeScript_69 rfl (lv_at hl 0 rfl) ?_
    refine gX1_17 E hw dX1_takeScript_70 ?_
    refine lv_iconst (v := (1 : Int32)) hx hb dX1_takeScript_73 (by decide) ?_
    refine lv_isub hx hb dX1_takeScript_74 ?_
    obtain rfl := Option.some.inj hJ_59
    exact hret _ _ _ _ _ rfl rfl hw dX1_takeScript_75
  replace hF := fx_b1_e hF
  obtain ⟨ex_17, hL_17, hF⟩ := hF
  have key_17 : ∀ (n_17 : Nat) (S_5 : Sx) (x1_6 : Int32), fx_lp (LX1_takeScript_17) n_17 (S_5, x1_6) = some ex_17 → ∀ (H : Heap) (locs : List Loc) (ls : Array Slot), cx_W g A s (sC g Rs nw im S_5 ++ X) H locs → lv_has ls 2 [(0, .ref (Rs 100)), (1, .int x1_6)] → W p l e rmX1_takeScript s m av below meth c H locs 0 0 Q (F0 m 17 ls []) := by
    intro n_17
    induction n_17 with
    | zero => intro S_5 x1_6 hL_17; exact fx_lp_0 hL_17
    | succ n_17 ih_17 =>
      intro S_5 x1_6 hL_17 H locs ls hw hl
      replace hL_17 := fx_lp_s hL_17
      obtain ⟨o_17, hB_17, hO_17⟩ := hL_17
      unfold LX1_takeScript_17 at hB_17
      replace hB_17 := fx_u2_e hB_17
      refine lv_iload_n hx hb dX1_takeScript_17 rfl (lv_at hl 1 rfl) ?_
      refine lv_iconst (v := (5 : Int32)) hx hb dX1_takeScript_18 (by decide) ?_
      refine lv_aload_n hx hb dX1_takeScript_19 rfl (lv_at hl 0 rfl) ?_
      refine gX1_15 E hw dX1_takeScript_20 ?_
      refine lv_iconst (v := (4 : Int32)) hx hb dX1_takeScript_23 (by decide) ?_
      refine raX1_15 E hw (fx_in_e (by decide)) dX1_takeScript_24 ?_
      refine lv_imul hx hb dX1_takeScript_25 ?_
      refine lv_icmp_ge (tgt := 59) hx hb dX1_takeScript_26 (by decide) (fun c_7 => ?_) (fun c_7 => ?_)
      · replace hB_17 := fx_tt c_7 hB_17
        obtain rfl := fx_ex hB_17 hO_17
        exact jn_59 S_5 hF _ _ _ hw (lv_sub hl [0] rfl)
      · replace hB_17 := fx_ff c_7 hB_17
        refine lv_aload_n hx hb dX1_takeScript_29 rfl (lv_at hl 0 rfl) ?_
        refine gX1_14 E hw dX1_takeScript_30 ?_
        refine lv_bipush (v := (80 : Int32)) hx hb dX1_takeScript_33 (by decide) ?_
        refine lv_aload_n hx hb dX1_takeScript_35 rfl (lv_at hl 0 rfl) ?_
        refine gX1_17 E hw dX1_takeScript_36 ?_
        refine lv_imul hx hb dX1_takeScript_39 ?_
        refine lv_iload_n hx hb dX1_takeScript_40 rfl (lv_at hl 1 rfl) ?_
        refine lv_iadd hx hb dX1_takeScript_41 ?_
        refine lv_aload_n hx hb dX1_takeScript_42 rfl (lv_at hl 0 rfl) ?_
        refine gX1_14 E hw dX1_takeScript_43 ?_
        refine lv_sipush (v := (320 : Int32)) hx hb dX1_takeScript_46 (by decide) ?_
        refine lv_iload_n hx hb dX1_takeScript_49 rfl (lv_at hl 1 rfl) ?_
        refine lv_iadd hx hb dX1_takeScript_50 ?_
        replace hB_17 := fx_gd_e hB_17
        obtain ⟨h_8, hB_17⟩ := hB_17
        refine raX1_14 E hw (fx_in_e h_8) dX1_takeScript_51 ?_
        replace hB_17 := fx_gd_e hB_17
        obtain ⟨h_9, hB_17⟩ := hB_17
        obtain ⟨S_10, eS_10⟩ : ∃ z : Sx, z = px_A S_5 14 (upd (gx_A S_5 14) (((80 : Int32) * (gx_I S_5 17)) + x1_6).toNatClampNeg (gx_A S_5 14 ((320 : Int32) + x1_6).toNatClampNeg)) := ⟨_, rfl⟩
        replace hB_17 := fx_lt_e eS_10 hB_17
        refine rsX1_14 eS_10 E hw (fx_in_e h_9) dX1_takeScript_52 (fun H locs hw => ?_)
        obtain ⟨v_11, ev_11⟩ : ∃ z : Int32, z = x1_6 + (1 : Int32) := ⟨_, rfl⟩
        replace hB_17 := fx_lt_e ev_11 hB_17
        refine cx_iinc (z := (1 : Int32)) (v := v_11) hx hb dX1_takeScript_53 hl (k := 1) rfl (by decide) ev_11 (by decide) rfl (fun ls hl => ?_)
        have hl : lv_has ls 2 [(1, .int v_11), (0, .ref (Rs 100))] := hl
        refine lv_goto (tgt := 17) hx hb dX1_takeScript_56 (by decide) ?_
        exact ih_17 S_10 v_11 (fx_bk hB_17 hO_17) _ _ _ hw (lv_sub hl [1, 0] rfl)
  exact key_17 _ S_2 (0 : Int32) hL_17 _ _ _ hw (lv_sub hl [1, 0] rfl)
/-! isShelf()Z -/
def FX1_isShelf_s (S : Sx) (N : Sx) : Option Int32 :=
  some (1 : Int32)
set_option maxHeartbeats 4000000 in
set_option maxRecDepth 100000 in
theorem mX1_isShelf_s (l : Launch) (g : Gx) (A : Nat → Prop) (Rs Rn : Nat → Nat) (im : Option Nat) (X : va_W) (S : Sx) (N : Sx) {o : Int32} (hF : FX1_isShelf_s S N = some o) :
    cx_i l yX1_isShelf cX1_isShelf 1 .boolean rmX1_isShelf [.ref (Rs 100)] g A (sC g Rs (some (Rn 100)) im S ++ (stC g Rn N ++ X)) o (sC g Rs (some (Rn 100)) im S ++ (stC g Rn N ++ X)) 0 0 := by
  refine cx_i_of (by decide) (Nat.le_of_ble_eq_true rfl) ?_
  intro p e s m av below meth c Q E hret H hw ls hl
  have E : cx_E p m meth c cX1_isShelf 1 s av RX1 g A := E
  have hx := E.1.1
  have hb := E.1.2.1
  have hl : lv_has ls 1 [(0, .ref (Rs 100))] := hl
  generalize hlc : ([] : List Loc) = locs at hw ⊢
  clear hlc
  unfold FX1_isShelf_s at hF
  refine lv_aload_n hx hb dX1_isShelf_0 rfl (lv_at hl 0 rfl) ?_
  refine gX1_19s E hw dX1_isShelf_1 ?_
  refine lv_ifnull hx hb dX1_isShelf_4 ?_
  refine lv_iconst (v := (1 : Int32)) hx hb dX1_isShelf_7 (by decide) ?_
  refine lv_goto (tgt := 12) hx hb dX1_isShelf_8 (by decide) ?_
  obtain rfl := Option.some.inj hF
  exact hret _ _ _ _ _ rfl (by decide) hw dX1_isShelf_12
/-! isShelf()Z -/
def FX1_isShelf_n (S : Sx) : Option Int32 :=
  some (0 : Int32)
set_option maxHeartbeats 4000000 in
set_option maxRecDepth 100000 in
theorem mX1_isShelf_n (l : Launch) (g : Gx) (A : Nat → Prop) (Rs : Nat → Nat) (im : Option Nat) (X : va_W) (S : Sx) {o : Int32} (hF : FX1_isShelf_n S = some o) :
    cx_i l yX1_isShelf cX1_isShelf 1 .boolean rmX1_isShelf [.ref (Rs 100)] g A (sC g Rs none im S ++ X) o (sC g Rs none im S ++ X) 0 0 := by
  refine cx_i_of (by decide) (Nat.le_of_ble_eq_true rfl) ?_
  intro p e s m av below meth c Q E hret H hw ls hl
  have E : cx_E p m meth c cX1_isShelf 1 s av RX1 g A := E
  have hx := E.1.1
  have hb := E.1.2.1
  have hl : lv_has ls 1 [(0, .ref (Rs 100))] := hl
  generalize hlc : ([] : List Loc) = locs at hw ⊢
  clear hlc
  unfold FX1_isShelf_n at hF
  refine lv_aload_n hx hb dX1_isShelf_0 rfl (lv_at hl 0 rfl) ?_
  refine gX1_19n E hw dX1_isShelf_1 ?_
  refine lv_ifnullN (tgt := 11) hx hb dX1_isShelf_4 (by decide) ?_
  refine lv_iconst (v := (0 : Int32)) hx hb dX1_isShelf_11 (by decide) ?_
  obtain rfl := Option.some.inj hF
  exact hret _ _ _ _ _ rfl (by decide) hw dX1_isShelf_12
/-! isAddress(I)Z -/
def FX1_isAddress_s (S : Sx) (N : Sx) (p1 : Int32) : Option Int32 :=
  fx_b1 (FX1_addresses S) (fun r_3 => fx_b1 (FX1_in p1 (0 : Int32) (r_3 - (1 : Int32))) (fun r_5 => if r_5 = 0 then (some (0 : Int32)) else (some (1 : Int32))))
set_option maxHeartbeats 4000000 in
set_option maxRecDepth 100000 in
theorem mX1_isAddress_s (l : Launch) (g : Gx) (A : Nat → Prop) (Rs Rn : Nat → Nat) (im : Option Nat) (X : va_W) (S : Sx) (N : Sx) (p1 : Int32) {o : Int32} (hF : FX1_isAddress_s S N p1 = some o) :
    cx_i l yX1_isAddress cX1_isAddress 2 .boolean rmX1_isAddress [.ref (Rs 100), .int p1] g A (sC g Rs (some (Rn 100)) im S ++ (stC g Rn N ++ X)) o (sC g Rs (some (Rn 100)) im S ++ (stC g Rn N ++ X)) 0 0 := by
  refine cx_i_of (by decide) (Nat.le_of_ble_eq_true rfl) ?_
  intro p e s m av below meth c Q E hret H hw ls hl
  have E : cx_E p m meth c cX1_isAddress 2 s av RX1 g A := E
  have hx := E.1.1
  have hb := E.1.2.1
  have hl : lv_has ls 2 [(0, .ref (Rs 100)), (1, .int p1)] := hl
  generalize hlc : ([] : List Loc) = locs at hw ⊢
  clear hlc
  unfold FX1_isAddress_s at hF
  refine lv_aload_n hx hb dX1_isAddress_0 rfl (lv_at hl 0 rfl) ?_
  refine cx_cVi (r := (1 : Int32)) (ws := sC g Rs (some (Rn 100)) im S ++ (stC g Rn N ++ X)) (ws' := sC g Rs (some (Rn 100)) im S ++ (stC g Rn N ++ X)) (As := []) (rest := []) E (mX1_isShelf_s l g A Rs Rn _ _ S N (o := (1 : Int32)) rfl) (kwX1_X1_isShelf E ⟨Nat.le_of_ble_eq_true rfl, Nat.le_of_ble_eq_true rfl⟩) 0 1 rfl rfl rfl hw rfl hl.1 rfl (Nat.le_of_ble_eq_true rfl) dX1_isAddress_1 ⟨Nat.le_of_ble_eq_true rfl, Nat.le_of_ble_eq_true rfl⟩ (fun H locs hw => ?_)
  refine lv_if_eq (tgt := 25) hx hb dX1_isAddress_4 (by decide) (fun c_ => absurd c_ (by decide)) (fun _ => ?_)
  refine lv_iload_n hx hb dX1_isAddress_7 rfl (lv_at hl 1 rfl) ?_
  refine lv_iconst (v := (0 : Int32)) hx hb dX1_isAddress_8 (by decide) ?_
  refine lv_aload_n hx hb dX1_isAddress_9 rfl (lv_at hl 0 rfl) ?_
  replace hF := fx_b1_e hF
  obtain ⟨r_3, h_4, hF⟩ := hF
  refine cx_cVi (r := r_3) (ws := sC g Rs (some (Rn 100)) im S ++ (stC g Rn N ++ X)) (ws' := sC g Rs (some (Rn 100)) im S ++ (stC g Rn N ++ X)) (As := []) (rest := [.int (0 : Int32), .int p1]) E (mX1_addresses l g A Rs _ _ _ S h_4) (kwX1_X1_addresses E ⟨Nat.le_of_ble_eq_true rfl, Nat.le_of_ble_eq_true rfl⟩) 0 1 rfl rfl rfl hw rfl hl.1 rfl (Nat.le_of_ble_eq_true rfl) dX1_isAddress_10 ⟨Nat.le_of_ble_eq_true rfl, Nat.le_of_ble_eq_true rfl⟩ (fun H locs hw => ?_)
  refine lv_iconst (v := (1 : Int32)) hx hb dX1_isAddress_13 (by decide) ?_
  refine lv_isub hx hb dX1_isAddress_14 ?_
  replace hF := fx_b1_e hF
  obtain ⟨r_5, h_6, hF⟩ := hF
  refine cx_cSi (r := r_5) (ws := sC g Rs (some (Rn 100)) im S ++ (stC g Rn N ++ X)) (ws' := sC g Rs (some (Rn 100)) im S ++ (stC g Rn N ++ X)) (As := [.int p1, .int (0 : Int32), .int (r_3 - (1 : Int32))]) (rest := []) E (mX1_in l g A (sC g Rs (some (Rn 100)) im S ++ (stC g Rn N ++ X)) p1 (0 : Int32) (r_3 - (1 : Int32)) h_6) (kwX1_X1_in E ⟨Nat.le_of_ble_eq_true rfl, Nat.le_of_ble_eq_true rfl⟩) hw rfl hl.1 rfl (Nat.le_of_ble_eq_true rfl) dX1_isAddress_15 ⟨Nat.le_of_ble_eq_true rfl, Nat.le_of_ble_eq_true rfl⟩ (fun H locs hw => ?_)
  refine lv_if_eq (tgt := 25) hx hb dX1_isAddress_18 (by decide) (fun c_7 => ?_) (fun c_7 => ?_)
  · replace hF := fx_tt c_7 hF
    refine lv_iconst (v := (0 : Int32)) hx hb dX1_isAddress_25 (by decide) ?_
    obtain rfl := Option.some.inj hF
    exact hret _ _ _ _ _ rfl (by decide) hw dX1_isAddress_26
  · replace hF := fx_ff c_7 hF
    refine lv_iconst (v := (1 : Int32)) hx hb dX1_isAddress_21 (by decide) ?_
    refine lv_goto (tgt := 26) hx hb dX1_isAddress_22 (by decide) ?_
    obtain rfl := Option.some.inj hF
    exact hret _ _ _ _ _ rfl (by decide) hw dX1_isAddress_26
/-! isAddress(I)Z -/
def FX1_isAddress_n (S : Sx) (p1 : Int32) : Option Int32 :=
  some (0 : Int32)
set_option maxHeartbeats 4000000 in
set_option maxRecDepth 100000 in
theorem mX1_isAddress_n (l : Launch) (g : Gx) (A : Nat → Prop) (Rs : Nat → Nat) (im : Option Nat) (X : va_W) (S : Sx) (p1 : Int32) {o : Int32} (hF : FX1_isAddress_n S p1 = some o) :
    cx_i l yX1_isAddress cX1_isAddress 2 .boolean rmX1_isAddress [.ref (Rs 100), .int p1] g A (sC g Rs none im S ++ X) o (sC g Rs none im S ++ X) 0 0 := by
  refine cx_i_of (by decide) (Nat.le_of_ble_eq_true rfl) ?_
  intro p e s m av below meth c Q E hret H hw ls hl
  have E : cx_E p m meth c cX1_isAddress 2 s av RX1 g A := E
  have hx := E.1.1
  have hb := E.1.2.1
  have hl : lv_has ls 2 [(0, .ref (Rs 100)), (1, .int p1)] := hl
  generalize hlc : ([] : List Loc) = locs at hw ⊢
  clear hlc
  unfold FX1_isAddress_n at hF
  refine lv_aload_n hx hb dX1_isAddress_0 rfl (lv_at hl 0 rfl) ?_
  refine cx_cVi (r := (0 : Int32)) (ws := sC g Rs none im S ++ X) (ws' := sC g Rs none im S ++ X) (As := []) (rest := []) E (mX1_isShelf_n l g A Rs _ _ S (o := (0 : Int32)) rfl) (kwX1_X1_isShelf E ⟨Nat.le_of_ble_eq_true rfl, Nat.le_of_ble_eq_true rfl⟩) 0 1 rfl rfl rfl hw rfl hl.1 rfl (Nat.le_of_ble_eq_true rfl) dX1_isAddress_1 ⟨Nat.le_of_ble_eq_true rfl, Nat.le_of_ble_eq_true rfl⟩ (fun H locs hw => ?_)
  refine lv_if_eq (tgt := 25) hx hb dX1_isAddress_4 (by decide) (fun _ => ?_) (fun c_ => absurd c_ (by decide))
  refine lv_iconst (v := (0 : Int32)) hx hb dX1_isAddress_25 (by decide) ?_
  obtain rfl := Option.some.inj hF
  exact hret _ _ _ _ _ rfl (by decide) hw dX1_isAddress_26
/-! isDisk(I)Z -/
def FX1_isDisk_s (S : Sx) (N : Sx) (p1 : Int32) : Option Int32 :=
  fx_b1 (FX1_disks S) (fun r_3 => fx_b1 (FX1_in p1 (0 : Int32) (r_3 - (1 : Int32))) (fun r_5 => if r_5 = 0 then (some (0 : Int32)) else (some (1 : Int32))))
set_option maxHeartbeats 4000000 in
set_option maxRecDepth 100000 in
theorem mX1_isDisk_s (l : Launch) (g : Gx) (A : Nat → Prop) (Rs Rn : Nat → Nat) (im : Option Nat) (X : va_W) (S : Sx) (N : Sx) (p1 : Int32) {o : Int32} (hF : FX1_isDisk_s S N p1 = some o) :
    cx_i l yX1_isDisk cX1_isDisk 2 .boolean rmX1_isDisk [.ref (Rs 100), .int p1] g A (sC g Rs (some (Rn 100)) im S ++ (stC g Rn N ++ X)) o (sC g Rs (some (Rn 100)) im S ++ (stC g Rn N ++ X)) 0 0 := by
  refine cx_i_of (by decide) (Nat.le_of_ble_eq_true rfl) ?_
  intro p e s m av below meth c Q E hret H hw ls hl
  have E : cx_E p m meth c cX1_isDisk 2 s av RX1 g A := E
  have hx := E.1.1
  have hb := E.1.2.1
  have hl : lv_has ls 2 [(0, .ref (Rs 100)), (1, .int p1)] := hl
  generalize hlc : ([] : List Loc) = locs at hw ⊢
  clear hlc
  unfold FX1_isDisk_s at hF
  refine lv_aload_n hx hb dX1_isDisk_0 rfl (lv_at hl 0 rfl) ?_
  refine cx_cVi (r := (1 : Int32)) (ws := sC g Rs (some (Rn 100)) im S ++ (stC g Rn N ++ X)) (ws' := sC g Rs (some (Rn 100)) im S ++ (stC g Rn N ++ X)) (As := []) (rest := []) E (mX1_isShelf_s l g A Rs Rn _ _ S N (o := (1 : Int32)) rfl) (kwX1_X1_isShelf E ⟨Nat.le_of_ble_eq_true rfl, Nat.le_of_ble_eq_true rfl⟩) 0 1 rfl rfl rfl hw rfl hl.1 rfl (Nat.le_of_ble_eq_true rfl) dX1_isDisk_1 ⟨Nat.le_of_ble_eq_true rfl, Nat.le_of_ble_eq_true rfl⟩ (fun H locs hw => ?_)
  refine lv_if_eq (tgt := 25) hx hb dX1_isDisk_4 (by decide) (fun c_ => absurd c_ (by decide)) (fun _ => ?_)
  refine lv_iload_n hx hb dX1_isDisk_7 rfl (lv_at hl 1 rfl) ?_
  refine lv_iconst (v := (0 : Int32)) hx hb dX1_isDisk_8 (by decide) ?_
  refine lv_aload_n hx hb dX1_isDisk_9 rfl (lv_at hl 0 rfl) ?_
  replace hF := fx_b1_e hF
  obtain ⟨r_3, h_4, hF⟩ := hF
  refine cx_cVi (r := r_3) (ws := sC g Rs (some (Rn 100)) im S ++ (stC g Rn N ++ X)) (ws' := sC g Rs (some (Rn 100)) im S ++ (stC g Rn N ++ X)) (As := []) (rest := [.int (0 : Int32), .int p1]) E (mX1_disks l g A Rs _ _ _ S h_4) (kwX1_X1_disks E ⟨Nat.le_of_ble_eq_true rfl, Nat.le_of_ble_eq_true rfl⟩) 0 1 rfl rfl rfl hw rfl hl.1 rfl (Nat.le_of_ble_eq_true rfl) dX1_isDisk_10 ⟨Nat.le_of_ble_eq_true rfl, Nat.le_of_ble_eq_true rfl⟩ (fun H locs hw => ?_)
  refine lv_iconst (v := (1 : Int32)) hx hb dX1_isDisk_13 (by decide) ?_
  refine lv_isub hx hb dX1_isDisk_14 ?_
  replace hF := fx_b1_e hF
  obtain ⟨r_5, h_6, hF⟩ := hF
  refine cx_cSi (r := r_5) (ws := sC g Rs (some (Rn 100)) im S ++ (stC g Rn N ++ X)) (ws' := sC g Rs (some (Rn 100)) im S ++ (stC g Rn N ++ X)) (As := [.int p1, .int (0 : Int32), .int (r_3 - (1 : Int32))]) (rest := []) E (mX1_in l g A (sC g Rs (some (Rn 100)) im S ++ (stC g Rn N ++ X)) p1 (0 : Int32) (r_3 - (1 : Int32)) h_6) (kwX1_X1_in E ⟨Nat.le_of_ble_eq_true rfl, Nat.le_of_ble_eq_true rfl⟩) hw rfl hl.1 rfl (Nat.le_of_ble_eq_true rfl) dX1_isDisk_15 ⟨Nat.le_of_ble_eq_true rfl, Nat.le_of_ble_eq_true rfl⟩ (fun H locs hw => ?_)
  refine lv_if_eq (tgt := 25) hx hb dX1_isDisk_18 (by decide) (fun c_7 => ?_) (fun c_7 => ?_)
  · replace hF := fx_tt c_7 hF
    refine lv_iconst (v := (0 : Int32)) hx hb dX1_isDisk_25 (by decide) ?_
    obtain rfl := Option.some.inj hF
    exact hret _ _ _ _ _ rfl (by decide) hw dX1_isDisk_26
  · replace hF := fx_ff c_7 hF
    refine lv_iconst (v := (1 : Int32)) hx hb dX1_isDisk_21 (by decide) ?_
    refine lv_goto (tgt := 26) hx hb dX1_isDisk_22 (by decide) ?_
    obtain rfl := Option.some.inj hF
    exact hret _ _ _ _ _ rfl (by decide) hw dX1_isDisk_26
/-! isDisk(I)Z -/
def FX1_isDisk_n (S : Sx) (p1 : Int32) : Option Int32 :=
  some (0 : Int32)
set_option maxHeartbeats 4000000 in
set_option maxRecDepth 100000 in
theorem mX1_isDisk_n (l : Launch) (g : Gx) (A : Nat → Prop) (Rs : Nat → Nat) (im : Option Nat) (X : va_W) (S : Sx) (p1 : Int32) {o : Int32} (hF : FX1_isDisk_n S p1 = some o) :
    cx_i l yX1_isDisk cX1_isDisk 2 .boolean rmX1_isDisk [.ref (Rs 100), .int p1] g A (sC g Rs none im S ++ X) o (sC g Rs none im S ++ X) 0 0 := by
  refine cx_i_of (by decide) (Nat.le_of_ble_eq_true rfl) ?_
  intro p e s m av below meth c Q E hret H hw ls hl
  have E : cx_E p m meth c cX1_isDisk 2 s av RX1 g A := E
  have hx := E.1.1
  have hb := E.1.2.1
  have hl : lv_has ls 2 [(0, .ref (Rs 100)), (1, .int p1)] := hl
  generalize hlc : ([] : List Loc) = locs at hw ⊢
  clear hlc
  unfold FX1_isDisk_n at hF
  refine lv_aload_n hx hb dX1_isDisk_0 rfl (lv_at hl 0 rfl) ?_
  refine cx_cVi (r := (0 : Int32)) (ws := sC g Rs none im S ++ X) (ws' := sC g Rs none im S ++ X) (As := []) (rest := []) E (mX1_isShelf_n l g A Rs _ _ S (o := (0 : Int32)) rfl) (kwX1_X1_isShelf E ⟨Nat.le_of_ble_eq_true rfl, Nat.le_of_ble_eq_true rfl⟩) 0 1 rfl rfl rfl hw rfl hl.1 rfl (Nat.le_of_ble_eq_true rfl) dX1_isDisk_1 ⟨Nat.le_of_ble_eq_true rfl, Nat.le_of_ble_eq_true rfl⟩ (fun H locs hw => ?_)
  refine lv_if_eq (tgt := 25) hx hb dX1_isDisk_4 (by decide) (fun _ => ?_) (fun c_ => absurd c_ (by decide))
  refine lv_iconst (v := (0 : Int32)) hx hb dX1_isDisk_25 (by decide) ?_
  obtain rfl := Option.some.inj hF
  exact hret _ _ _ _ _ rfl (by decide) hw dX1_isDisk_26
/-! lostMany()I -/
def JX1_lostMany_s_33 (x1_1 : Int32) : Option Int32 :=
  some x1_1
def JX1_lostMany_s_27 (x2_3 : Int32) (x1_8 : Int32) : Option ((Int32 × Int32) ⊕ (Int32)) :=
  fx_lt (x2_3 + (1 : Int32)) (fun v_9 => some (.inl (x1_8, v_9)))
def LX1_lostMany_s_4 (S : Sx) (N : Sx) (q_ : Int32 × Int32) : Option ((Int32 × Int32) ⊕ (Int32)) :=
  fx_u2 q_ (fun x1_2 x2_3 => fx_b1 (FX1_disks S) (fun r_4 => if r_4 ≤ x2_3 then (some (.inr x1_2)) else (fx_gd (fx_in x2_3 8) (if (gx_A N 1 x2_3.toNatClampNeg) = 0 then (JX1_lostMany_s_27 x2_3 x1_2) else (fx_lt (x1_2 + (1 : Int32)) (fun v_11 => JX1_lostMany_s_27 x2_3 v_11))))))
def FX1_lostMany_s (S : Sx) (N : Sx) : Option Int32 :=
  fx_b1 (fx_lp (LX1_lostMany_s_4 S N) 2000 ((0 : Int32), (0 : Int32))) (fun y1_12 => JX1_lostMany_s_33 y1_12)
set_option maxHeartbeats 4000000 in
set_option maxRecDepth 100000 in
theorem mX1_lostMany_s (l : Launch) (g : Gx) (A : Nat → Prop) (Rs Rn : Nat → Nat) (im : Option Nat) (X : va_W) (S : Sx) (N : Sx) {o : Int32} (hF : FX1_lostMany_s S N = some o) :
    cx_i l yX1_lostMany cX1_lostMany 3 .int rmX1_lostMany [.ref (Rs 100)] g A (sC g Rs (some (Rn 100)) im S ++ (stC g Rn N ++ X)) o (sC g Rs (some (Rn 100)) im S ++ (stC g Rn N ++ X)) 0 0 := by
  refine cx_i_of (by decide) (Nat.le_of_ble_eq_true rfl) ?_
  intro p e s m av below meth c Q E hret H hw ls hl
  have E : cx_E p m meth c cX1_lostMany 3 s av RX1 g A := E
  have hx := E.1.1
  have hb := E.1.2.1
  have hl : lv_has ls 3 [(0, .ref (Rs 100))] := hl
  generalize hlc : ([] : List Loc) = locs at hw ⊢
  clear hlc
  unfold FX1_lostMany_s at hF
  refine lv_iconst (v := (0 : Int32)) hx hb dX1_lostMany_0 (by decide) ?_
  refine lv_istore_n hx hb dX1_lostMany_1 rfl hl (by decide) rfl (fun ls hl => ?_)
  have hl : lv_has ls 3 [(1, .int (0 : Int32)), (0, .ref (Rs 100))] := hl
  refine lv_iconst (v := (0 : Int32)) hx hb dX1_lostMany_2 (by decide) ?_
  refine lv_istore_n hx hb dX1_lostMany_3 rfl hl (by decide) rfl (fun ls hl => ?_)
  have hl : lv_has ls 3 [(2, .int (0 : Int32)), (1, .int (0 : Int32)), (0, .ref (Rs 100))] := hl
  have jn_33 : ∀ (x1_1 : Int32), JX1_lostMany_s_33 x1_1 = some o → ∀ (H : Heap) (locs : List Loc) (ls : Array Slot), cx_W g A s (sC g Rs (some (Rn 100)) im S ++ (stC g Rn N ++ X)) H locs → lv_has ls 3 [(1, .int x1_1)] → W p l e rmX1_lostMany s m av below meth c H locs 0 0 Q (F0 m 33 ls []) := by
    intro x1_1 hJ_33 H locs ls hw hl
    unfold JX1_lostMany_s_33 at hJ_33
    refine lv_iload_n hx hb dX1_lostMany_33 rfl (lv_at hl 0 rfl) ?_
    obtain rfl := Option.some.inj hJ_33
    exact hret _ _ _ _ _ rfl rfl hw dX1_lostMany_34
  replace hF := fx_b1_e hF
  obtain ⟨ex_4, hL_4, hF⟩ := hF
  have key_4 : ∀ (n_4 : Nat) (x1_2 : Int32) (x2_3 : Int32), fx_lp (LX1_lostMany_s_4 S N) n_4 (x1_2, x2_3) = some ex_4 → ∀ (H : Heap) (locs : List Loc) (ls : Array Slot), cx_W g A s (sC g Rs (some (Rn 100)) im S ++ (stC g Rn N ++ X)) H locs → lv_has ls 3 [(0, .ref (Rs 100)), (1, .int x1_2), (2, .int x2_3)] → W p l e rmX1_lostMany s m av below meth c H locs 0 0 Q (F0 m 4 ls []) := by
    intro n_4
    induction n_4 with
    | zero => intro x1_2 x2_3 hL_4; exact fx_lp_0 hL_4
    | succ n_4 ih_4 =>
      intro x1_2 x2_3 hL_4 H locs ls hw hl
      replace hL_4 := fx_lp_s hL_4
      obtain ⟨o_4, hB_4, hO_4⟩ := hL_4
      unfold LX1_lostMany_s_4 at hB_4
      replace hB_4 := fx_u2_e hB_4
      refine lv_iload_n hx hb dX1_lostMany_4 rfl (lv_at hl 2 rfl) ?_
      refine lv_aload_n hx hb dX1_lostMany_5 rfl (lv_at hl 0 rfl) ?_
      replace hB_4 := fx_b1_e hB_4
      obtain ⟨r_4, h_5, hB_4⟩ := hB_4
      refine cx_cVi (r := r_4) (ws := sC g Rs (some (Rn 100)) im S ++ (stC g Rn N ++ X)) (ws' := sC g Rs (some (Rn 100)) im S ++ (stC g Rn N ++ X)) (As := []) (rest := [.int x2_3]) E (mX1_disks l g A Rs _ _ _ S h_5) (kwX1_X1_disks E ⟨Nat.le_of_ble_eq_true rfl, Nat.le_of_ble_eq_true rfl⟩) 0 1 rfl rfl rfl hw rfl hl.1 rfl (Nat.le_of_ble_eq_true rfl) dX1_lostMany_6 ⟨Nat.le_of_ble_eq_true rfl, Nat.le_of_ble_eq_true rfl⟩ (fun H locs hw => ?_)
      refine lv_icmp_ge (tgt := 33) hx hb dX1_lostMany_9 (by decide) (fun c_6 => ?_) (fun c_6 => ?_)
      · replace hB_4 := fx_tt c_6 hB_4
        obtain rfl := fx_ex hB_4 hO_4
        exact jn_33 x1_2 hF _ _ _ hw (lv_sub hl [1] rfl)
      · replace hB_4 := fx_ff c_6 hB_4
        refine lv_aload_n hx hb dX1_lostMany_12 rfl (lv_at hl 0 rfl) ?_
        refine gX1_19s E hw dX1_lostMany_13 ?_
        refine gNX7_1 E hw dX1_lostMany_16 ?_
        refine lv_iload_n hx hb dX1_lostMany_19 rfl (lv_at hl 2 rfl) ?_
        replace hB_4 := fx_gd_e hB_4
        obtain ⟨h_7, hB_4⟩ := hB_4
        refine raX7_1 E hw (fx_in_e h_7) dX1_lostMany_20 ?_
        have jn_27 : ∀ (x1_8 : Int32), JX1_lostMany_s_27 x2_3 x1_8 = some o_4 → ∀ (H : Heap) (locs : List Loc) (ls : Array Slot), cx_W g A s (sC g Rs (some (Rn 100)) im S ++ (stC g Rn N ++ X)) H locs → lv_has ls 3 [(0, .ref (Rs 100)), (1, .int x1_8), (2, .int x2_3)] → W p l e rmX1_lostMany s m av below meth c H locs 0 0 Q (F0 m 27 ls []) := by
          intro x1_8 hJ_27 H locs ls hw hl
          unfold JX1_lostMany_s_27 at hJ_27
          obtain ⟨v_9, ev_9⟩ : ∃ z : Int32, z = x2_3 + (1 : Int32) := ⟨_, rfl⟩
          replace hJ_27 := fx_lt_e ev_9 hJ_27
          refine cx_iinc (z := (1 : Int32)) (v := v_9) hx hb dX1_lostMany_27 hl (k := 2) rfl (by decide) ev_9 (by decide) rfl (fun ls hl => ?_)
          have hl : lv_has ls 3 [(2, .int v_9), (0, .ref (Rs 100)), (1, .int x1_8)] := hl
          refine lv_goto (tgt := 4) hx hb dX1_lostMany_30 (by decide) ?_
          exact ih_4 x1_8 v_9 (fx_bk hJ_27 hO_4) _ _ _ hw (lv_sub hl [1, 2, 0] rfl)
        refine lv_if_eq (tgt := 27) hx hb dX1_lostMany_21 (by decide) (fun c_10 => ?_) (fun c_10 => ?_)
        · replace hB_4 := fx_tt c_10 hB_4
          exact jn_27 x1_2 hB_4 _ _ _ hw hl
        · replace hB_4 := fx_ff c_10 hB_4
          obtain ⟨v_11, ev_11⟩ : ∃ z : Int32, z = x1_2 + (1 : Int32) := ⟨_, rfl⟩
          replace hB_4 := fx_lt_e ev_11 hB_4
          refine cx_iinc (z := (1 : Int32)) (v := v_11) hx hb dX1_lostMany_24 hl (k := 1) rfl (by decide) ev_11 (by decide) rfl (fun ls hl => ?_)
          have hl : lv_has ls 3 [(1, .int v_11), (0, .ref (Rs 100)), (2, .int x2_3)] := hl
          exact jn_27 v_11 hB_4 _ _ _ hw (lv_sub hl [1, 0, 2] rfl)
  exact key_4 _ (0 : Int32) (0 : Int32) hL_4 _ _ _ hw (lv_sub hl [2, 1, 0] rfl)
/-! lostMany()I -/
def JX1_lostMany_n_33 (x1_1 : Int32) : Option Int32 :=
  some x1_1
def LX1_lostMany_n_4 (S : Sx) (q_ : Int32 × Int32) : Option ((Int32 × Int32) ⊕ (Int32)) :=
  fx_u2 q_ (fun x1_2 x2_3 => fx_b1 (FX1_disks S) (fun r_4 => if r_4 ≤ x2_3 then (some (.inr x1_2)) else none))
def FX1_lostMany_n (S : Sx) : Option Int32 :=
  fx_b1 (fx_lp (LX1_lostMany_n_4 S) 2000 ((0 : Int32), (0 : Int32))) (fun y1_7 => JX1_lostMany_n_33 y1_7)
set_option maxHeartbeats 4000000 in
set_option maxRecDepth 100000 in
theorem mX1_lostMany_n (l : Launch) (g : Gx) (A : Nat → Prop) (Rs : Nat → Nat) (im : Option Nat) (X : va_W) (S : Sx) {o : Int32} (hF : FX1_lostMany_n S = some o) :
    cx_i l yX1_lostMany cX1_lostMany 3 .int rmX1_lostMany [.ref (Rs 100)] g A (sC g Rs none im S ++ X) o (sC g Rs none im S ++ X) 0 0 := by
  refine cx_i_of (by decide) (Nat.le_of_ble_eq_true rfl) ?_
  intro p e s m av below meth c Q E hret H hw ls hl
  have E : cx_E p m meth c cX1_lostMany 3 s av RX1 g A := E
  have hx := E.1.1
  have hb := E.1.2.1
  have hl : lv_has ls 3 [(0, .ref (Rs 100))] := hl
  generalize hlc : ([] : List Loc) = locs at hw ⊢
  clear hlc
  unfold FX1_lostMany_n at hF
  refine lv_iconst (v := (0 : Int32)) hx hb dX1_lostMany_0 (by decide) ?_
  refine lv_istore_n hx hb dX1_lostMany_1 rfl hl (by decide) rfl (fun ls hl => ?_)
  have hl : lv_has ls 3 [(1, .int (0 : Int32)), (0, .ref (Rs 100))] := hl
  refine lv_iconst (v := (0 : Int32)) hx hb dX1_lostMany_2 (by decide) ?_
  refine lv_istore_n hx hb dX1_lostMany_3 rfl hl (by decide) rfl (fun ls hl => ?_)
  have hl : lv_has ls 3 [(2, .int (0 : Int32)), (1, .int (0 : Int32)), (0, .ref (Rs 100))] := hl
  have jn_33 : ∀ (x1_1 : Int32), JX1_lostMany_n_33 x1_1 = some o → ∀ (H : Heap) (locs : List Loc) (ls : Array Slot), cx_W g A s (sC g Rs none im S ++ X) H locs → lv_has ls 3 [(1, .int x1_1)] → W p l e rmX1_lostMany s m av below meth c H locs 0 0 Q (F0 m 33 ls []) := by
    intro x1_1 hJ_33 H locs ls hw hl
    unfold JX1_lostMany_n_33 at hJ_33
    refine lv_iload_n hx hb dX1_lostMany_33 rfl (lv_at hl 0 rfl) ?_
    obtain rfl := Option.some.inj hJ_33
    exact hret _ _ _ _ _ rfl rfl hw dX1_lostMany_34
  replace hF := fx_b1_e hF
  obtain ⟨ex_4, hL_4, hF⟩ := hF
  have key_4 : ∀ (n_4 : Nat) (x1_2 : Int32) (x2_3 : Int32), fx_lp (LX1_lostMany_n_4 S) n_4 (x1_2, x2_3) = some ex_4 → ∀ (H : Heap) (locs : List Loc) (ls : Array Slot), cx_W g A s (sC g Rs none im S ++ X) H locs → lv_has ls 3 [(0, .ref (Rs 100)), (1, .int x1_2), (2, .int x2_3)] → W p l e rmX1_lostMany s m av below meth c H locs 0 0 Q (F0 m 4 ls []) := by
    intro n_4
    induction n_4 with
    | zero => intro x1_2 x2_3 hL_4; exact fx_lp_0 hL_4
    | succ n_4 ih_4 =>
      intro x1_2 x2_3 hL_4 H locs ls hw hl
      replace hL_4 := fx_lp_s hL_4
      obtain ⟨o_4, hB_4, hO_4⟩ := hL_4
      unfold LX1_lostMany_n_4 at hB_4
      replace hB_4 := fx_u2_e hB_4
      refine lv_iload_n hx hb dX1_lostMany_4 rfl (lv_at hl 2 rfl) ?_
      refine lv_aload_n hx hb dX1_lostMany_5 rfl (lv_at hl 0 rfl) ?_
      replace hB_4 := fx_b1_e hB_4
      obtain ⟨r_4, h_5, hB_4⟩ := hB_4
      refine cx_cVi (r := r_4) (ws := sC g Rs none im S ++ X) (ws' := sC g Rs none im S ++ X) (As := []) (rest := [.int x2_3]) E (mX1_disks l g A Rs _ _ _ S h_5) (kwX1_X1_disks E ⟨Nat.le_of_ble_eq_true rfl, Nat.le_of_ble_eq_true rfl⟩) 0 1 rfl rfl rfl hw rfl hl.1 rfl (Nat.le_of_ble_eq_true rfl) dX1_lostMany_6 ⟨Nat.le_of_ble_eq_true rfl, Nat.le_of_ble_eq_true rfl⟩ (fun H locs hw => ?_)
      refine lv_icmp_ge (tgt := 33) hx hb dX1_lostMany_9 (by decide) (fun c_6 => ?_) (fun c_6 => ?_)
      · replace hB_4 := fx_tt c_6 hB_4
        obtain rfl := fx_ex hB_4 hO_4
        exact jn_33 x1_2 hF _ _ _ hw (lv_sub hl [1] rfl)
      · replace hB_4 := fx_ff c_6 hB_4
        refine lv_aload_n hx hb dX1_lostMany_12 rfl (lv_at hl 0 rfl) ?_
        refine gX1_19n E hw dX1_lostMany_13 ?_
        exact fx_no hB_4
  exact key_4 _ (0 : Int32) (0 : Int32) hL_4 _ _ _ hw (lv_sub hl [2, 1, 0] rfl)
/-! isStripe(I)Z -/
def FX1_isStripe_s (S : Sx) (N : Sx) (p1 : Int32) : Option Int32 :=
  fx_b1 (FX1_stripes S) (fun r_3 => fx_b1 (FX1_in p1 (0 : Int32) (r_3 - (1 : Int32))) (fun r_5 => if r_5 = 0 then (some (0 : Int32)) else (some (1 : Int32))))
set_option maxHeartbeats 4000000 in
set_option maxRecDepth 100000 in
theorem mX1_isStripe_s (l : Launch) (g : Gx) (A : Nat → Prop) (Rs Rn : Nat → Nat) (im : Option Nat) (X : va_W) (S : Sx) (N : Sx) (p1 : Int32) {o : Int32} (hF : FX1_isStripe_s S N p1 = some o) :
    cx_i l yX1_isStripe cX1_isStripe 2 .boolean rmX1_isStripe [.ref (Rs 100), .int p1] g A (sC g Rs (some (Rn 100)) im S ++ (stC g Rn N ++ X)) o (sC g Rs (some (Rn 100)) im S ++ (stC g Rn N ++ X)) 0 0 := by
  refine cx_i_of (by decide) (Nat.le_of_ble_eq_true rfl) ?_
  intro p e s m av below meth c Q E hret H hw ls hl
  have E : cx_E p m meth c cX1_isStripe 2 s av RX1 g A := E
  have hx := E.1.1
  have hb := E.1.2.1
  have hl : lv_has ls 2 [(0, .ref (Rs 100)), (1, .int p1)] := hl
  generalize hlc : ([] : List Loc) = locs at hw ⊢
  clear hlc
  unfold FX1_isStripe_s at hF
  refine lv_aload_n hx hb dX1_isStripe_0 rfl (lv_at hl 0 rfl) ?_
  refine cx_cVi (r := (1 : Int32)) (ws := sC g Rs (some (Rn 100)) im S ++ (stC g Rn N ++ X)) (ws' := sC g Rs (some (Rn 100)) im S ++ (stC g Rn N ++ X)) (As := []) (rest := []) E (mX1_isShelf_s l g A Rs Rn _ _ S N (o := (1 : Int32)) rfl) (kwX1_X1_isShelf E ⟨Nat.le_of_ble_eq_true rfl, Nat.le_of_ble_eq_true rfl⟩) 0 1 rfl rfl rfl hw rfl hl.1 rfl (Nat.le_of_ble_eq_true rfl) dX1_isStripe_1 ⟨Nat.le_of_ble_eq_true rfl, Nat.le_of_ble_eq_true rfl⟩ (fun H locs hw => ?_)
  refine lv_if_eq (tgt := 25) hx hb dX1_isStripe_4 (by decide) (fun c_ => absurd c_ (by decide)) (fun _ => ?_)
  refine lv_iload_n hx hb dX1_isStripe_7 rfl (lv_at hl 1 rfl) ?_
  refine lv_iconst (v := (0 : Int32)) hx hb dX1_isStripe_8 (by decide) ?_
  refine lv_aload_n hx hb dX1_isStripe_9 rfl (lv_at hl 0 rfl) ?_
  replace hF := fx_b1_e hF
  obtain ⟨r_3, h_4, hF⟩ := hF
  refine cx_cVi (r := r_3) (ws := sC g Rs (some (Rn 100)) im S ++ (stC g Rn N ++ X)) (ws' := sC g Rs (some (Rn 100)) im S ++ (stC g Rn N ++ X)) (As := []) (rest := [.int (0 : Int32), .int p1]) E (mX1_stripes l g A Rs _ _ _ S h_4) (kwX1_X1_stripes E ⟨Nat.le_of_ble_eq_true rfl, Nat.le_of_ble_eq_true rfl⟩) 0 1 rfl rfl rfl hw rfl hl.1 rfl (Nat.le_of_ble_eq_true rfl) dX1_isStripe_10 ⟨Nat.le_of_ble_eq_true rfl, Nat.le_of_ble_eq_true rfl⟩ (fun H locs hw => ?_)
  refine lv_iconst (v := (1 : Int32)) hx hb dX1_isStripe_13 (by decide) ?_
  refine lv_isub hx hb dX1_isStripe_14 ?_
  replace hF := fx_b1_e hF
  obtain ⟨r_5, h_6, hF⟩ := hF
  refine cx_cSi (r := r_5) (ws := sC g Rs (some (Rn 100)) im S ++ (stC g Rn N ++ X)) (ws' := sC g Rs (some (Rn 100)) im S ++ (stC g Rn N ++ X)) (As := [.int p1, .int (0 : Int32), .int (r_3 - (1 : Int32))]) (rest := []) E (mX1_in l g A (sC g Rs (some (Rn 100)) im S ++ (stC g Rn N ++ X)) p1 (0 : Int32) (r_3 - (1 : Int32)) h_6) (kwX1_X1_in E ⟨Nat.le_of_ble_eq_true rfl, Nat.le_of_ble_eq_true rfl⟩) hw rfl hl.1 rfl (Nat.le_of_ble_eq_true rfl) dX1_isStripe_15 ⟨Nat.le_of_ble_eq_true rfl, Nat.le_of_ble_eq_true rfl⟩ (fun H locs hw => ?_)
  refine lv_if_eq (tgt := 25) hx hb dX1_isStripe_18 (by decide) (fun c_7 => ?_) (fun c_7 => ?_)
  · replace hF := fx_tt c_7 hF
    refine lv_iconst (v := (0 : Int32)) hx hb dX1_isStripe_25 (by decide) ?_
    obtain rfl := Option.some.inj hF
    exact hret _ _ _ _ _ rfl (by decide) hw dX1_isStripe_26
  · replace hF := fx_ff c_7 hF
    refine lv_iconst (v := (1 : Int32)) hx hb dX1_isStripe_21 (by decide) ?_
    refine lv_goto (tgt := 26) hx hb dX1_isStripe_22 (by decide) ?_
    obtain rfl := Option.some.inj hF
    exact hret _ _ _ _ _ rfl (by decide) hw dX1_isStripe_26
/-! isStripe(I)Z -/
def FX1_isStripe_n (S : Sx) (p1 : Int32) : Option Int32 :=
  some (0 : Int32)
set_option maxHeartbeats 4000000 in
set_option maxRecDepth 100000 in
theorem mX1_isStripe_n (l : Launch) (g : Gx) (A : Nat → Prop) (Rs : Nat → Nat) (im : Option Nat) (X : va_W) (S : Sx) (p1 : Int32) {o : Int32} (hF : FX1_isStripe_n S p1 = some o) :
    cx_i l yX1_isStripe cX1_isStripe 2 .boolean rmX1_isStripe [.ref (Rs 100), .int p1] g A (sC g Rs none im S ++ X) o (sC g Rs none im S ++ X) 0 0 := by
  refine cx_i_of (by decide) (Nat.le_of_ble_eq_true rfl) ?_
  intro p e s m av below meth c Q E hret H hw ls hl
  have E : cx_E p m meth c cX1_isStripe 2 s av RX1 g A := E
  have hx := E.1.1
  have hb := E.1.2.1
  have hl : lv_has ls 2 [(0, .ref (Rs 100)), (1, .int p1)] := hl
  generalize hlc : ([] : List Loc) = locs at hw ⊢
  clear hlc
  unfold FX1_isStripe_n at hF
  refine lv_aload_n hx hb dX1_isStripe_0 rfl (lv_at hl 0 rfl) ?_
  refine cx_cVi (r := (0 : Int32)) (ws := sC g Rs none im S ++ X) (ws' := sC g Rs none im S ++ X) (As := []) (rest := []) E (mX1_isShelf_n l g A Rs _ _ S (o := (0 : Int32)) rfl) (kwX1_X1_isShelf E ⟨Nat.le_of_ble_eq_true rfl, Nat.le_of_ble_eq_true rfl⟩) 0 1 rfl rfl rfl hw rfl hl.1 rfl (Nat.le_of_ble_eq_true rfl) dX1_isStripe_1 ⟨Nat.le_of_ble_eq_true rfl, Nat.le_of_ble_eq_true rfl⟩ (fun H locs hw => ?_)
  refine lv_if_eq (tgt := 25) hx hb dX1_isStripe_4 (by decide) (fun _ => ?_) (fun c_ => absurd c_ (by decide))
  refine lv_iconst (v := (0 : Int32)) hx hb dX1_isStripe_25 (by decide) ?_
  obtain rfl := Option.some.inj hF
  exact hret _ _ _ _ _ rfl (by decide) hw dX1_isStripe_26
/-! whyNotSpoilt(IIII)I -/
def FX1_whyNotSpoilt_s (S : Sx) (N : Sx) (p1 : Int32) (p2 : Int32) (p3 : Int32) (p4 : Int32) : Option Int32 :=
  fx_b1 (FX1_isDisk_s S N p1) (fun r_1 => if r_1 = 0 then (some (0 : Int32)) else (fx_b1 (FX1_isStripe_s S N p2) (fun r_4 => if r_4 = 0 then (some (0 : Int32)) else (fx_b1 (FX1_chunk S) (fun r_7 => fx_b1 (FX1_in p3 (0 : Int32) (r_7 - (1 : Int32))) (fun r_9 => if r_9 = 0 then (some (0 : Int32)) else (fx_b1 (FX1_in p4 (1 : Int32) (255 : Int32)) (fun r_12 => if r_12 = 0 then (some (1 : Int32)) else (fx_b1 (FX7_isThere N p1 p2) (fun r_15 => if r_15 = 0 then (some (2 : Int32)) else (some (-1 : Int32))))))))))))
set_option maxHeartbeats 4000000 in
set_option maxRecDepth 100000 in
theorem mX1_whyNotSpoilt_s (l : Launch) (g : Gx) (A : Nat → Prop) (Rs Rn : Nat → Nat) (im : Option Nat) (X : va_W) (S : Sx) (N : Sx) (p1 : Int32) (p2 : Int32) (p3 : Int32) (p4 : Int32) {o : Int32} (hF : FX1_whyNotSpoilt_s S N p1 p2 p3 p4 = some o) :
    cx_i l yX1_whyNotSpoilt cX1_whyNotSpoilt 5 .int rmX1_whyNotSpoilt [.ref (Rs 100), .int p1, .int p2, .int p3, .int p4] g A (sC g Rs (some (Rn 100)) im S ++ (stC g Rn N ++ X)) o (sC g Rs (some (Rn 100)) im S ++ (stC g Rn N ++ X)) 0 0 := by
  refine cx_i_of (by decide) (Nat.le_of_ble_eq_true rfl) ?_
  intro p e s m av below meth c Q E hret H hw ls hl
  have E : cx_E p m meth c cX1_whyNotSpoilt 5 s av RX1 g A := E
  have hx := E.1.1
  have hb := E.1.2.1
  have hl : lv_has ls 5 [(0, .ref (Rs 100)), (1, .int p1), (2, .int p2), (3, .int p3), (4, .int p4)] := hl
  generalize hlc : ([] : List Loc) = locs at hw ⊢
  clear hlc
  unfold FX1_whyNotSpoilt_s at hF
  refine lv_aload_n hx hb dX1_whyNotSpoilt_0 rfl (lv_at hl 0 rfl) ?_
  refine lv_iload_n hx hb dX1_whyNotSpoilt_1 rfl (lv_at hl 1 rfl) ?_
  replace hF := fx_b1_e hF
  obtain ⟨r_1, h_2, hF⟩ := hF
  refine cx_cVi (r := r_1) (ws := sC g Rs (some (Rn 100)) im S ++ (stC g Rn N ++ X)) (ws' := sC g Rs (some (Rn 100)) im S ++ (stC g Rn N ++ X)) (As := [.int p1]) (rest := []) E (mX1_isDisk_s l g A Rs Rn _ _ S N p1 h_2) (kwX1_X1_isDisk E ⟨Nat.le_of_ble_eq_true rfl, Nat.le_of_ble_eq_true rfl⟩) 0 1 rfl rfl rfl hw rfl hl.1 rfl (Nat.le_of_ble_eq_true rfl) dX1_whyNotSpoilt_2 ⟨Nat.le_of_ble_eq_true rfl, Nat.le_of_ble_eq_true rfl⟩ (fun H locs hw => ?_)
  refine lv_if_eq (tgt := 30) hx hb dX1_whyNotSpoilt_5 (by decide) (fun c_3 => ?_) (fun c_3 => ?_)
  · replace hF := fx_tt c_3 hF
    refine lv_iconst (v := (0 : Int32)) hx hb dX1_whyNotSpoilt_30 (by decide) ?_
    obtain rfl := Option.some.inj hF
    exact hret _ _ _ _ _ rfl rfl hw dX1_whyNotSpoilt_31
  · replace hF := fx_ff c_3 hF
    refine lv_aload_n hx hb dX1_whyNotSpoilt_8 rfl (lv_at hl 0 rfl) ?_
    refine lv_iload_n hx hb dX1_whyNotSpoilt_9 rfl (lv_at hl 2 rfl) ?_
    replace hF := fx_b1_e hF
    obtain ⟨r_4, h_5, hF⟩ := hF
    refine cx_cVi (r := r_4) (ws := sC g Rs (some (Rn 100)) im S ++ (stC g Rn N ++ X)) (ws' := sC g Rs (some (Rn 100)) im S ++ (stC g Rn N ++ X)) (As := [.int p2]) (rest := []) E (mX1_isStripe_s l g A Rs Rn _ _ S N p2 h_5) (kwX1_X1_isStripe E ⟨Nat.le_of_ble_eq_true rfl, Nat.le_of_ble_eq_true rfl⟩) 0 1 rfl rfl rfl hw rfl hl.1 rfl (Nat.le_of_ble_eq_true rfl) dX1_whyNotSpoilt_10 ⟨Nat.le_of_ble_eq_true rfl, Nat.le_of_ble_eq_true rfl⟩ (fun H locs hw => ?_)
    refine lv_if_eq (tgt := 30) hx hb dX1_whyNotSpoilt_13 (by decide) (fun c_6 => ?_) (fun c_6 => ?_)
    · replace hF := fx_tt c_6 hF
      refine lv_iconst (v := (0 : Int32)) hx hb dX1_whyNotSpoilt_30 (by decide) ?_
      obtain rfl := Option.some.inj hF
      exact hret _ _ _ _ _ rfl rfl hw dX1_whyNotSpoilt_31
    · replace hF := fx_ff c_6 hF
      refine lv_iload_n hx hb dX1_whyNotSpoilt_16 rfl (lv_at hl 3 rfl) ?_
      refine lv_iconst (v := (0 : Int32)) hx hb dX1_whyNotSpoilt_17 (by decide) ?_
      refine lv_aload_n hx hb dX1_whyNotSpoilt_18 rfl (lv_at hl 0 rfl) ?_
      replace hF := fx_b1_e hF
      obtain ⟨r_7, h_8, hF⟩ := hF
      refine cx_cVi (r := r_7) (ws := sC g Rs (some (Rn 100)) im S ++ (stC g Rn N ++ X)) (ws' := sC g Rs (some (Rn 100)) im S ++ (stC g Rn N ++ X)) (As := []) (rest := [.int (0 : Int32), .int p3]) E (mX1_chunk l g A Rs _ _ _ S h_8) (kwX1_X1_chunk E ⟨Nat.le_of_ble_eq_true rfl, Nat.le_of_ble_eq_true rfl⟩) 0 1 rfl rfl rfl hw rfl hl.1 rfl (Nat.le_of_ble_eq_true rfl) dX1_whyNotSpoilt_19 ⟨Nat.le_of_ble_eq_true rfl, Nat.le_of_ble_eq_true rfl⟩ (fun H locs hw => ?_)
      refine lv_iconst (v := (1 : Int32)) hx hb dX1_whyNotSpoilt_22 (by decide) ?_
      refine lv_isub hx hb dX1_whyNotSpoilt_23 ?_
      replace hF := fx_b1_e hF
      obtain ⟨r_9, h_10, hF⟩ := hF
      refine cx_cSi (r := r_9) (ws := sC g Rs (some (Rn 100)) im S ++ (stC g Rn N ++ X)) (ws' := sC g Rs (some (Rn 100)) im S ++ (stC g Rn N ++ X)) (As := [.int p3, .int (0 : Int32), .int (r_7 - (1 : Int32))]) (rest := []) E (mX1_in l g A (sC g Rs (some (Rn 100)) im S ++ (stC g Rn N ++ X)) p3 (0 : Int32) (r_7 - (1 : Int32)) h_10) (kwX1_X1_in E ⟨Nat.le_of_ble_eq_true rfl, Nat.le_of_ble_eq_true rfl⟩) hw rfl hl.1 rfl (Nat.le_of_ble_eq_true rfl) dX1_whyNotSpoilt_24 ⟨Nat.le_of_ble_eq_true rfl, Nat.le_of_ble_eq_true rfl⟩ (fun H locs hw => ?_)
      refine lv_if_ne (tgt := 32) hx hb dX1_whyNotSpoilt_27 (by decide) (fun c_11 => ?_) (fun c_11 => ?_)
      · replace hF := fx_ff c_11 hF
        refine lv_iload hx hb dX1_whyNotSpoilt_32 (lv_at hl 4 rfl) ?_
        refine lv_iconst (v := (1 : Int32)) hx hb dX1_whyNotSpoilt_34 (by decide) ?_
        refine lv_sipush (v := (255 : Int32)) hx hb dX1_whyNotSpoilt_35 (by decide) ?_
        replace hF := fx_b1_e hF
        obtain ⟨r_12, h_13, hF⟩ := hF
        refine cx_cSi (r := r_12) (ws := sC g Rs (some (Rn 100)) im S ++ (stC g Rn N ++ X)) (ws' := sC g Rs (some (Rn 100)) im S ++ (stC g Rn N ++ X)) (As := [.int p4, .int (1 : Int32), .int (255 : Int32)]) (rest := []) E (mX1_in l g A (sC g Rs (some (Rn 100)) im S ++ (stC g Rn N ++ X)) p4 (1 : Int32) (255 : Int32) h_13) (kwX1_X1_in E ⟨Nat.le_of_ble_eq_true rfl, Nat.le_of_ble_eq_true rfl⟩) hw rfl hl.1 rfl (Nat.le_of_ble_eq_true rfl) dX1_whyNotSpoilt_38 ⟨Nat.le_of_ble_eq_true rfl, Nat.le_of_ble_eq_true rfl⟩ (fun H locs hw => ?_)
        refine lv_if_ne (tgt := 48) hx hb dX1_whyNotSpoilt_41 (by decide) (fun c_14 => ?_) (fun c_14 => ?_)
        · replace hF := fx_ff c_14 hF
          refine lv_aload_n hx hb dX1_whyNotSpoilt_48 rfl (lv_at hl 0 rfl) ?_
          refine gX1_19s E hw dX1_whyNotSpoilt_49 ?_
          refine lv_iload_n hx hb dX1_whyNotSpoilt_52 rfl (lv_at hl 1 rfl) ?_
          refine lv_iload_n hx hb dX1_whyNotSpoilt_53 rfl (lv_at hl 2 rfl) ?_
          replace hF := fx_b1_e hF
          obtain ⟨r_15, h_16, hF⟩ := hF
          have hw : cx_W g A s (stC g Rn N ++ (sC g Rs (some (Rn 100)) im S ++ X)) H locs := cx_W.perm hw (List.perm_append_comm_assoc _ _ _)
          refine cx_cVi (r := r_15) (ws := stC g Rn N ++ (sC g Rs (some (Rn 100)) im S ++ X)) (ws' := stC g Rn N ++ (sC g Rs (some (Rn 100)) im S ++ X)) (As := [.int p1, .int p2]) (rest := []) E (mX7_isThere l g A Rn _ N p1 p2 h_16) (kwX1_X7_isThere E ⟨Nat.le_of_ble_eq_true rfl, Nat.le_of_ble_eq_true rfl⟩) 0 2 rfl rfl rfl hw rfl hl.1 rfl (Nat.le_of_ble_eq_true rfl) dX1_whyNotSpoilt_54 ⟨Nat.le_of_ble_eq_true rfl, Nat.le_of_ble_eq_true rfl⟩ (fun H locs hw => ?_)
          have hw : cx_W g A s (sC g Rs (some (Rn 100)) im S ++ (stC g Rn N ++ X)) H locs := cx_W.perm hw (List.perm_append_comm_assoc _ _ _)
          refine lv_if_eq (tgt := 64) hx hb dX1_whyNotSpoilt_57 (by decide) (fun c_17 => ?_) (fun c_17 => ?_)
          · replace hF := fx_tt c_17 hF
            refine lv_iconst (v := (2 : Int32)) hx hb dX1_whyNotSpoilt_64 (by decide) ?_
            obtain rfl := Option.some.inj hF
            exact hret _ _ _ _ _ rfl rfl hw dX1_whyNotSpoilt_65
          · replace hF := fx_ff c_17 hF
            refine lv_iconst (v := (-1 : Int32)) hx hb dX1_whyNotSpoilt_60 (by decide) ?_
            refine lv_goto (tgt := 65) hx hb dX1_whyNotSpoilt_61 (by decide) ?_
            obtain rfl := Option.some.inj hF
            exact hret _ _ _ _ _ rfl rfl hw dX1_whyNotSpoilt_65
        · replace hF := fx_tt c_14 hF
          refine lv_iconst (v := (1 : Int32)) hx hb dX1_whyNotSpoilt_44 (by decide) ?_
          refine lv_goto (tgt := 65) hx hb dX1_whyNotSpoilt_45 (by decide) ?_
          obtain rfl := Option.some.inj hF
          exact hret _ _ _ _ _ rfl rfl hw dX1_whyNotSpoilt_65
      · replace hF := fx_tt c_11 hF
        refine lv_iconst (v := (0 : Int32)) hx hb dX1_whyNotSpoilt_30 (by decide) ?_
        obtain rfl := Option.some.inj hF
        exact hret _ _ _ _ _ rfl rfl hw dX1_whyNotSpoilt_31
/-! whyNotSpoilt(IIII)I -/
def FX1_whyNotSpoilt_n (S : Sx) (p1 : Int32) (p2 : Int32) (p3 : Int32) (p4 : Int32) : Option Int32 :=
  some (0 : Int32)
set_option maxHeartbeats 4000000 in
set_option maxRecDepth 100000 in
theorem mX1_whyNotSpoilt_n (l : Launch) (g : Gx) (A : Nat → Prop) (Rs : Nat → Nat) (im : Option Nat) (X : va_W) (S : Sx) (p1 : Int32) (p2 : Int32) (p3 : Int32) (p4 : Int32) {o : Int32} (hF : FX1_whyNotSpoilt_n S p1 p2 p3 p4 = some o) :
    cx_i l yX1_whyNotSpoilt cX1_whyNotSpoilt 5 .int rmX1_whyNotSpoilt [.ref (Rs 100), .int p1, .int p2, .int p3, .int p4] g A (sC g Rs none im S ++ X) o (sC g Rs none im S ++ X) 0 0 := by
  refine cx_i_of (by decide) (Nat.le_of_ble_eq_true rfl) ?_
  intro p e s m av below meth c Q E hret H hw ls hl
  have E : cx_E p m meth c cX1_whyNotSpoilt 5 s av RX1 g A := E
  have hx := E.1.1
  have hb := E.1.2.1
  have hl : lv_has ls 5 [(0, .ref (Rs 100)), (1, .int p1), (2, .int p2), (3, .int p3), (4, .int p4)] := hl
  generalize hlc : ([] : List Loc) = locs at hw ⊢
  clear hlc
  unfold FX1_whyNotSpoilt_n at hF
  refine lv_aload_n hx hb dX1_whyNotSpoilt_0 rfl (lv_at hl 0 rfl) ?_
  refine lv_iload_n hx hb dX1_whyNotSpoilt_1 rfl (lv_at hl 1 rfl) ?_
  refine cx_cVi (r := (0 : Int32)) (ws := sC g Rs none im S ++ X) (ws' := sC g Rs none im S ++ X) (As := [.int p1]) (rest := []) E (mX1_isDisk_n l g A Rs _ _ S p1 (o := (0 : Int32)) rfl) (kwX1_X1_isDisk E ⟨Nat.le_of_ble_eq_true rfl, Nat.le_of_ble_eq_true rfl⟩) 0 1 rfl rfl rfl hw rfl hl.1 rfl (Nat.le_of_ble_eq_true rfl) dX1_whyNotSpoilt_2 ⟨Nat.le_of_ble_eq_true rfl, Nat.le_of_ble_eq_true rfl⟩ (fun H locs hw => ?_)
  refine lv_if_eq (tgt := 30) hx hb dX1_whyNotSpoilt_5 (by decide) (fun _ => ?_) (fun c_ => absurd c_ (by decide))
  refine lv_iconst (v := (0 : Int32)) hx hb dX1_whyNotSpoilt_30 (by decide) ?_
  obtain rfl := Option.some.inj hF
  exact hret _ _ _ _ _ rfl rfl hw dX1_whyNotSpoilt_31
/-! isAllThere(I)Z -/
def FX1_isAllThere_s (S : Sx) (N : Sx) (p1 : Int32) : Option (Int32 × Sx) :=
  fx_b1 (FX1_lays S p1) (fun S_1 => fx_b1 (FX1_isThere_s S_1 N (gx_I S_1 24) (gx_I S_1 26)) (fun r_3 => if r_3 = 0 then (some ((0 : Int32), S_1)) else (fx_b1 (FX1_data S_1) (fun r_6 => fx_b1 (FX1_isThere_s S_1 N (gx_I S_1 24) r_6) (fun r_8 => if r_8 = 0 then (some ((0 : Int32), S_1)) else (fx_b1 (FX1_data S_1) (fun r_11 => fx_b1 (FX1_isThere_s S_1 N (gx_I S_1 24) (r_11 + (1 : Int32))) (fun r_13 => if r_13 = 0 then (some ((0 : Int32), S_1)) else (some ((1 : Int32), S_1))))))))))
set_option maxHeartbeats 4000000 in
set_option maxRecDepth 100000 in
theorem mX1_isAllThere_s (l : Launch) (g : Gx) (A : Nat → Prop) (Rs Rn : Nat → Nat) (im : Option Nat) (X : va_W) (S : Sx) (N : Sx) (p1 : Int32) {o : Int32 × Sx} (hF : FX1_isAllThere_s S N p1 = some o) :
    cx_i l yX1_isAllThere cX1_isAllThere 2 .boolean rmX1_isAllThere [.ref (Rs 100), .int p1] g A (sC g Rs (some (Rn 100)) im S ++ (stC g Rn N ++ X)) o.1 (sC g Rs (some (Rn 100)) im o.2 ++ (stC g Rn N ++ X)) 0 0 := by
  refine cx_i_of (by decide) (Nat.le_of_ble_eq_true rfl) ?_
  intro p e s m av below meth c Q E hret H hw ls hl
  have E : cx_E p m meth c cX1_isAllThere 2 s av RX1 g A := E
  have hx := E.1.1
  have hb := E.1.2.1
  have hl : lv_has ls 2 [(0, .ref (Rs 100)), (1, .int p1)] := hl
  generalize hlc : ([] : List Loc) = locs at hw ⊢
  clear hlc
  unfold FX1_isAllThere_s at hF
  refine lv_aload_n hx hb dX1_isAllThere_0 rfl (lv_at hl 0 rfl) ?_
  refine lv_iload_n hx hb dX1_isAllThere_1 rfl (lv_at hl 1 rfl) ?_
  replace hF := fx_b1_e hF
  obtain ⟨S_1, h_2, hF⟩ := hF
  refine cx_cVv (ws := sC g Rs (some (Rn 100)) im S ++ (stC g Rn N ++ X)) (ws' := sC g Rs (some (Rn 100)) im S_1 ++ (stC g Rn N ++ X)) (As := [.int p1]) (rest := []) E (mX1_lays l g A Rs _ _ _ S p1 h_2) (kwX1_X1_lays E ⟨Nat.le_of_ble_eq_true rfl, Nat.le_of_ble_eq_true rfl⟩) 0 1 rfl rfl rfl hw rfl hl.1 rfl (Nat.le_of_ble_eq_true rfl) dX1_isAllThere_2 ⟨Nat.le_of_ble_eq_true rfl, Nat.le_of_ble_eq_true rfl⟩ (fun H locs hw => ?_)
  refine lv_aload_n hx hb dX1_isAllThere_5 rfl (lv_at hl 0 rfl) ?_
  refine lv_aload_n hx hb dX1_isAllThere_6 rfl (lv_at hl 0 rfl) ?_
  refine gX1_24 E hw dX1_isAllThere_7 ?_
  refine lv_aload_n hx hb dX1_isAllThere_10 rfl (lv_at hl 0 rfl) ?_
  refine gX1_26 E hw dX1_isAllThere_11 ?_
  replace hF := fx_b1_e hF
  obtain ⟨r_3, h_4, hF⟩ := hF
  refine cx_cVi (r := r_3) (ws := sC g Rs (some (Rn 100)) im S_1 ++ (stC g Rn N ++ X)) (ws' := sC g Rs (some (Rn 100)) im S_1 ++ (stC g Rn N ++ X)) (As := [.int (gx_I S_1 24), .int (gx_I S_1 26)]) (rest := []) E (mX1_isThere_s l g A Rs Rn _ _ S_1 N (gx_I S_1 24) (gx_I S_1 26) h_4) (kwX1_X1_isThere E ⟨Nat.le_of_ble_eq_true rfl, Nat.le_of_ble_eq_true rfl⟩) 0 1 rfl rfl rfl hw rfl hl.1 rfl (Nat.le_of_ble_eq_true rfl) dX1_isAllThere_14 ⟨Nat.le_of_ble_eq_true rfl, Nat.le_of_ble_eq_true rfl⟩ (fun H locs hw => ?_)
  refine lv_if_eq (tgt := 56) hx hb dX1_isAllThere_17 (by decide) (fun c_5 => ?_) (fun c_5 => ?_)
  · replace hF := fx_tt c_5 hF
    refine lv_iconst (v := (0 : Int32)) hx hb dX1_isAllThere_56 (by decide) ?_
    obtain rfl := Option.some.inj hF
    exact hret _ _ _ _ _ rfl (by decide) hw dX1_isAllThere_57
  · replace hF := fx_ff c_5 hF
    refine lv_aload_n hx hb dX1_isAllThere_20 rfl (lv_at hl 0 rfl) ?_
    refine lv_aload_n hx hb dX1_isAllThere_21 rfl (lv_at hl 0 rfl) ?_
    refine gX1_24 E hw dX1_isAllThere_22 ?_
    refine lv_aload_n hx hb dX1_isAllThere_25 rfl (lv_at hl 0 rfl) ?_
    replace hF := fx_b1_e hF
    obtain ⟨r_6, h_7, hF⟩ := hF
    refine cx_cVi (r := r_6) (ws := sC g Rs (some (Rn 100)) im S_1 ++ (stC g Rn N ++ X)) (ws' := sC g Rs (some (Rn 100)) im S_1 ++ (stC g Rn N ++ X)) (As := []) (rest := [.int (gx_I S_1 24), .ref (Rs 100)]) E (mX1_data l g A Rs _ _ _ S_1 h_7) (kwX1_X1_data E ⟨Nat.le_of_ble_eq_true rfl, Nat.le_of_ble_eq_true rfl⟩) 0 1 rfl rfl rfl hw rfl hl.1 rfl (Nat.le_of_ble_eq_true rfl) dX1_isAllThere_26 ⟨Nat.le_of_ble_eq_true rfl, Nat.le_of_ble_eq_true rfl⟩ (fun H locs hw => ?_)
    replace hF := fx_b1_e hF
    obtain ⟨r_8, h_9, hF⟩ := hF
    refine cx_cVi (r := r_8) (ws := sC g Rs (some (Rn 100)) im S_1 ++ (stC g Rn N ++ X)) (ws' := sC g Rs (some (Rn 100)) im S_1 ++ (stC g Rn N ++ X)) (As := [.int (gx_I S_1 24), .int r_6]) (rest := []) E (mX1_isThere_s l g A Rs Rn _ _ S_1 N (gx_I S_1 24) r_6 h_9) (kwX1_X1_isThere E ⟨Nat.le_of_ble_eq_true rfl, Nat.le_of_ble_eq_true rfl⟩) 0 1 rfl rfl rfl hw rfl hl.1 rfl (Nat.le_of_ble_eq_true rfl) dX1_isAllThere_29 ⟨Nat.le_of_ble_eq_true rfl, Nat.le_of_ble_eq_true rfl⟩ (fun H locs hw => ?_)
    refine lv_if_eq (tgt := 56) hx hb dX1_isAllThere_32 (by decide) (fun c_10 => ?_) (fun c_10 => ?_)
    · replace hF := fx_tt c_10 hF
      refine lv_iconst (v := (0 : Int32)) hx hb dX1_isAllThere_56 (by decide) ?_
      obtain rfl := Option.some.inj hF
      exact hret _ _ _ _ _ rfl (by decide) hw dX1_isAllThere_57
    · replace hF := fx_ff c_10 hF
      refine lv_aload_n hx hb dX1_isAllThere_35 rfl (lv_at hl 0 rfl) ?_
      refine lv_aload_n hx hb dX1_isAllThere_36 rfl (lv_at hl 0 rfl) ?_
      refine gX1_24 E hw dX1_isAllThere_37 ?_
      refine lv_aload_n hx hb dX1_isAllThere_40 rfl (lv_at hl 0 rfl) ?_
      replace hF := fx_b1_e hF
      obtain ⟨r_11, h_12, hF⟩ := hF
      refine cx_cVi (r := r_11) (ws := sC g Rs (some (Rn 100)) im S_1 ++ (stC g Rn N ++ X)) (ws' := sC g Rs (some (Rn 100)) im S_1 ++ (stC g Rn N ++ X)) (As := []) (rest := [.int (gx_I S_1 24), .ref (Rs 100)]) E (mX1_data l g A Rs _ _ _ S_1 h_12) (kwX1_X1_data E ⟨Nat.le_of_ble_eq_true rfl, Nat.le_of_ble_eq_true rfl⟩) 0 1 rfl rfl rfl hw rfl hl.1 rfl (Nat.le_of_ble_eq_true rfl) dX1_isAllThere_41 ⟨Nat.le_of_ble_eq_true rfl, Nat.le_of_ble_eq_true rfl⟩ (fun H locs hw => ?_)
      refine lv_iconst (v := (1 : Int32)) hx hb dX1_isAllThere_44 (by decide) ?_
      refine lv_iadd hx hb dX1_isAllThere_45 ?_
      replace hF := fx_b1_e hF
      obtain ⟨r_13, h_14, hF⟩ := hF
      refine cx_cVi (r := r_13) (ws := sC g Rs (some (Rn 100)) im S_1 ++ (stC g Rn N ++ X)) (ws' := sC g Rs (some (Rn 100)) im S_1 ++ (stC g Rn N ++ X)) (As := [.int (gx_I S_1 24), .int (r_11 + (1 : Int32))]) (rest := []) E (mX1_isThere_s l g A Rs Rn _ _ S_1 N (gx_I S_1 24) (r_11 + (1 : Int32)) h_14) (kwX1_X1_isThere E ⟨Nat.le_of_ble_eq_true rfl, Nat.le_of_ble_eq_true rfl⟩) 0 1 rfl rfl rfl hw rfl hl.1 rfl (Nat.le_of_ble_eq_true rfl) dX1_isAllThere_46 ⟨Nat.le_of_ble_eq_true rfl, Nat.le_of_ble_eq_true rfl⟩ (fun H locs hw => ?_)
      refine lv_if_eq (tgt := 56) hx hb dX1_isAllThere_49 (by decide) (fun c_15 => ?_) (fun c_15 => ?_)
      · replace hF := fx_tt c_15 hF
        refine lv_iconst (v := (0 : Int32)) hx hb dX1_isAllThere_56 (by decide) ?_
        obtain rfl := Option.some.inj hF
        exact hret _ _ _ _ _ rfl (by decide) hw dX1_isAllThere_57
      · replace hF := fx_ff c_15 hF
        refine lv_iconst (v := (1 : Int32)) hx hb dX1_isAllThere_52 (by decide) ?_
        refine lv_goto (tgt := 57) hx hb dX1_isAllThere_53 (by decide) ?_
        obtain rfl := Option.some.inj hF
        exact hret _ _ _ _ _ rfl (by decide) hw dX1_isAllThere_57
/-! isAllThere(I)Z -/
def FX1_isAllThere_n (S : Sx) (p1 : Int32) : Option (Int32 × Sx) :=
  fx_b1 (FX1_lays S p1) (fun S_1 => fx_b1 (FX1_isThere_n S_1 (gx_I S_1 24) (gx_I S_1 26)) (fun r_3 => if r_3 = 0 then (some ((0 : Int32), S_1)) else (fx_b1 (FX1_data S_1) (fun r_6 => fx_b1 (FX1_isThere_n S_1 (gx_I S_1 24) r_6) (fun r_8 => if r_8 = 0 then (some ((0 : Int32), S_1)) else (fx_b1 (FX1_data S_1) (fun r_11 => fx_b1 (FX1_isThere_n S_1 (gx_I S_1 24) (r_11 + (1 : Int32))) (fun r_13 => if r_13 = 0 then (some ((0 : Int32), S_1)) else (some ((1 : Int32), S_1))))))))))
set_option maxHeartbeats 4000000 in
set_option maxRecDepth 100000 in
theorem mX1_isAllThere_n (l : Launch) (g : Gx) (A : Nat → Prop) (Rs : Nat → Nat) (im : Option Nat) (X : va_W) (S : Sx) (p1 : Int32) {o : Int32 × Sx} (hF : FX1_isAllThere_n S p1 = some o) :
    cx_i l yX1_isAllThere cX1_isAllThere 2 .boolean rmX1_isAllThere [.ref (Rs 100), .int p1] g A (sC g Rs none im S ++ X) o.1 (sC g Rs none im o.2 ++ X) 0 0 := by
  refine cx_i_of (by decide) (Nat.le_of_ble_eq_true rfl) ?_
  intro p e s m av below meth c Q E hret H hw ls hl
  have E : cx_E p m meth c cX1_isAllThere 2 s av RX1 g A := E
  have hx := E.1.1
  have hb := E.1.2.1
  have hl : lv_has ls 2 [(0, .ref (Rs 100)), (1, .int p1)] := hl
  generalize hlc : ([] : List Loc) = locs at hw ⊢
  clear hlc
  unfold FX1_isAllThere_n at hF
  refine lv_aload_n hx hb dX1_isAllThere_0 rfl (lv_at hl 0 rfl) ?_
  refine lv_iload_n hx hb dX1_isAllThere_1 rfl (lv_at hl 1 rfl) ?_
  replace hF := fx_b1_e hF
  obtain ⟨S_1, h_2, hF⟩ := hF
  refine cx_cVv (ws := sC g Rs none im S ++ X) (ws' := sC g Rs none im S_1 ++ X) (As := [.int p1]) (rest := []) E (mX1_lays l g A Rs _ _ _ S p1 h_2) (kwX1_X1_lays E ⟨Nat.le_of_ble_eq_true rfl, Nat.le_of_ble_eq_true rfl⟩) 0 1 rfl rfl rfl hw rfl hl.1 rfl (Nat.le_of_ble_eq_true rfl) dX1_isAllThere_2 ⟨Nat.le_of_ble_eq_true rfl, Nat.le_of_ble_eq_true rfl⟩ (fun H locs hw => ?_)
  refine lv_aload_n hx hb dX1_isAllThere_5 rfl (lv_at hl 0 rfl) ?_
  refine lv_aload_n hx hb dX1_isAllThere_6 rfl (lv_at hl 0 rfl) ?_
  refine gX1_24 E hw dX1_isAllThere_7 ?_
  refine lv_aload_n hx hb dX1_isAllThere_10 rfl (lv_at hl 0 rfl) ?_
  refine gX1_26 E hw dX1_isAllThere_11 ?_
  replace hF := fx_b1_e hF
  obtain ⟨r_3, h_4, hF⟩ := hF
  refine cx_cVi (r := r_3) (ws := sC g Rs none im S_1 ++ X) (ws' := sC g Rs none im S_1 ++ X) (As := [.int (gx_I S_1 24), .int (gx_I S_1 26)]) (rest := []) E (mX1_isThere_n l g A Rs _ _ S_1 (gx_I S_1 24) (gx_I S_1 26) h_4) (kwX1_X1_isThere E ⟨Nat.le_of_ble_eq_true rfl, Nat.le_of_ble_eq_true rfl⟩) 0 1 rfl rfl rfl hw rfl hl.1 rfl (Nat.le_of_ble_eq_true rfl) dX1_isAllThere_14 ⟨Nat.le_of_ble_eq_true rfl, Nat.le_of_ble_eq_true rfl⟩ (fun H locs hw => ?_)
  refine lv_if_eq (tgt := 56) hx hb dX1_isAllThere_17 (by decide) (fun c_5 => ?_) (fun c_5 => ?_)
  · replace hF := fx_tt c_5 hF
    refine lv_iconst (v := (0 : Int32)) hx hb dX1_isAllThere_56 (by decide) ?_
    obtain rfl := Option.some.inj hF
    exact hret _ _ _ _ _ rfl (by decide) hw dX1_isAllThere_57
  · replace hF := fx_ff c_5 hF
    refine lv_aload_n hx hb dX1_isAllThere_20 rfl (lv_at hl 0 rfl) ?_
    refine lv_aload_n hx hb dX1_isAllThere_21 rfl (lv_at hl 0 rfl) ?_
    refine gX1_24 E hw dX1_isAllThere_22 ?_
    refine lv_aload_n hx hb dX1_isAllThere_25 rfl (lv_at hl 0 rfl) ?_
    replace hF := fx_b1_e hF
    obtain ⟨r_6, h_7, hF⟩ := hF
    refine cx_cVi (r := r_6) (ws := sC g Rs none im S_1 ++ X) (ws' := sC g Rs none im S_1 ++ X) (As := []) (rest := [.int (gx_I S_1 24), .ref (Rs 100)]) E (mX1_data l g A Rs _ _ _ S_1 h_7) (kwX1_X1_data E ⟨Nat.le_of_ble_eq_true rfl, Nat.le_of_ble_eq_true rfl⟩) 0 1 rfl rfl rfl hw rfl hl.1 rfl (Nat.le_of_ble_eq_true rfl) dX1_isAllThere_26 ⟨Nat.le_of_ble_eq_true rfl, Nat.le_of_ble_eq_true rfl⟩ (fun H locs hw => ?_)
    replace hF := fx_b1_e hF
    obtain ⟨r_8, h_9, hF⟩ := hF
    refine cx_cVi (r := r_8) (ws := sC g Rs none im S_1 ++ X) (ws' := sC g Rs none im S_1 ++ X) (As := [.int (gx_I S_1 24), .int r_6]) (rest := []) E (mX1_isThere_n l g A Rs _ _ S_1 (gx_I S_1 24) r_6 h_9) (kwX1_X1_isThere E ⟨Nat.le_of_ble_eq_true rfl, Nat.le_of_ble_eq_true rfl⟩) 0 1 rfl rfl rfl hw rfl hl.1 rfl (Nat.le_of_ble_eq_true rfl) dX1_isAllThere_29 ⟨Nat.le_of_ble_eq_true rfl, Nat.le_of_ble_eq_true rfl⟩ (fun H locs hw => ?_)
    refine lv_if_eq (tgt := 56) hx hb dX1_isAllThere_32 (by decide) (fun c_10 => ?_) (fun c_10 => ?_)
    · replace hF := fx_tt c_10 hF
      refine lv_iconst (v := (0 : Int32)) hx hb dX1_isAllThere_56 (by decide) ?_
      obtain rfl := Option.some.inj hF
      exact hret _ _ _ _ _ rfl (by decide) hw dX1_isAllThere_57
    · replace hF := fx_ff c_10 hF
      refine lv_aload_n hx hb dX1_isAllThere_35 rfl (lv_at hl 0 rfl) ?_
      refine lv_aload_n hx hb dX1_isAllThere_36 rfl (lv_at hl 0 rfl) ?_
      refine gX1_24 E hw dX1_isAllThere_37 ?_
      refine lv_aload_n hx hb dX1_isAllThere_40 rfl (lv_at hl 0 rfl) ?_
      replace hF := fx_b1_e hF
      obtain ⟨r_11, h_12, hF⟩ := hF
      refine cx_cVi (r := r_11) (ws := sC g Rs none im S_1 ++ X) (ws' := sC g Rs none im S_1 ++ X) (As := []) (rest := [.int (gx_I S_1 24), .ref (Rs 100)]) E (mX1_data l g A Rs _ _ _ S_1 h_12) (kwX1_X1_data E ⟨Nat.le_of_ble_eq_true rfl, Nat.le_of_ble_eq_true rfl⟩) 0 1 rfl rfl rfl hw rfl hl.1 rfl (Nat.le_of_ble_eq_true rfl) dX1_isAllThere_41 ⟨Nat.le_of_ble_eq_true rfl, Nat.le_of_ble_eq_true rfl⟩ (fun H locs hw => ?_)
      refine lv_iconst (v := (1 : Int32)) hx hb dX1_isAllThere_44 (by decide) ?_
      refine lv_iadd hx hb dX1_isAllThere_45 ?_
      replace hF := fx_b1_e hF
      obtain ⟨r_13, h_14, hF⟩ := hF
      refine cx_cVi (r := r_13) (ws := sC g Rs none im S_1 ++ X) (ws' := sC g Rs none im S_1 ++ X) (As := [.int (gx_I S_1 24), .int (r_11 + (1 : Int32))]) (rest := []) E (mX1_isThere_n l g A Rs _ _ S_1 (gx_I S_1 24) (r_11 + (1 : Int32)) h_14) (kwX1_X1_isThere E ⟨Nat.le_of_ble_eq_true rfl, Nat.le_of_ble_eq_true rfl⟩) 0 1 rfl rfl rfl hw rfl hl.1 rfl (Nat.le_of_ble_eq_true rfl) dX1_isAllThere_46 ⟨Nat.le_of_ble_eq_true rfl, Nat.le_of_ble_eq_true rfl⟩ (fun H locs hw => ?_)
      refine lv_if_eq (tgt := 56) hx hb dX1_isAllThere_49 (by decide) (fun c_15 => ?_) (fun c_15 => ?_)
      · replace hF := fx_tt c_15 hF
        refine lv_iconst (v := (0 : Int32)) hx hb dX1_isAllThere_56 (by decide) ?_
        obtain rfl := Option.some.inj hF
        exact hret _ _ _ _ _ rfl (by decide) hw dX1_isAllThere_57
      · replace hF := fx_ff c_15 hF
        refine lv_iconst (v := (1 : Int32)) hx hb dX1_isAllThere_52 (by decide) ?_
        refine lv_goto (tgt := 57) hx hb dX1_isAllThere_53 (by decide) ?_
        obtain rfl := Option.some.inj hF
        exact hret _ _ _ _ _ rfl (by decide) hw dX1_isAllThere_57
/-! absent(I)I -/
def JX1_absent_s_33 (x2_1 : Int32) : Option Int32 :=
  some x2_1
def JX1_absent_s_27 (x3_3 : Int32) (x2_9 : Int32) : Option ((Int32 × Int32) ⊕ (Int32)) :=
  fx_lt (x3_3 + (1 : Int32)) (fun v_10 => some (.inl (x2_9, v_10)))
def LX1_absent_s_4 (S : Sx) (N : Sx) (p1 : Int32) (q_ : Int32 × Int32) : Option ((Int32 × Int32) ⊕ (Int32)) :=
  fx_u2 q_ (fun x2_2 x3_3 => fx_b1 (FX1_disks S) (fun r_4 => if r_4 ≤ x3_3 then (some (.inr x2_2)) else (fx_b1 (FX1_isThere_s S N p1 x3_3) (fun r_7 => if r_7 = 0 then (fx_lt (x2_2 ||| ((1 : Int32) <<< (x3_3 &&& 31))) (fun v_12 => JX1_absent_s_27 x3_3 v_12)) else (JX1_absent_s_27 x3_3 x2_2)))))
def FX1_absent_s (S : Sx) (N : Sx) (p1 : Int32) : Option Int32 :=
  fx_b1 (fx_lp (LX1_absent_s_4 S N p1) 2000 ((0 : Int32), (0 : Int32))) (fun y2_13 => JX1_absent_s_33 y2_13)
set_option maxHeartbeats 4000000 in
set_option maxRecDepth 100000 in
theorem mX1_absent_s (l : Launch) (g : Gx) (A : Nat → Prop) (Rs Rn : Nat → Nat) (im : Option Nat) (X : va_W) (S : Sx) (N : Sx) (p1 : Int32) {o : Int32} (hF : FX1_absent_s S N p1 = some o) :
    cx_i l yX1_absent cX1_absent 4 .int rmX1_absent [.ref (Rs 100), .int p1] g A (sC g Rs (some (Rn 100)) im S ++ (stC g Rn N ++ X)) o (sC g Rs (some (Rn 100)) im S ++ (stC g Rn N ++ X)) 0 0 := by
  refine cx_i_of (by decide) (Nat.le_of_ble_eq_true rfl) ?_
  intro p e s m av below meth c Q E hret H hw ls hl
  have E : cx_E p m meth c cX1_absent 4 s av RX1 g A := E
  have hx := E.1.1
  have hb := E.1.2.1
  have hl : lv_has ls 4 [(0, .ref (Rs 100)), (1, .int p1)] := hl
  generalize hlc : ([] : List Loc) = locs at hw ⊢
  clear hlc
  unfold FX1_absent_s at hF
  refine lv_iconst (v := (0 : Int32)) hx hb dX1_absent_0 (by decide) ?_
  refine lv_istore_n hx hb dX1_absent_1 rfl hl (by decide) rfl (fun ls hl => ?_)
  have hl : lv_has ls 4 [(2, .int (0 : Int32)), (0, .ref (Rs 100)), (1, .int p1)] := hl
  refine lv_iconst (v := (0 : Int32)) hx hb dX1_absent_2 (by decide) ?_
  refine lv_istore_n hx hb dX1_absent_3 rfl hl (by decide) rfl (fun ls hl => ?_)
  have hl : lv_has ls 4 [(3, .int (0 : Int32)), (2, .int (0 : Int32)), (0, .ref (Rs 100)), (1, .int p1)] := hl
  have jn_33 : ∀ (x2_1 : Int32), JX1_absent_s_33 x2_1 = some o → ∀ (H : Heap) (locs : List Loc) (ls : Array Slot), cx_W g A s (sC g Rs (some (Rn 100)) im S ++ (stC g Rn N ++ X)) H locs → lv_has ls 4 [(2, .int x2_1)] → W p l e rmX1_absent s m av below meth c H locs 0 0 Q (F0 m 33 ls []) := by
    intro x2_1 hJ_33 H locs ls hw hl
    unfold JX1_absent_s_33 at hJ_33
    refine lv_iload_n hx hb dX1_absent_33 rfl (lv_at hl 0 rfl) ?_
    obtain rfl := Option.some.inj hJ_33
    exact hret _ _ _ _ _ rfl rfl hw dX1_absent_34
  replace hF := fx_b1_e hF
  obtain ⟨ex_4, hL_4, hF⟩ := hF
  have key_4 : ∀ (n_4 : Nat) (x2_2 : Int32) (x3_3 : Int32), fx_lp (LX1_absent_s_4 S N p1) n_4 (x2_2, x3_3) = some ex_4 → ∀ (H : Heap) (locs : List Loc) (ls : Array Slot), cx_W g A s (sC g Rs (some (Rn 100)) im S ++ (stC g Rn N ++ X)) H locs → lv_has ls 4 [(0, .ref (Rs 100)), (1, .int p1), (2, .int x2_2), (3, .int x3_3)] → W p l e rmX1_absent s m av below meth c H locs 0 0 Q (F0 m 4 ls []) := by
    intro n_4
    induction n_4 with
    | zero => intro x2_2 x3_3 hL_4; exact fx_lp_0 hL_4
    | succ n_4 ih_4 =>
      intro x2_2 x3_3 hL_4 H locs ls hw hl
      replace hL_4 := fx_lp_s hL_4
      obtain ⟨o_4, hB_4, hO_4⟩ := hL_4
      unfold LX1_absent_s_4 at hB_4
      replace hB_4 := fx_u2_e hB_4
      refine lv_iload_n hx hb dX1_absent_4 rfl (lv_at hl 3 rfl) ?_
      refine lv_aload_n hx hb dX1_absent_5 rfl (lv_at hl 0 rfl) ?_
      replace hB_4 := fx_b1_e hB_4
      obtain ⟨r_4, h_5, hB_4⟩ := hB_4
      refine cx_cVi (r := r_4) (ws := sC g Rs (some (Rn 100)) im S ++ (stC g Rn N ++ X)) (ws' := sC g Rs (some (Rn 100)) im S ++ (stC g Rn N ++ X)) (As := []) (rest := [.int x3_3]) E (mX1_disks l g A Rs _ _ _ S h_5) (kwX1_X1_disks E ⟨Nat.le_of_ble_eq_true rfl, Nat.le_of_ble_eq_true rfl⟩) 0 1 rfl rfl rfl hw rfl hl.1 rfl (Nat.le_of_ble_eq_true rfl) dX1_absent_6 ⟨Nat.le_of_ble_eq_true rfl, Nat.le_of_ble_eq_true rfl⟩ (fun H locs hw => ?_)
      refine lv_icmp_ge (tgt := 33) hx hb dX1_absent_9 (by decide) (fun c_6 => ?_) (fun c_6 => ?_)
      · replace hB_4 := fx_tt c_6 hB_4
        obtain rfl := fx_ex hB_4 hO_4
        exact jn_33 x2_2 hF _ _ _ hw (lv_sub hl [2] rfl)
      · replace hB_4 := fx_ff c_6 hB_4
        refine lv_aload_n hx hb dX1_absent_12 rfl (lv_at hl 0 rfl) ?_
        refine lv_iload_n hx hb dX1_absent_13 rfl (lv_at hl 1 rfl) ?_
        refine lv_iload_n hx hb dX1_absent_14 rfl (lv_at hl 3 rfl) ?_
        replace hB_4 := fx_b1_e hB_4
        obtain ⟨r_7, h_8, hB_4⟩ := hB_4
        refine cx_cVi (r := r_7) (ws := sC g Rs (some (Rn 100)) im S ++ (stC g Rn N ++ X)) (ws' := sC g Rs (some (Rn 100)) im S ++ (stC g Rn N ++ X)) (As := [.int p1, .int x3_3]) (rest := []) E (mX1_isThere_s l g A Rs Rn _ _ S N p1 x3_3 h_8) (kwX1_X1_isThere E ⟨Nat.le_of_ble_eq_true rfl, Nat.le_of_ble_eq_true rfl⟩) 0 1 rfl rfl rfl hw rfl hl.1 rfl (Nat.le_of_ble_eq_true rfl) dX1_absent_15 ⟨Nat.le_of_ble_eq_true rfl, Nat.le_of_ble_eq_true rfl⟩ (fun H locs hw => ?_)
        have jn_27 : ∀ (x2_9 : Int32), JX1_absent_s_27 x3_3 x2_9 = some o_4 → ∀ (H : Heap) (locs : List Loc) (ls : Array Slot), cx_W g A s (sC g Rs (some (Rn 100)) im S ++ (stC g Rn N ++ X)) H locs → lv_has ls 4 [(0, .ref (Rs 100)), (1, .int p1), (2, .int x2_9), (3, .int x3_3)] → W p l e rmX1_absent s m av below meth c H locs 0 0 Q (F0 m 27 ls []) := by
          intro x2_9 hJ_27 H locs ls hw hl
          unfold JX1_absent_s_27 at hJ_27
          obtain ⟨v_10, ev_10⟩ : ∃ z : Int32, z = x3_3 + (1 : Int32) := ⟨_, rfl⟩
          replace hJ_27 := fx_lt_e ev_10 hJ_27
          refine cx_iinc (z := (1 : Int32)) (v := v_10) hx hb dX1_absent_27 hl (k := 3) rfl (by decide) ev_10 (by decide) rfl (fun ls hl => ?_)
          have hl : lv_has ls 4 [(3, .int v_10), (0, .ref (Rs 100)), (1, .int p1), (2, .int x2_9)] := hl
          refine lv_goto (tgt := 4) hx hb dX1_absent_30 (by decide) ?_
          exact ih_4 x2_9 v_10 (fx_bk hJ_27 hO_4) _ _ _ hw (lv_sub hl [1, 2, 3, 0] rfl)
        refine lv_if_ne (tgt := 27) hx hb dX1_absent_18 (by decide) (fun c_11 => ?_) (fun c_11 => ?_)
        · replace hB_4 := fx_ff c_11 hB_4
          exact jn_27 x2_2 hB_4 _ _ _ hw hl
        · replace hB_4 := fx_tt c_11 hB_4
          refine lv_iload_n hx hb dX1_absent_21 rfl (lv_at hl 2 rfl) ?_
          refine lv_iconst (v := (1 : Int32)) hx hb dX1_absent_22 (by decide) ?_
          refine lv_iload_n hx hb dX1_absent_23 rfl (lv_at hl 3 rfl) ?_
          refine lv_ishl hx hb dX1_absent_24 ?_
          refine lv_ior hx hb dX1_absent_25 ?_
          refine lv_topi (fun v_12 ev_12 => ?_)
          replace hB_4 := fx_lt_e ev_12 hB_4
          refine lv_istore_n hx hb dX1_absent_26 rfl hl (by decide) rfl (fun ls hl => ?_)
          have hl : lv_has ls 4 [(2, .int v_12), (0, .ref (Rs 100)), (1, .int p1), (3, .int x3_3)] := hl
          exact jn_27 v_12 hB_4 _ _ _ hw (lv_sub hl [1, 2, 0, 3] rfl)
  exact key_4 _ (0 : Int32) (0 : Int32) hL_4 _ _ _ hw (lv_sub hl [2, 3, 1, 0] rfl)
/-! absent(I)I -/
def JX1_absent_n_33 (x2_1 : Int32) : Option Int32 :=
  some x2_1
def JX1_absent_n_27 (x3_3 : Int32) (x2_9 : Int32) : Option ((Int32 × Int32) ⊕ (Int32)) :=
  fx_lt (x3_3 + (1 : Int32)) (fun v_10 => some (.inl (x2_9, v_10)))
def LX1_absent_n_4 (S : Sx) (p1 : Int32) (q_ : Int32 × Int32) : Option ((Int32 × Int32) ⊕ (Int32)) :=
  fx_u2 q_ (fun x2_2 x3_3 => fx_b1 (FX1_disks S) (fun r_4 => if r_4 ≤ x3_3 then (some (.inr x2_2)) else (fx_b1 (FX1_isThere_n S p1 x3_3) (fun r_7 => if r_7 = 0 then (fx_lt (x2_2 ||| ((1 : Int32) <<< (x3_3 &&& 31))) (fun v_12 => JX1_absent_n_27 x3_3 v_12)) else (JX1_absent_n_27 x3_3 x2_2)))))
def FX1_absent_n (S : Sx) (p1 : Int32) : Option Int32 :=
  fx_b1 (fx_lp (LX1_absent_n_4 S p1) 2000 ((0 : Int32), (0 : Int32))) (fun y2_13 => JX1_absent_n_33 y2_13)
set_option maxHeartbeats 4000000 in
set_option maxRecDepth 100000 in
theorem mX1_absent_n (l : Launch) (g : Gx) (A : Nat → Prop) (Rs : Nat → Nat) (im : Option Nat) (X : va_W) (S : Sx) (p1 : Int32) {o : Int32} (hF : FX1_absent_n S p1 = some o) :
    cx_i l yX1_absent cX1_absent 4 .int rmX1_absent [.ref (Rs 100), .int p1] g A (sC g Rs none im S ++ X) o (sC g Rs none im S ++ X) 0 0 := by
  refine cx_i_of (by decide) (Nat.le_of_ble_eq_true rfl) ?_
  intro p e s m av below meth c Q E hret H hw ls hl
  have E : cx_E p m meth c cX1_absent 4 s av RX1 g A := E
  have hx := E.1.1
  have hb := E.1.2.1
  have hl : lv_has ls 4 [(0, .ref (Rs 100)), (1, .int p1)] := hl
  generalize hlc : ([] : List Loc) = locs at hw ⊢
  clear hlc
  unfold FX1_absent_n at hF
  refine lv_iconst (v := (0 : Int32)) hx hb dX1_absent_0 (by decide) ?_
  refine lv_istore_n hx hb dX1_absent_1 rfl hl (by decide) rfl (fun ls hl => ?_)
  have hl : lv_has ls 4 [(2, .int (0 : Int32)), (0, .ref (Rs 100)), (1, .int p1)] := hl
  refine lv_iconst (v := (0 : Int32)) hx hb dX1_absent_2 (by decide) ?_
  refine lv_istore_n hx hb dX1_absent_3 rfl hl (by decide) rfl (fun ls hl => ?_)
  have hl : lv_has ls 4 [(3, .int (0 : Int32)), (2, .int (0 : Int32)), (0, .ref (Rs 100)), (1, .int p1)] := hl
  have jn_33 : ∀ (x2_1 : Int32), JX1_absent_n_33 x2_1 = some o → ∀ (H : Heap) (locs : List Loc) (ls : Array Slot), cx_W g A s (sC g Rs none im S ++ X) H locs → lv_has ls 4 [(2, .int x2_1)] → W p l e rmX1_absent s m av below meth c H locs 0 0 Q (F0 m 33 ls []) := by
    intro x2_1 hJ_33 H locs ls hw hl
    unfold JX1_absent_n_33 at hJ_33
    refine lv_iload_n hx hb dX1_absent_33 rfl (lv_at hl 0 rfl) ?_
    obtain rfl := Option.some.inj hJ_33
    exact hret _ _ _ _ _ rfl rfl hw dX1_absent_34
  replace hF := fx_b1_e hF
  obtain ⟨ex_4, hL_4, hF⟩ := hF
  have key_4 : ∀ (n_4 : Nat) (x2_2 : Int32) (x3_3 : Int32), fx_lp (LX1_absent_n_4 S p1) n_4 (x2_2, x3_3) = some ex_4 → ∀ (H : Heap) (locs : List Loc) (ls : Array Slot), cx_W g A s (sC g Rs none im S ++ X) H locs → lv_has ls 4 [(0, .ref (Rs 100)), (1, .int p1), (2, .int x2_2), (3, .int x3_3)] → W p l e rmX1_absent s m av below meth c H locs 0 0 Q (F0 m 4 ls []) := by
    intro n_4
    induction n_4 with
    | zero => intro x2_2 x3_3 hL_4; exact fx_lp_0 hL_4
    | succ n_4 ih_4 =>
      intro x2_2 x3_3 hL_4 H locs ls hw hl
      replace hL_4 := fx_lp_s hL_4
      obtain ⟨o_4, hB_4, hO_4⟩ := hL_4
      unfold LX1_absent_n_4 at hB_4
      replace hB_4 := fx_u2_e hB_4
      refine lv_iload_n hx hb dX1_absent_4 rfl (lv_at hl 3 rfl) ?_
      refine lv_aload_n hx hb dX1_absent_5 rfl (lv_at hl 0 rfl) ?_
      replace hB_4 := fx_b1_e hB_4
      obtain ⟨r_4, h_5, hB_4⟩ := hB_4
      refine cx_cVi (r := r_4) (ws := sC g Rs none im S ++ X) (ws' := sC g Rs none im S ++ X) (As := []) (rest := [.int x3_3]) E (mX1_disks l g A Rs _ _ _ S h_5) (kwX1_X1_disks E ⟨Nat.le_of_ble_eq_true rfl, Nat.le_of_ble_eq_true rfl⟩) 0 1 rfl rfl rfl hw rfl hl.1 rfl (Nat.le_of_ble_eq_true rfl) dX1_absent_6 ⟨Nat.le_of_ble_eq_true rfl, Nat.le_of_ble_eq_true rfl⟩ (fun H locs hw => ?_)
      refine lv_icmp_ge (tgt := 33) hx hb dX1_absent_9 (by decide) (fun c_6 => ?_) (fun c_6 => ?_)
      · replace hB_4 := fx_tt c_6 hB_4
        obtain rfl := fx_ex hB_4 hO_4
        exact jn_33 x2_2 hF _ _ _ hw (lv_sub hl [2] rfl)
      · replace hB_4 := fx_ff c_6 hB_4
        refine lv_aload_n hx hb dX1_absent_12 rfl (lv_at hl 0 rfl) ?_
        refine lv_iload_n hx hb dX1_absent_13 rfl (lv_at hl 1 rfl) ?_
        refine lv_iload_n hx hb dX1_absent_14 rfl (lv_at hl 3 rfl) ?_
        replace hB_4 := fx_b1_e hB_4
        obtain ⟨r_7, h_8, hB_4⟩ := hB_4
        refine cx_cVi (r := r_7) (ws := sC g Rs none im S ++ X) (ws' := sC g Rs none im S ++ X) (As := [.int p1, .int x3_3]) (rest := []) E (mX1_isThere_n l g A Rs _ _ S p1 x3_3 h_8) (kwX1_X1_isThere E ⟨Nat.le_of_ble_eq_true rfl, Nat.le_of_ble_eq_true rfl⟩) 0 1 rfl rfl rfl hw rfl hl.1 rfl (Nat.le_of_ble_eq_true rfl) dX1_absent_15 ⟨Nat.le_of_ble_eq_true rfl, Nat.le_of_ble_eq_true rfl⟩ (fun H locs hw => ?_)
        have jn_27 : ∀ (x2_9 : Int32), JX1_absent_n_27 x3_3 x2_9 = some o_4 → ∀ (H : Heap) (locs : List Loc) (ls : Array Slot), cx_W g A s (sC g Rs none im S ++ X) H locs → lv_has ls 4 [(0, .ref (Rs 100)), (1, .int p1), (2, .int x2_9), (3, .int x3_3)] → W p l e rmX1_absent s m av below meth c H locs 0 0 Q (F0 m 27 ls []) := by
          intro x2_9 hJ_27 H locs ls hw hl
          unfold JX1_absent_n_27 at hJ_27
          obtain ⟨v_10, ev_10⟩ : ∃ z : Int32, z = x3_3 + (1 : Int32) := ⟨_, rfl⟩
          replace hJ_27 := fx_lt_e ev_10 hJ_27
          refine cx_iinc (z := (1 : Int32)) (v := v_10) hx hb dX1_absent_27 hl (k := 3) rfl (by decide) ev_10 (by decide) rfl (fun ls hl => ?_)
          have hl : lv_has ls 4 [(3, .int v_10), (0, .ref (Rs 100)), (1, .int p1), (2, .int x2_9)] := hl
          refine lv_goto (tgt := 4) hx hb dX1_absent_30 (by decide) ?_
          exact ih_4 x2_9 v_10 (fx_bk hJ_27 hO_4) _ _ _ hw (lv_sub hl [1, 2, 3, 0] rfl)
        refine lv_if_ne (tgt := 27) hx hb dX1_absent_18 (by decide) (fun c_11 => ?_) (fun c_11 => ?_)
        · replace hB_4 := fx_ff c_11 hB_4
          exact jn_27 x2_2 hB_4 _ _ _ hw hl
        · replace hB_4 := fx_tt c_11 hB_4
          refine lv_iload_n hx hb dX1_absent_21 rfl (lv_at hl 2 rfl) ?_
          refine lv_iconst (v := (1 : Int32)) hx hb dX1_absent_22 (by decide) ?_
          refine lv_iload_n hx hb dX1_absent_23 rfl (lv_at hl 3 rfl) ?_
          refine lv_ishl hx hb dX1_absent_24 ?_
          refine lv_ior hx hb dX1_absent_25 ?_
          refine lv_topi (fun v_12 ev_12 => ?_)
          replace hB_4 := fx_lt_e ev_12 hB_4
          refine lv_istore_n hx hb dX1_absent_26 rfl hl (by decide) rfl (fun ls hl => ?_)
          have hl : lv_has ls 4 [(2, .int v_12), (0, .ref (Rs 100)), (1, .int p1), (3, .int x3_3)] := hl
          exact jn_27 v_12 hB_4 _ _ _ hw (lv_sub hl [1, 2, 0, 3] rfl)
  exact key_4 _ (0 : Int32) (0 : Int32) hL_4 _ _ _ hw (lv_sub hl [2, 3, 1, 0] rfl)
/-! cleanable()I -/
def JX1_cleanable_s_46 (x1_1 : Int32) : Option Int32 :=
  some x1_1
def JX1_cleanable_s_40 (x2_3 : Int32) (x1_9 : Int32) : Option ((Int32 × Int32) ⊕ (Int32)) :=
  fx_lt (x2_3 + (1 : Int32)) (fun v_10 => some (.inl (x1_9, v_10)))
def LX1_cleanable_s_4 (S : Sx) (N : Sx) (q_ : Int32 × Int32) : Option ((Int32 × Int32) ⊕ (Int32)) :=
  fx_u2 q_ (fun x1_2 x2_3 => fx_b1 (FX1_stripes S) (fun r_4 => if r_4 ≤ x2_3 then (some (.inr x1_2)) else (fx_b1 (FX1_has (gx_I N 6) x2_3) (fun r_7 => if r_7 = 0 then (JX1_cleanable_s_40 x2_3 x1_2) else (fx_b1 (FX1_absent_s S N x2_3) (fun r_12 => if r_12 = 0 then (fx_lt (x1_2 ||| ((1 : Int32) <<< (x2_3 &&& 31))) (fun v_15 => JX1_cleanable_s_40 x2_3 v_15)) else (JX1_cleanable_s_40 x2_3 x1_2)))))))
def FX1_cleanable_s (S : Sx) (N : Sx) : Option Int32 :=
  fx_b1 (fx_lp (LX1_cleanable_s_4 S N) 2000 ((0 : Int32), (0 : Int32))) (fun y1_16 => JX1_cleanable_s_46 y1_16)
set_option maxHeartbeats 4000000 in
set_option maxRecDepth 100000 in
theorem mX1_cleanable_s (l : Launch) (g : Gx) (A : Nat → Prop) (Rs Rn : Nat → Nat) (im : Option Nat) (X : va_W) (S : Sx) (N : Sx) {o : Int32} (hF : FX1_cleanable_s S N = some o) :
    cx_i l yX1_cleanable cX1_cleanable 3 .int rmX1_cleanable [.ref (Rs 100)] g A (sC g Rs (some (Rn 100)) im S ++ (stC g Rn N ++ X)) o (sC g Rs (some (Rn 100)) im S ++ (stC g Rn N ++ X)) 0 0 := by
  refine cx_i_of (by decide) (Nat.le_of_ble_eq_true rfl) ?_
  intro p e s m av below meth c Q E hret H hw ls hl
  have E : cx_E p m meth c cX1_cleanable 3 s av RX1 g A := E
  have hx := E.1.1
  have hb := E.1.2.1
  have hl : lv_has ls 3 [(0, .ref (Rs 100))] := hl
  generalize hlc : ([] : List Loc) = locs at hw ⊢
  clear hlc
  unfold FX1_cleanable_s at hF
  refine lv_iconst (v := (0 : Int32)) hx hb dX1_cleanable_0 (by decide) ?_
  refine lv_istore_n hx hb dX1_cleanable_1 rfl hl (by decide) rfl (fun ls hl => ?_)
  have hl : lv_has ls 3 [(1, .int (0 : Int32)), (0, .ref (Rs 100))] := hl
  refine lv_iconst (v := (0 : Int32)) hx hb dX1_cleanable_2 (by decide) ?_
  refine lv_istore_n hx hb dX1_cleanable_3 rfl hl (by decide) rfl (fun ls hl => ?_)
  have hl : lv_has ls 3 [(2, .int (0 : Int32)), (1, .int (0 : Int32)), (0, .ref (Rs 100))] := hl
  have jn_46 : ∀ (x1_1 : Int32), JX1_cleanable_s_46 x1_1 = some o → ∀ (H : Heap) (locs : List Loc) (ls : Array Slot), cx_W g A s (sC g Rs (some (Rn 100)) im S ++ (stC g Rn N ++ X)) H locs → lv_has ls 3 [(1, .int x1_1)] → W p l e rmX1_cleanable s m av below meth c H locs 0 0 Q (F0 m 46 ls []) := by
    intro x1_1 hJ_46 H locs ls hw hl
    unfold JX1_cleanable_s_46 at hJ_46
    refine lv_iload_n hx hb dX1_cleanable_46 rfl (lv_at hl 0 rfl) ?_
    obtain rfl := Option.some.inj hJ_46
    exact hret _ _ _ _ _ rfl rfl hw dX1_cleanable_47
  replace hF := fx_b1_e hF
  obtain ⟨ex_4, hL_4, hF⟩ := hF
  have key_4 : ∀ (n_4 : Nat) (x1_2 : Int32) (x2_3 : Int32), fx_lp (LX1_cleanable_s_4 S N) n_4 (x1_2, x2_3) = some ex_4 → ∀ (H : Heap) (locs : List Loc) (ls : Array Slot), cx_W g A s (sC g Rs (some (Rn 100)) im S ++ (stC g Rn N ++ X)) H locs → lv_has ls 3 [(0, .ref (Rs 100)), (1, .int x1_2), (2, .int x2_3)] → W p l e rmX1_cleanable s m av below meth c H locs 0 0 Q (F0 m 4 ls []) := by
    intro n_4
    induction n_4 with
    | zero => intro x1_2 x2_3 hL_4; exact fx_lp_0 hL_4
    | succ n_4 ih_4 =>
      intro x1_2 x2_3 hL_4 H locs ls hw hl
      replace hL_4 := fx_lp_s hL_4
      obtain ⟨o_4, hB_4, hO_4⟩ := hL_4
      unfold LX1_cleanable_s_4 at hB_4
      replace hB_4 := fx_u2_e hB_4
      refine lv_iload_n hx hb dX1_cleanable_4 rfl (lv_at hl 2 rfl) ?_
      refine lv_aload_n hx hb dX1_cleanable_5 rfl (lv_at hl 0 rfl) ?_
      replace hB_4 := fx_b1_e hB_4
      obtain ⟨r_4, h_5, hB_4⟩ := hB_4
      refine cx_cVi (r := r_4) (ws := sC g Rs (some (Rn 100)) im S ++ (stC g Rn N ++ X)) (ws' := sC g Rs (some (Rn 100)) im S ++ (stC g Rn N ++ X)) (As := []) (rest := [.int x2_3]) E (mX1_stripes l g A Rs _ _ _ S h_5) (kwX1_X1_stripes E ⟨Nat.le_of_ble_eq_true rfl, Nat.le_of_ble_eq_true rfl⟩) 0 1 rfl rfl rfl hw rfl hl.1 rfl (Nat.le_of_ble_eq_true rfl) dX1_cleanable_6 ⟨Nat.le_of_ble_eq_true rfl, Nat.le_of_ble_eq_true rfl⟩ (fun H locs hw => ?_)
      refine lv_icmp_ge (tgt := 46) hx hb dX1_cleanable_9 (by decide) (fun c_6 => ?_) (fun c_6 => ?_)
      · replace hB_4 := fx_tt c_6 hB_4
        obtain rfl := fx_ex hB_4 hO_4
        exact jn_46 x1_2 hF _ _ _ hw (lv_sub hl [1] rfl)
      · replace hB_4 := fx_ff c_6 hB_4
        refine lv_aload_n hx hb dX1_cleanable_12 rfl (lv_at hl 0 rfl) ?_
        refine gX1_19s E hw dX1_cleanable_13 ?_
        refine gNX7_6 E hw dX1_cleanable_16 ?_
        refine lv_iload_n hx hb dX1_cleanable_19 rfl (lv_at hl 2 rfl) ?_
        replace hB_4 := fx_b1_e hB_4
        obtain ⟨r_7, h_8, hB_4⟩ := hB_4
        refine cx_cSi (r := r_7) (ws := sC g Rs (some (Rn 100)) im S ++ (stC g Rn N ++ X)) (ws' := sC g Rs (some (Rn 100)) im S ++ (stC g Rn N ++ X)) (As := [.int (gx_I N 6), .int x2_3]) (rest := []) E (mX1_has l g A (sC g Rs (some (Rn 100)) im S ++ (stC g Rn N ++ X)) (gx_I N 6) x2_3 h_8) (kwX1_X1_has E ⟨Nat.le_of_ble_eq_true rfl, Nat.le_of_ble_eq_true rfl⟩) hw rfl hl.1 rfl (Nat.le_of_ble_eq_true rfl) dX1_cleanable_20 ⟨Nat.le_of_ble_eq_true rfl, Nat.le_of_ble_eq_true rfl⟩ (fun H locs hw => ?_)
        have jn_40 : ∀ (x1_9 : Int32), JX1_cleanable_s_40 x2_3 x1_9 = some o_4 → ∀ (H : Heap) (locs : List Loc) (ls : Array Slot), cx_W g A s (sC g Rs (some (Rn 100)) im S ++ (stC g Rn N ++ X)) H locs → lv_has ls 3 [(0, .ref (Rs 100)), (1, .int x1_9), (2, .int x2_3)] → W p l e rmX1_cleanable s m av below meth c H locs 0 0 Q (F0 m 40 ls []) := by
          intro x1_9 hJ_40 H locs ls hw hl
          unfold JX1_cleanable_s_40 at hJ_40
          obtain ⟨v_10, ev_10⟩ : ∃ z : Int32, z = x2_3 + (1 : Int32) := ⟨_, rfl⟩
          replace hJ_40 := fx_lt_e ev_10 hJ_40
          refine cx_iinc (z := (1 : Int32)) (v := v_10) hx hb dX1_cleanable_40 hl (k := 2) rfl (by decide) ev_10 (by decide) rfl (fun ls hl => ?_)
          have hl : lv_has ls 3 [(2, .int v_10), (0, .ref (Rs 100)), (1, .int x1_9)] := hl
          refine lv_goto (tgt := 4) hx hb dX1_cleanable_43 (by decide) ?_
          exact ih_4 x1_9 v_10 (fx_bk hJ_40 hO_4) _ _ _ hw (lv_sub hl [1, 2, 0] rfl)
        refine lv_if_eq (tgt := 40) hx hb dX1_cleanable_23 (by decide) (fun c_11 => ?_) (fun c_11 => ?_)
        · replace hB_4 := fx_tt c_11 hB_4
          exact jn_40 x1_2 hB_4 _ _ _ hw hl
        · replace hB_4 := fx_ff c_11 hB_4
          refine lv_aload_n hx hb dX1_cleanable_26 rfl (lv_at hl 0 rfl) ?_
          refine lv_iload_n hx hb dX1_cleanable_27 rfl (lv_at hl 2 rfl) ?_
          replace hB_4 := fx_b1_e hB_4
          obtain ⟨r_12, h_13, hB_4⟩ := hB_4
          refine cx_cVi (r := r_12) (ws := sC g Rs (some (Rn 100)) im S ++ (stC g Rn N ++ X)) (ws' := sC g Rs (some (Rn 100)) im S ++ (stC g Rn N ++ X)) (As := [.int x2_3]) (rest := []) E (mX1_absent_s l g A Rs Rn _ _ S N x2_3 h_13) (kwX1_X1_absent E ⟨Nat.le_of_ble_eq_true rfl, Nat.le_of_ble_eq_true rfl⟩) 0 1 rfl rfl rfl hw rfl hl.1 rfl (Nat.le_of_ble_eq_true rfl) dX1_cleanable_28 ⟨Nat.le_of_ble_eq_true rfl, Nat.le_of_ble_eq_true rfl⟩ (fun H locs hw => ?_)
          refine lv_if_ne (tgt := 40) hx hb dX1_cleanable_31 (by decide) (fun c_14 => ?_) (fun c_14 => ?_)
          · replace hB_4 := fx_ff c_14 hB_4
            exact jn_40 x1_2 hB_4 _ _ _ hw hl
          · replace hB_4 := fx_tt c_14 hB_4
            refine lv_iload_n hx hb dX1_cleanable_34 rfl (lv_at hl 1 rfl) ?_
            refine lv_iconst (v := (1 : Int32)) hx hb dX1_cleanable_35 (by decide) ?_
            refine lv_iload_n hx hb dX1_cleanable_36 rfl (lv_at hl 2 rfl) ?_
            refine lv_ishl hx hb dX1_cleanable_37 ?_
            refine lv_ior hx hb dX1_cleanable_38 ?_
            refine lv_topi (fun v_15 ev_15 => ?_)
            replace hB_4 := fx_lt_e ev_15 hB_4
            refine lv_istore_n hx hb dX1_cleanable_39 rfl hl (by decide) rfl (fun ls hl => ?_)
            have hl : lv_has ls 3 [(1, .int v_15), (0, .ref (Rs 100)), (2, .int x2_3)] := hl
            exact jn_40 v_15 hB_4 _ _ _ hw (lv_sub hl [1, 0, 2] rfl)
  exact key_4 _ (0 : Int32) (0 : Int32) hL_4 _ _ _ hw (lv_sub hl [2, 1, 0] rfl)
/-! cleanable()I -/
def JX1_cleanable_n_46 (x1_1 : Int32) : Option Int32 :=
  some x1_1
def LX1_cleanable_n_4 (S : Sx) (q_ : Int32 × Int32) : Option ((Int32 × Int32) ⊕ (Int32)) :=
  fx_u2 q_ (fun x1_2 x2_3 => fx_b1 (FX1_stripes S) (fun r_4 => if r_4 ≤ x2_3 then (some (.inr x1_2)) else none))
def FX1_cleanable_n (S : Sx) : Option Int32 :=
  fx_b1 (fx_lp (LX1_cleanable_n_4 S) 2000 ((0 : Int32), (0 : Int32))) (fun y1_7 => JX1_cleanable_n_46 y1_7)
set_option maxHeartbeats 4000000 in
set_option maxRecDepth 100000 in
theorem mX1_cleanable_n (l : Launch) (g : Gx) (A : Nat → Prop) (Rs : Nat → Nat) (im : Option Nat) (X : va_W) (S : Sx) {o : Int32} (hF : FX1_cleanable_n S = some o) :
    cx_i l yX1_cleanable cX1_cleanable 3 .int rmX1_cleanable [.ref (Rs 100)] g A (sC g Rs none im S ++ X) o (sC g Rs none im S ++ X) 0 0 := by
  refine cx_i_of (by decide) (Nat.le_of_ble_eq_true rfl) ?_
  intro p e s m av below meth c Q E hret H hw ls hl
  have E : cx_E p m meth c cX1_cleanable 3 s av RX1 g A := E
  have hx := E.1.1
  have hb := E.1.2.1
  have hl : lv_has ls 3 [(0, .ref (Rs 100))] := hl
  generalize hlc : ([] : List Loc) = locs at hw ⊢
  clear hlc
  unfold FX1_cleanable_n at hF
  refine lv_iconst (v := (0 : Int32)) hx hb dX1_cleanable_0 (by decide) ?_
  refine lv_istore_n hx hb dX1_cleanable_1 rfl hl (by decide) rfl (fun ls hl => ?_)
  have hl : lv_has ls 3 [(1, .int (0 : Int32)), (0, .ref (Rs 100))] := hl
  refine lv_iconst (v := (0 : Int32)) hx hb dX1_cleanable_2 (by decide) ?_
  refine lv_istore_n hx hb dX1_cleanable_3 rfl hl (by decide) rfl (fun ls hl => ?_)
  have hl : lv_has ls 3 [(2, .int (0 : Int32)), (1, .int (0 : Int32)), (0, .ref (Rs 100))] := hl
  have jn_46 : ∀ (x1_1 : Int32), JX1_cleanable_n_46 x1_1 = some o → ∀ (H : Heap) (locs : List Loc) (ls : Array Slot), cx_W g A s (sC g Rs none im S ++ X) H locs → lv_has ls 3 [(1, .int x1_1)] → W p l e rmX1_cleanable s m av below meth c H locs 0 0 Q (F0 m 46 ls []) := by
    intro x1_1 hJ_46 H locs ls hw hl
    unfold JX1_cleanable_n_46 at hJ_46
    refine lv_iload_n hx hb dX1_cleanable_46 rfl (lv_at hl 0 rfl) ?_
    obtain rfl := Option.some.inj hJ_46
    exact hret _ _ _ _ _ rfl rfl hw dX1_cleanable_47
  replace hF := fx_b1_e hF
  obtain ⟨ex_4, hL_4, hF⟩ := hF
  have key_4 : ∀ (n_4 : Nat) (x1_2 : Int32) (x2_3 : Int32), fx_lp (LX1_cleanable_n_4 S) n_4 (x1_2, x2_3) = some ex_4 → ∀ (H : Heap) (locs : List Loc) (ls : Array Slot), cx_W g A s (sC g Rs none im S ++ X) H locs → lv_has ls 3 [(0, .ref (Rs 100)), (1, .int x1_2), (2, .int x2_3)] → W p l e rmX1_cleanable s m av below meth c H locs 0 0 Q (F0 m 4 ls []) := by
    intro n_4
    induction n_4 with
    | zero => intro x1_2 x2_3 hL_4; exact fx_lp_0 hL_4
    | succ n_4 ih_4 =>
      intro x1_2 x2_3 hL_4 H locs ls hw hl
      replace hL_4 := fx_lp_s hL_4
      obtain ⟨o_4, hB_4, hO_4⟩ := hL_4
      unfold LX1_cleanable_n_4 at hB_4
      replace hB_4 := fx_u2_e hB_4
      refine lv_iload_n hx hb dX1_cleanable_4 rfl (lv_at hl 2 rfl) ?_
      refine lv_aload_n hx hb dX1_cleanable_5 rfl (lv_at hl 0 rfl) ?_
      replace hB_4 := fx_b1_e hB_4
      obtain ⟨r_4, h_5, hB_4⟩ := hB_4
      refine cx_cVi (r := r_4) (ws := sC g Rs none im S ++ X) (ws' := sC g Rs none im S ++ X) (As := []) (rest := [.int x2_3]) E (mX1_stripes l g A Rs _ _ _ S h_5) (kwX1_X1_stripes E ⟨Nat.le_of_ble_eq_true rfl, Nat.le_of_ble_eq_true rfl⟩) 0 1 rfl rfl rfl hw rfl hl.1 rfl (Nat.le_of_ble_eq_true rfl) dX1_cleanable_6 ⟨Nat.le_of_ble_eq_true rfl, Nat.le_of_ble_eq_true rfl⟩ (fun H locs hw => ?_)
      refine lv_icmp_ge (tgt := 46) hx hb dX1_cleanable_9 (by decide) (fun c_6 => ?_) (fun c_6 => ?_)
      · replace hB_4 := fx_tt c_6 hB_4
        obtain rfl := fx_ex hB_4 hO_4
        exact jn_46 x1_2 hF _ _ _ hw (lv_sub hl [1] rfl)
      · replace hB_4 := fx_ff c_6 hB_4
        refine lv_aload_n hx hb dX1_cleanable_12 rfl (lv_at hl 0 rfl) ?_
        refine gX1_19n E hw dX1_cleanable_13 ?_
        exact fx_no hB_4
  exact key_4 _ (0 : Int32) (0 : Int32) hL_4 _ _ _ hw (lv_sub hl [2, 1, 0] rfl)
/-! whyNot(IIIII)I -/
def FX1_whyNot_s (S : Sx) (N : Sx) (p1 : Int32) (p2 : Int32) (p3 : Int32) (p4 : Int32) (p5 : Int32) : Option (Int32 × Sx) :=
  if p1 = (0 : Int32) then (fx_b1 (FX1_isAddress_s S N p2) (fun r_2 => if r_2 = 0 then (some ((0 : Int32), S)) else (fx_b1 (FX1_in p3 (0 : Int32) (255 : Int32)) (fun r_5 => if r_5 = 0 then (some ((1 : Int32), S)) else (some ((-1 : Int32), S)))))) else if p1 = (1 : Int32) then (fx_b1 (FX1_isDisk_s S N p2) (fun r_9 => if r_9 = 0 then (some ((0 : Int32), S)) else (fx_gd (fx_in p2 8) (if (gx_A N 1 p2.toNatClampNeg) = (1 : Int32) then (some ((2 : Int32), S)) else (fx_gd (fx_in p2 8) (if (gx_A N 1 p2.toNatClampNeg) = 0 then (fx_b1 (FX1_lostMany_s S N) (fun r_16 => if r_16 = (2 : Int32) then (some ((3 : Int32), S)) else (some ((-1 : Int32), S)))) else (some ((-1 : Int32), S)))))))) else if p1 = (2 : Int32) then (fx_b1 (FX1_isDisk_s S N p2) (fun r_20 => if r_20 = 0 then (some ((0 : Int32), S)) else (fx_gd (fx_in p2 8) (if (gx_A N 1 p2.toNatClampNeg) = (1 : Int32) then (if (gx_I N 7) = 0 then (some ((3 : Int32), S)) else (some ((-1 : Int32), S))) else (some ((2 : Int32), S)))))) else if p1 = (3 : Int32) then (fx_b1 (FX1_isDisk_s S N p2) (fun r_27 => if r_27 = 0 then (some ((0 : Int32), S)) else (fx_b1 (FX1_in p3 (1 : Int32) (12 : Int32)) (fun r_30 => if r_30 = 0 then (some ((1 : Int32), S)) else (fx_gd (fx_in p2 8) (if (gx_A N 1 p2.toNatClampNeg) = (2 : Int32) then (some ((-1 : Int32), S)) else (some ((2 : Int32), S)))))))) else if p1 = (4 : Int32) then (fx_b1 (FX1_in p2 (1 : Int32) (12 : Int32)) (fun r_38 => if r_38 = 0 then (some ((1 : Int32), S)) else (some ((-1 : Int32), S)))) else if p1 = (5 : Int32) then (fx_b1 (FX1_whyNotSpoilt_s S N p2 p3 p4 p5) (fun r_42 => some (r_42, S))) else if p1 = (6 : Int32) then (fx_b1 (FX1_isAddress_s S N p2) (fun r_45 => if r_45 = 0 then (some ((0 : Int32), S)) else (fx_b1 (FX1_in p3 (0 : Int32) (255 : Int32)) (fun r_48 => if r_48 = 0 then (some ((1 : Int32), S)) else (fx_b1 (FX1_in p4 (0 : Int32) (2 : Int32)) (fun r_51 => if r_51 = 0 then (some ((1 : Int32), S)) else (fx_b2 (FX1_isAllThere_s S N p2) (fun r_54 S_55 => if r_54 = 0 then (some ((2 : Int32), S_55)) else (some ((-1 : Int32), S_55)))))))))) else if p1 = (7 : Int32) then (fx_b1 (FX1_cleanable_s S N) (fun r_61 => if r_61 = 0 then (some ((2 : Int32), S)) else (some ((-1 : Int32), S)))) else (fx_b1 (FX1_isStripe_s S N p2) (fun r_64 => if r_64 = 0 then (some ((0 : Int32), S)) else (fx_b1 (FX1_chunk S) (fun r_67 => fx_b1 (FX1_in p3 (0 : Int32) (r_67 - (1 : Int32))) (fun r_69 => if r_69 = 0 then (some ((0 : Int32), S)) else (fx_b1 (FX1_in p4 (0 : Int32) (255 : Int32)) (fun r_72 => if r_72 = 0 then (some ((1 : Int32), S)) else (fx_b1 (FX1_in p5 (0 : Int32) (255 : Int32)) (fun r_75 => if r_75 = 0 then (some ((1 : Int32), S)) else (some ((-1 : Int32), S)))))))))))
set_option maxHeartbeats 4000000 in
set_option maxRecDepth 100000 in
theorem mX1_whyNot_s (l : Launch) (g : Gx) (A : Nat → Prop) (Rs Rn : Nat → Nat) (im : Option Nat) (X : va_W) (S : Sx) (N : Sx) (p1 : Int32) (p2 : Int32) (p3 : Int32) (p4 : Int32) (p5 : Int32) {o : Int32 × Sx} (hF : FX1_whyNot_s S N p1 p2 p3 p4 p5 = some o) :
    cx_i l yX1_whyNot cX1_whyNot 6 .int rmX1_whyNot [.ref (Rs 100), .int p1, .int p2, .int p3, .int p4, .int p5] g A (sC g Rs (some (Rn 100)) im S ++ (stC g Rn N ++ X)) o.1 (sC g Rs (some (Rn 100)) im o.2 ++ (stC g Rn N ++ X)) 0 0 := by
  refine cx_i_of (by decide) (Nat.le_of_ble_eq_true rfl) ?_
  intro p e s m av below meth c Q E hret H hw ls hl
  have E : cx_E p m meth c cX1_whyNot 6 s av RX1 g A := E
  have hx := E.1.1
  have hb := E.1.2.1
  have hl : lv_has ls 6 [(0, .ref (Rs 100)), (1, .int p1), (2, .int p2), (3, .int p3), (4, .int p4), (5, .int p5)] := hl
  generalize hlc : ([] : List Loc) = locs at hw ⊢
  clear hlc
  unfold FX1_whyNot_s at hF
  refine lv_iload_n hx hb dX1_whyNot_0 rfl (lv_at hl 1 rfl) ?_
  by_cases c_1 : p1 = (0 : Int32)
  · replace hF := fx_tt c_1 hF
    refine lv_tableIn (off := 47) (tgt := 48) hx hb dX1_whyNot_1 (by rw [c_1]; decide) (by rw [c_1]; decide) (by rw [c_1]; rfl) (by decide) ?_
    refine lv_aload_n hx hb dX1_whyNot_48 rfl (lv_at hl 0 rfl) ?_
    refine lv_iload_n hx hb dX1_whyNot_49 rfl (lv_at hl 2 rfl) ?_
    replace hF := fx_b1_e hF
    obtain ⟨r_2, h_3, hF⟩ := hF
    refine cx_cVi (r := r_2) (ws := sC g Rs (some (Rn 100)) im S ++ (stC g Rn N ++ X)) (ws' := sC g Rs (some (Rn 100)) im S ++ (stC g Rn N ++ X)) (As := [.int p2]) (rest := []) E (mX1_isAddress_s l g A Rs Rn _ _ S N p2 h_3) (kwX1_X1_isAddress E ⟨Nat.le_of_ble_eq_true rfl, Nat.le_of_ble_eq_true rfl⟩) 0 1 rfl rfl rfl hw rfl hl.1 rfl (Nat.le_of_ble_eq_true rfl) dX1_whyNot_50 ⟨Nat.le_of_ble_eq_true rfl, Nat.le_of_ble_eq_true rfl⟩ (fun H locs hw => ?_)
    refine lv_if_ne (tgt := 60) hx hb dX1_whyNot_53 (by decide) (fun c_4 => ?_) (fun c_4 => ?_)
    · replace hF := fx_ff c_4 hF
      refine lv_iload_n hx hb dX1_whyNot_60 rfl (lv_at hl 3 rfl) ?_
      refine lv_iconst (v := (0 : Int32)) hx hb dX1_whyNot_61 (by decide) ?_
      refine lv_sipush (v := (255 : Int32)) hx hb dX1_whyNot_62 (by decide) ?_
      replace hF := fx_b1_e hF
      obtain ⟨r_5, h_6, hF⟩ := hF
      refine cx_cSi (r := r_5) (ws := sC g Rs (some (Rn 100)) im S ++ (stC g Rn N ++ X)) (ws' := sC g Rs (some (Rn 100)) im S ++ (stC g Rn N ++ X)) (As := [.int p3, .int (0 : Int32), .int (255 : Int32)]) (rest := []) E (mX1_in l g A (sC g Rs (some (Rn 100)) im S ++ (stC g Rn N ++ X)) p3 (0 : Int32) (255 : Int32) h_6) (kwX1_X1_in E ⟨Nat.le_of_ble_eq_true rfl, Nat.le_of_ble_eq_true rfl⟩) hw rfl hl.1 rfl (Nat.le_of_ble_eq_true rfl) dX1_whyNot_65 ⟨Nat.le_of_ble_eq_true rfl, Nat.le_of_ble_eq_true rfl⟩ (fun H locs hw => ?_)
      refine lv_if_eq (tgt := 75) hx hb dX1_whyNot_68 (by decide) (fun c_7 => ?_) (fun c_7 => ?_)
      · replace hF := fx_tt c_7 hF
        refine lv_iconst (v := (1 : Int32)) hx hb dX1_whyNot_75 (by decide) ?_
        obtain rfl := Option.some.inj hF
        exact hret _ _ _ _ _ rfl rfl hw dX1_whyNot_76
      · replace hF := fx_ff c_7 hF
        refine lv_iconst (v := (-1 : Int32)) hx hb dX1_whyNot_71 (by decide) ?_
        refine lv_goto (tgt := 76) hx hb dX1_whyNot_72 (by decide) ?_
        obtain rfl := Option.some.inj hF
        exact hret _ _ _ _ _ rfl rfl hw dX1_whyNot_76
    · replace hF := fx_tt c_4 hF
      refine lv_iconst (v := (0 : Int32)) hx hb dX1_whyNot_56 (by decide) ?_
      refine lv_goto (tgt := 76) hx hb dX1_whyNot_57 (by decide) ?_
      obtain rfl := Option.some.inj hF
      exact hret _ _ _ _ _ rfl rfl hw dX1_whyNot_76
  replace hF := fx_ff c_1 hF
  by_cases c_8 : p1 = (1 : Int32)
  · replace hF := fx_tt c_8 hF
    refine lv_tableIn (off := 76) (tgt := 77) hx hb dX1_whyNot_1 (by rw [c_8]; decide) (by rw [c_8]; decide) (by rw [c_8]; rfl) (by decide) ?_
    refine lv_aload_n hx hb dX1_whyNot_77 rfl (lv_at hl 0 rfl) ?_
    refine lv_iload_n hx hb dX1_whyNot_78 rfl (lv_at hl 2 rfl) ?_
    replace hF := fx_b1_e hF
    obtain ⟨r_9, h_10, hF⟩ := hF
    refine cx_cVi (r := r_9) (ws := sC g Rs (some (Rn 100)) im S ++ (stC g Rn N ++ X)) (ws' := sC g Rs (some (Rn 100)) im S ++ (stC g Rn N ++ X)) (As := [.int p2]) (rest := []) E (mX1_isDisk_s l g A Rs Rn _ _ S N p2 h_10) (kwX1_X1_isDisk E ⟨Nat.le_of_ble_eq_true rfl, Nat.le_of_ble_eq_true rfl⟩) 0 1 rfl rfl rfl hw rfl hl.1 rfl (Nat.le_of_ble_eq_true rfl) dX1_whyNot_79 ⟨Nat.le_of_ble_eq_true rfl, Nat.le_of_ble_eq_true rfl⟩ (fun H locs hw => ?_)
    refine lv_if_ne (tgt := 89) hx hb dX1_whyNot_82 (by decide) (fun c_11 => ?_) (fun c_11 => ?_)
    · replace hF := fx_ff c_11 hF
      refine lv_aload_n hx hb dX1_whyNot_89 rfl (lv_at hl 0 rfl) ?_
      refine gX1_19s E hw dX1_whyNot_90 ?_
      refine gNX7_1 E hw dX1_whyNot_93 ?_
      refine lv_iload_n hx hb dX1_whyNot_96 rfl (lv_at hl 2 rfl) ?_
      replace hF := fx_gd_e hF
      obtain ⟨h_12, hF⟩ := hF
      refine raX7_1 E hw (fx_in_e h_12) dX1_whyNot_97 ?_
      refine lv_iconst (v := (1 : Int32)) hx hb dX1_whyNot_98 (by decide) ?_
      refine lv_icmp_ne (tgt := 106) hx hb dX1_whyNot_99 (by decide) (fun c_13 => ?_) (fun c_13 => ?_)
      · replace hF := fx_ff c_13 hF
        refine lv_aload_n hx hb dX1_whyNot_106 rfl (lv_at hl 0 rfl) ?_
        refine gX1_19s E hw dX1_whyNot_107 ?_
        refine gNX7_1 E hw dX1_whyNot_110 ?_
        refine lv_iload_n hx hb dX1_whyNot_113 rfl (lv_at hl 2 rfl) ?_
        replace hF := fx_gd_e hF
        obtain ⟨h_14, hF⟩ := hF
        refine raX7_1 E hw (fx_in_e h_14) dX1_whyNot_114 ?_
        refine lv_if_ne (tgt := 130) hx hb dX1_whyNot_115 (by decide) (fun c_15 => ?_) (fun c_15 => ?_)
        · replace hF := fx_ff c_15 hF
          refine lv_iconst (v := (-1 : Int32)) hx hb dX1_whyNot_130 (by decide) ?_
          obtain rfl := Option.some.inj hF
          exact hret _ _ _ _ _ rfl rfl hw dX1_whyNot_131
        · replace hF := fx_tt c_15 hF
          refine lv_aload_n hx hb dX1_whyNot_118 rfl (lv_at hl 0 rfl) ?_
          replace hF := fx_b1_e hF
          obtain ⟨r_16, h_17, hF⟩ := hF
          refine cx_cVi (r := r_16) (ws := sC g Rs (some (Rn 100)) im S ++ (stC g Rn N ++ X)) (ws' := sC g Rs (some (Rn 100)) im S ++ (stC g Rn N ++ X)) (As := []) (rest := []) E (mX1_lostMany_s l g A Rs Rn _ _ S N h_17) (kwX1_X1_lostMany E ⟨Nat.le_of_ble_eq_true rfl, Nat.le_of_ble_eq_true rfl⟩) 0 1 rfl rfl rfl hw rfl hl.1 rfl (Nat.le_of_ble_eq_true rfl) dX1_whyNot_119 ⟨Nat.le_of_ble_eq_true rfl, Nat.le_of_ble_eq_true rfl⟩ (fun H locs hw => ?_)
          refine lv_iconst (v := (2 : Int32)) hx hb dX1_whyNot_122 (by decide) ?_
          refine lv_icmp_ne (tgt := 130) hx hb dX1_whyNot_123 (by decide) (fun c_18 => ?_) (fun c_18 => ?_)
          · replace hF := fx_ff c_18 hF
            refine lv_iconst (v := (-1 : Int32)) hx hb dX1_whyNot_130 (by decide) ?_
            obtain rfl := Option.some.inj hF
            exact hret _ _ _ _ _ rfl rfl hw dX1_whyNot_131
          · replace hF := fx_tt c_18 hF
            refine lv_iconst (v := (3 : Int32)) hx hb dX1_whyNot_126 (by decide) ?_
            refine lv_goto (tgt := 131) hx hb dX1_whyNot_127 (by decide) ?_
            obtain rfl := Option.some.inj hF
            exact hret _ _ _ _ _ rfl rfl hw dX1_whyNot_131
      · replace hF := fx_tt c_13 hF
        refine lv_iconst (v := (2 : Int32)) hx hb dX1_whyNot_102 (by decide) ?_
        refine lv_goto (tgt := 131) hx hb dX1_whyNot_103 (by decide) ?_
        obtain rfl := Option.some.inj hF
        exact hret _ _ _ _ _ rfl rfl hw dX1_whyNot_131
    · replace hF := fx_tt c_11 hF
      refine lv_iconst (v := (0 : Int32)) hx hb dX1_whyNot_85 (by decide) ?_
      refine lv_goto (tgt := 131) hx hb dX1_whyNot_86 (by decide) ?_
      obtain rfl := Option.some.inj hF
      exact hret _ _ _ _ _ rfl rfl hw dX1_whyNot_131
  replace hF := fx_ff c_8 hF
  by_cases c_19 : p1 = (2 : Int32)
  · replace hF := fx_tt c_19 hF
    refine lv_tableIn (off := 131) (tgt := 132) hx hb dX1_whyNot_1 (by rw [c_19]; decide) (by rw [c_19]; decide) (by rw [c_19]; rfl) (by decide) ?_
    refine lv_aload_n hx hb dX1_whyNot_132 rfl (lv_at hl 0 rfl) ?_
    refine lv_iload_n hx hb dX1_whyNot_133 rfl (lv_at hl 2 rfl) ?_
    replace hF := fx_b1_e hF
    obtain ⟨r_20, h_21, hF⟩ := hF
    refine cx_cVi (r := r_20) (ws := sC g Rs (some (Rn 100)) im S ++ (stC g Rn N ++ X)) (ws' := sC g Rs (some (Rn 100)) im S ++ (stC g Rn N ++ X)) (As := [.int p2]) (rest := []) E (mX1_isDisk_s l g A Rs Rn _ _ S N p2 h_21) (kwX1_X1_isDisk E ⟨Nat.le_of_ble_eq_true rfl, Nat.le_of_ble_eq_true rfl⟩) 0 1 rfl rfl rfl hw rfl hl.1 rfl (Nat.le_of_ble_eq_true rfl) dX1_whyNot_134 ⟨Nat.le_of_ble_eq_true rfl, Nat.le_of_ble_eq_true rfl⟩ (fun H locs hw => ?_)
    refine lv_if_ne (tgt := 144) hx hb dX1_whyNot_137 (by decide) (fun c_22 => ?_) (fun c_22 => ?_)
    · replace hF := fx_ff c_22 hF
      refine lv_aload_n hx hb dX1_whyNot_144 rfl (lv_at hl 0 rfl) ?_
      refine gX1_19s E hw dX1_whyNot_145 ?_
      refine gNX7_1 E hw dX1_whyNot_148 ?_
      refine lv_iload_n hx hb dX1_whyNot_151 rfl (lv_at hl 2 rfl) ?_
      replace hF := fx_gd_e hF
      obtain ⟨h_23, hF⟩ := hF
      refine raX7_1 E hw (fx_in_e h_23) dX1_whyNot_152 ?_
      refine lv_iconst (v := (1 : Int32)) hx hb dX1_whyNot_153 (by decide) ?_
      refine lv_icmp_eq (tgt := 161) hx hb dX1_whyNot_154 (by decide) (fun c_24 => ?_) (fun c_24 => ?_)
      · replace hF := fx_tt c_24 hF
        refine lv_aload_n hx hb dX1_whyNot_161 rfl (lv_at hl 0 rfl) ?_
        refine gX1_19s E hw dX1_whyNot_162 ?_
        refine gNX7_7 E hw dX1_whyNot_165 ?_
        refine lv_if_ne (tgt := 175) hx hb dX1_whyNot_168 (by decide) (fun c_25 => ?_) (fun c_25 => ?_)
        · replace hF := fx_ff c_25 hF
          refine lv_iconst (v := (-1 : Int32)) hx hb dX1_whyNot_175 (by decide) ?_
          obtain rfl := Option.some.inj hF
          exact hret _ _ _ _ _ rfl rfl hw dX1_whyNot_176
        · replace hF := fx_tt c_25 hF
          refine lv_iconst (v := (3 : Int32)) hx hb dX1_whyNot_171 (by decide) ?_
          refine lv_goto (tgt := 176) hx hb dX1_whyNot_172 (by decide) ?_
          obtain rfl := Option.some.inj hF
          exact hret _ _ _ _ _ rfl rfl hw dX1_whyNot_176
      · replace hF := fx_ff c_24 hF
        refine lv_iconst (v := (2 : Int32)) hx hb dX1_whyNot_157 (by decide) ?_
        refine lv_goto (tgt := 176) hx hb dX1_whyNot_158 (by decide) ?_
        obtain rfl := Option.some.inj hF
        exact hret _ _ _ _ _ rfl rfl hw dX1_whyNot_176
    · replace hF := fx_tt c_22 hF
      refine lv_iconst (v := (0 : Int32)) hx hb dX1_whyNot_140 (by decide) ?_
      refine lv_goto (tgt := 176) hx hb dX1_whyNot_141 (by decide) ?_
      obtain rfl := Option.some.inj hF
      exact hret _ _ _ _ _ rfl rfl hw dX1_whyNot_176
  replace hF := fx_ff c_19 hF
  by_cases c_26 : p1 = (3 : Int32)
  · replace hF := fx_tt c_26 hF
    refine lv_tableIn (off := 176) (tgt := 177) hx hb dX1_whyNot_1 (by rw [c_26]; decide) (by rw [c_26]; decide) (by rw [c_26]; rfl) (by decide) ?_
    refine lv_aload_n hx hb dX1_whyNot_177 rfl (lv_at hl 0 rfl) ?_
    refine lv_iload_n hx hb dX1_whyNot_178 rfl (lv_at hl 2 rfl) ?_
    replace hF := fx_b1_e hF
    obtain ⟨r_27, h_28, hF⟩ := hF
    refine cx_cVi (r := r_27) (ws := sC g Rs (some (Rn 100)) im S ++ (stC g Rn N ++ X)) (ws' := sC g Rs (some (Rn 100)) im S ++ (stC g Rn N ++ X)) (As := [.int p2]) (rest := []) E (mX1_isDisk_s l g A Rs Rn _ _ S N p2 h_28) (kwX1_X1_isDisk E ⟨Nat.le_of_ble_eq_true rfl, Nat.le_of_ble_eq_true rfl⟩) 0 1 rfl rfl rfl hw rfl hl.1 rfl (Nat.le_of_ble_eq_true rfl) dX1_whyNot_179 ⟨Nat.le_of_ble_eq_true rfl, Nat.le_of_ble_eq_true rfl⟩ (fun H locs hw => ?_)
    refine lv_if_ne (tgt := 189) hx hb dX1_whyNot_182 (by decide) (fun c_29 => ?_) (fun c_29 => ?_)
    · replace hF := fx_ff c_29 hF
      refine lv_iload_n hx hb dX1_whyNot_189 rfl (lv_at hl 3 rfl) ?_
      refine lv_iconst (v := (1 : Int32)) hx hb dX1_whyNot_190 (by decide) ?_
      refine lv_bipush (v := (12 : Int32)) hx hb dX1_whyNot_191 (by decide) ?_
      replace hF := fx_b1_e hF
      obtain ⟨r_30, h_31, hF⟩ := hF
      refine cx_cSi (r := r_30) (ws := sC g Rs (some (Rn 100)) im S ++ (stC g Rn N ++ X)) (ws' := sC g Rs (some (Rn 100)) im S ++ (stC g Rn N ++ X)) (As := [.int p3, .int (1 : Int32), .int (12 : Int32)]) (rest := []) E (mX1_in l g A (sC g Rs (some (Rn 100)) im S ++ (stC g Rn N ++ X)) p3 (1 : Int32) (12 : Int32) h_31) (kwX1_X1_in E ⟨Nat.le_of_ble_eq_true rfl, Nat.le_of_ble_eq_true rfl⟩) hw rfl hl.1 rfl (Nat.le_of_ble_eq_true rfl) dX1_whyNot_193 ⟨Nat.le_of_ble_eq_true rfl, Nat.le_of_ble_eq_true rfl⟩ (fun H locs hw => ?_)
      refine lv_if_ne (tgt := 203) hx hb dX1_whyNot_196 (by decide) (fun c_32 => ?_) (fun c_32 => ?_)
      · replace hF := fx_ff c_32 hF
        refine lv_aload_n hx hb dX1_whyNot_203 rfl (lv_at hl 0 rfl) ?_
        refine gX1_19s E hw dX1_whyNot_204 ?_
        refine gNX7_1 E hw dX1_whyNot_207 ?_
        refine lv_iload_n hx hb dX1_whyNot_210 rfl (lv_at hl 2 rfl) ?_
        replace hF := fx_gd_e hF
        obtain ⟨h_33, hF⟩ := hF
        refine raX7_1 E hw (fx_in_e h_33) dX1_whyNot_211 ?_
        refine lv_iconst (v := (2 : Int32)) hx hb dX1_whyNot_212 (by decide) ?_
        refine lv_icmp_ne (tgt := 220) hx hb dX1_whyNot_213 (by decide) (fun c_34 => ?_) (fun c_34 => ?_)
        · replace hF := fx_ff c_34 hF
          refine lv_iconst (v := (2 : Int32)) hx hb dX1_whyNot_220 (by decide) ?_
          obtain rfl := Option.some.inj hF
          exact hret _ _ _ _ _ rfl rfl hw dX1_whyNot_221
        · replace hF := fx_tt c_34 hF
          refine lv_iconst (v := (-1 : Int32)) hx hb dX1_whyNot_216 (by decide) ?_
          refine lv_goto (tgt := 221) hx hb dX1_whyNot_217 (by decide) ?_
          obtain rfl := Option.some.inj hF
          exact hret _ _ _ _ _ rfl rfl hw dX1_whyNot_221
      · replace hF := fx_tt c_32 hF
        refine lv_iconst (v := (1 : Int32)) hx hb dX1_whyNot_199 (by decide) ?_
        refine lv_goto (tgt := 221) hx hb dX1_whyNot_200 (by decide) ?_
        obtain rfl := Option.some.inj hF
        exact hret _ _ _ _ _ rfl rfl hw dX1_whyNot_221
    · replace hF := fx_tt c_29 hF
      refine lv_iconst (v := (0 : Int32)) hx hb dX1_whyNot_185 (by decide) ?_
      refine lv_goto (tgt := 221) hx hb dX1_whyNot_186 (by decide) ?_
      obtain rfl := Option.some.inj hF
      exact hret _ _ _ _ _ rfl rfl hw dX1_whyNot_221
  replace hF := fx_ff c_26 hF
  by_cases c_35 : p1 = (4 : Int32)
  · replace hF := fx_tt c_35 hF
    refine lv_tableIn (off := 221) (tgt := 222) hx hb dX1_whyNot_1 (by rw [c_35]; decide) (by rw [c_35]; decide) (by rw [c_35]; rfl) (by decide) ?_
    refine lv_aload_n hx hb dX1_whyNot_222 rfl (lv_at hl 0 rfl) ?_
    refine cx_cVi (r := (1 : Int32)) (ws := sC g Rs (some (Rn 100)) im S ++ (stC g Rn N ++ X)) (ws' := sC g Rs (some (Rn 100)) im S ++ (stC g Rn N ++ X)) (As := []) (rest := []) E (mX1_isShelf_s l g A Rs Rn _ _ S N (o := (1 : Int32)) rfl) (kwX1_X1_isShelf E ⟨Nat.le_of_ble_eq_true rfl, Nat.le_of_ble_eq_true rfl⟩) 0 1 rfl rfl rfl hw rfl hl.1 rfl (Nat.le_of_ble_eq_true rfl) dX1_whyNot_223 ⟨Nat.le_of_ble_eq_true rfl, Nat.le_of_ble_eq_true rfl⟩ (fun H locs hw => ?_)
    refine lv_if_ne (tgt := 233) hx hb dX1_whyNot_226 (by decide) (fun _ => ?_) (fun c_ => absurd c_ (by decide))
    refine lv_iload_n hx hb dX1_whyNot_233 rfl (lv_at hl 2 rfl) ?_
    refine lv_iconst (v := (1 : Int32)) hx hb dX1_whyNot_234 (by decide) ?_
    refine lv_bipush (v := (12 : Int32)) hx hb dX1_whyNot_235 (by decide) ?_
    replace hF := fx_b1_e hF
    obtain ⟨r_38, h_39, hF⟩ := hF
    refine cx_cSi (r := r_38) (ws := sC g Rs (some (Rn 100)) im S ++ (stC g Rn N ++ X)) (ws' := sC g Rs (some (Rn 100)) im S ++ (stC g Rn N ++ X)) (As := [.int p2, .int (1 : Int32), .int (12 : Int32)]) (rest := []) E (mX1_in l g A (sC g Rs (some (Rn 100)) im S ++ (stC g Rn N ++ X)) p2 (1 : Int32) (12 : Int32) h_39) (kwX1_X1_in E ⟨Nat.le_of_ble_eq_true rfl, Nat.le_of_ble_eq_true rfl⟩) hw rfl hl.1 rfl (Nat.le_of_ble_eq_true rfl) dX1_whyNot_237 ⟨Nat.le_of_ble_eq_true rfl, Nat.le_of_ble_eq_true rfl⟩ (fun H locs hw => ?_)
    refine lv_if_eq (tgt := 247) hx hb dX1_whyNot_240 (by decide) (fun c_40 => ?_) (fun c_40 => ?_)
    · replace hF := fx_tt c_40 hF
      refine lv_iconst (v := (1 : Int32)) hx hb dX1_whyNot_247 (by decide) ?_
      obtain rfl := Option.some.inj hF
      exact hret _ _ _ _ _ rfl rfl hw dX1_whyNot_248
    · replace hF := fx_ff c_40 hF
      refine lv_iconst (v := (-1 : Int32)) hx hb dX1_whyNot_243 (by decide) ?_
      refine lv_goto (tgt := 248) hx hb dX1_whyNot_244 (by decide) ?_
      obtain rfl := Option.some.inj hF
      exact hret _ _ _ _ _ rfl rfl hw dX1_whyNot_248
  replace hF := fx_ff c_35 hF
  by_cases c_41 : p1 = (5 : Int32)
  · replace hF := fx_tt c_41 hF
    refine lv_tableIn (off := 248) (tgt := 249) hx hb dX1_whyNot_1 (by rw [c_41]; decide) (by rw [c_41]; decide) (by rw [c_41]; rfl) (by decide) ?_
    refine lv_aload_n hx hb dX1_whyNot_249 rfl (lv_at hl 0 rfl) ?_
    refine lv_iload_n hx hb dX1_whyNot_250 rfl (lv_at hl 2 rfl) ?_
    refine lv_iload_n hx hb dX1_whyNot_251 rfl (lv_at hl 3 rfl) ?_
    refine lv_iload hx hb dX1_whyNot_252 (lv_at hl 4 rfl) ?_
    refine lv_iload hx hb dX1_whyNot_254 (lv_at hl 5 rfl) ?_
    replace hF := fx_b1_e hF
    obtain ⟨r_42, h_43, hF⟩ := hF
    refine cx_cVi (r := r_42) (ws := sC g Rs (some (Rn 100)) im S ++ (stC g Rn N ++ X)) (ws' := sC g Rs (some (Rn 100)) im S ++ (stC g Rn N ++ X)) (As := [.int p2, .int p3, .int p4, .int p5]) (rest := []) E (mX1_whyNotSpoilt_s l g A Rs Rn _ _ S N p2 p3 p4 p5 h_43) (kwX1_X1_whyNotSpoilt E ⟨Nat.le_of_ble_eq_true rfl, Nat.le_of_ble_eq_true rfl⟩) 0 1 rfl rfl rfl hw rfl hl.1 rfl (Nat.le_of_ble_eq_true rfl) dX1_whyNot_256 ⟨Nat.le_of_ble_eq_true rfl, Nat.le_of_ble_eq_true rfl⟩ (fun H locs hw => ?_)
    obtain rfl := Option.some.inj hF
    exact hret _ _ _ _ _ rfl rfl hw dX1_whyNot_259
  replace hF := fx_ff c_41 hF
  by_cases c_44 : p1 = (6 : Int32)
  · replace hF := fx_tt c_44 hF
    refine lv_tableIn (off := 259) (tgt := 260) hx hb dX1_whyNot_1 (by rw [c_44]; decide) (by rw [c_44]; decide) (by rw [c_44]; rfl) (by decide) ?_
    refine lv_aload_n hx hb dX1_whyNot_260 rfl (lv_at hl 0 rfl) ?_
    refine lv_iload_n hx hb dX1_whyNot_261 rfl (lv_at hl 2 rfl) ?_
    replace hF := fx_b1_e hF
    obtain ⟨r_45, h_46, hF⟩ := hF
    refine cx_cVi (r := r_45) (ws := sC g Rs (some (Rn 100)) im S ++ (stC g Rn N ++ X)) (ws' := sC g Rs (some (Rn 100)) im S ++ (stC g Rn N ++ X)) (As := [.int p2]) (rest := []) E (mX1_isAddress_s l g A Rs Rn _ _ S N p2 h_46) (kwX1_X1_isAddress E ⟨Nat.le_of_ble_eq_true rfl, Nat.le_of_ble_eq_true rfl⟩) 0 1 rfl rfl rfl hw rfl hl.1 rfl (Nat.le_of_ble_eq_true rfl) dX1_whyNot_262 ⟨Nat.le_of_ble_eq_true rfl, Nat.le_of_ble_eq_true rfl⟩ (fun H locs hw => ?_)
    refine lv_if_ne (tgt := 272) hx hb dX1_whyNot_265 (by decide) (fun c_47 => ?_) (fun c_47 => ?_)
    · replace hF := fx_ff c_47 hF
      refine lv_iload_n hx hb dX1_whyNot_272 rfl (lv_at hl 3 rfl) ?_
      refine lv_iconst (v := (0 : Int32)) hx hb dX1_whyNot_273 (by decide) ?_
      refine lv_sipush (v := (255 : Int32)) hx hb dX1_whyNot_274 (by decide) ?_
      replace hF := fx_b1_e hF
      obtain ⟨r_48, h_49, hF⟩ := hF
      refine cx_cSi (r := r_48) (ws := sC g Rs (some (Rn 100)) im S ++ (stC g Rn N ++ X)) (ws' := sC g Rs (some (Rn 100)) im S ++ (stC g Rn N ++ X)) (As := [.int p3, .int (0 : Int32), .int (255 : Int32)]) (rest := []) E (mX1_in l g A (sC g Rs (some (Rn 100)) im S ++ (stC g Rn N ++ X)) p3 (0 : Int32) (255 : Int32) h_49) (kwX1_X1_in E ⟨Nat.le_of_ble_eq_true rfl, Nat.le_of_ble_eq_true rfl⟩) hw rfl hl.1 rfl (Nat.le_of_ble_eq_true rfl) dX1_whyNot_277 ⟨Nat.le_of_ble_eq_true rfl, Nat.le_of_ble_eq_true rfl⟩ (fun H locs hw => ?_)
      refine lv_if_eq (tgt := 293) hx hb dX1_whyNot_280 (by decide) (fun c_50 => ?_) (fun c_50 => ?_)
      · replace hF := fx_tt c_50 hF
        refine lv_iconst (v := (1 : Int32)) hx hb dX1_whyNot_293 (by decide) ?_
        refine lv_goto (tgt := 310) hx hb dX1_whyNot_294 (by decide) ?_
        obtain rfl := Option.some.inj hF
        exact hret _ _ _ _ _ rfl rfl hw dX1_whyNot_310
      · replace hF := fx_ff c_50 hF
        refine lv_iload hx hb dX1_whyNot_283 (lv_at hl 4 rfl) ?_
        refine lv_iconst (v := (0 : Int32)) hx hb dX1_whyNot_285 (by decide) ?_
        refine lv_iconst (v := (2 : Int32)) hx hb dX1_whyNot_286 (by decide) ?_
        replace hF := fx_b1_e hF
        obtain ⟨r_51, h_52, hF⟩ := hF
        refine cx_cSi (r := r_51) (ws := sC g Rs (some (Rn 100)) im S ++ (stC g Rn N ++ X)) (ws' := sC g Rs (some (Rn 100)) im S ++ (stC g Rn N ++ X)) (As := [.int p4, .int (0 : Int32), .int (2 : Int32)]) (rest := []) E (mX1_in l g A (sC g Rs (some (Rn 100)) im S ++ (stC g Rn N ++ X)) p4 (0 : Int32) (2 : Int32) h_52) (kwX1_X1_in E ⟨Nat.le_of_ble_eq_true rfl, Nat.le_of_ble_eq_true rfl⟩) hw rfl hl.1 rfl (Nat.le_of_ble_eq_true rfl) dX1_whyNot_287 ⟨Nat.le_of_ble_eq_true rfl, Nat.le_of_ble_eq_true rfl⟩ (fun H locs hw => ?_)
        refine lv_if_ne (tgt := 297) hx hb dX1_whyNot_290 (by decide) (fun c_53 => ?_) (fun c_53 => ?_)
        · replace hF := fx_ff c_53 hF
          refine lv_aload_n hx hb dX1_whyNot_297 rfl (lv_at hl 0 rfl) ?_
          refine lv_iload_n hx hb dX1_whyNot_298 rfl (lv_at hl 2 rfl) ?_
          replace hF := fx_b2_e hF
          obtain ⟨r_54, S_55, h_56, hF⟩ := hF
          refine cx_cVi (r := r_54) (ws := sC g Rs (some (Rn 100)) im S ++ (stC g Rn N ++ X)) (ws' := sC g Rs (some (Rn 100)) im S_55 ++ (stC g Rn N ++ X)) (As := [.int p2]) (rest := []) E (mX1_isAllThere_s l g A Rs Rn _ _ S N p2 h_56) (kwX1_X1_isAllThere E ⟨Nat.le_of_ble_eq_true rfl, Nat.le_of_ble_eq_true rfl⟩) 0 1 rfl rfl rfl hw rfl hl.1 rfl (Nat.le_of_ble_eq_true rfl) dX1_whyNot_299 ⟨Nat.le_of_ble_eq_true rfl, Nat.le_of_ble_eq_true rfl⟩ (fun H locs hw => ?_)
          refine lv_if_eq (tgt := 309) hx hb dX1_whyNot_302 (by decide) (fun c_57 => ?_) (fun c_57 => ?_)
          · replace hF := fx_tt c_57 hF
            refine lv_iconst (v := (2 : Int32)) hx hb dX1_whyNot_309 (by decide) ?_
            obtain rfl := Option.some.inj hF
            exact hret _ _ _ _ _ rfl rfl hw dX1_whyNot_310
          · replace hF := fx_ff c_57 hF
            refine lv_iconst (v := (-1 : Int32)) hx hb dX1_whyNot_305 (by decide) ?_
            refine lv_goto (tgt := 310) hx hb dX1_whyNot_306 (by decide) ?_
            obtain rfl := Option.some.inj hF
            exact hret _ _ _ _ _ rfl rfl hw dX1_whyNot_310
        · replace hF := fx_tt c_53 hF
          refine lv_iconst (v := (1 : Int32)) hx hb dX1_whyNot_293 (by decide) ?_
          refine lv_goto (tgt := 310) hx hb dX1_whyNot_294 (by decide) ?_
          obtain rfl := Option.some.inj hF
          exact hret _ _ _ _ _ rfl rfl hw dX1_whyNot_310
    · replace hF := fx_tt c_47 hF
      refine lv_iconst (v := (0 : Int32)) hx hb dX1_whyNot_268 (by decide) ?_
      refine lv_goto (tgt := 310) hx hb dX1_whyNot_269 (by decide) ?_
      obtain rfl := Option.some.inj hF
      exact hret _ _ _ _ _ rfl rfl hw dX1_whyNot_310
  replace hF := fx_ff c_44 hF
  by_cases c_58 : p1 = (7 : Int32)
  · replace hF := fx_tt c_58 hF
    refine lv_tableIn (off := 310) (tgt := 311) hx hb dX1_whyNot_1 (by rw [c_58]; decide) (by rw [c_58]; decide) (by rw [c_58]; rfl) (by decide) ?_
    refine lv_aload_n hx hb dX1_whyNot_311 rfl (lv_at hl 0 rfl) ?_
    refine cx_cVi (r := (1 : Int32)) (ws := sC g Rs (some (Rn 100)) im S ++ (stC g Rn N ++ X)) (ws' := sC g Rs (some (Rn 100)) im S ++ (stC g Rn N ++ X)) (As := []) (rest := []) E (mX1_isShelf_s l g A Rs Rn _ _ S N (o := (1 : Int32)) rfl) (kwX1_X1_isShelf E ⟨Nat.le_of_ble_eq_true rfl, Nat.le_of_ble_eq_true rfl⟩) 0 1 rfl rfl rfl hw rfl hl.1 rfl (Nat.le_of_ble_eq_true rfl) dX1_whyNot_312 ⟨Nat.le_of_ble_eq_true rfl, Nat.le_of_ble_eq_true rfl⟩ (fun H locs hw => ?_)
    refine lv_if_ne (tgt := 322) hx hb dX1_whyNot_315 (by decide) (fun _ => ?_) (fun c_ => absurd c_ (by decide))
    refine lv_aload_n hx hb dX1_whyNot_322 rfl (lv_at hl 0 rfl) ?_
    replace hF := fx_b1_e hF
    obtain ⟨r_61, h_62, hF⟩ := hF
    refine cx_cVi (r := r_61) (ws := sC g Rs (some (Rn 100)) im S ++ (stC g Rn N ++ X)) (ws' := sC g Rs (some (Rn 100)) im S ++ (stC g Rn N ++ X)) (As := []) (rest := []) E (mX1_cleanable_s l g A Rs Rn _ _ S N h_62) (kwX1_X1_cleanable E ⟨Nat.le_of_ble_eq_true rfl, Nat.le_of_ble_eq_true rfl⟩) 0 1 rfl rfl rfl hw rfl hl.1 rfl (Nat.le_of_ble_eq_true rfl) dX1_whyNot_323 ⟨Nat.le_of_ble_eq_true rfl, Nat.le_of_ble_eq_true rfl⟩ (fun H locs hw => ?_)
    refine lv_if_ne (tgt := 333) hx hb dX1_whyNot_326 (by decide) (fun c_63 => ?_) (fun c_63 => ?_)
    · replace hF := fx_ff c_63 hF
      refine lv_iconst (v := (-1 : Int32)) hx hb dX1_whyNot_333 (by decide) ?_
      obtain rfl := Option.some.inj hF
      exact hret _ _ _ _ _ rfl rfl hw dX1_whyNot_334
    · replace hF := fx_tt c_63 hF
      refine lv_iconst (v := (2 : Int32)) hx hb dX1_whyNot_329 (by decide) ?_
      refine lv_goto (tgt := 334) hx hb dX1_whyNot_330 (by decide) ?_
      obtain rfl := Option.some.inj hF
      exact hret _ _ _ _ _ rfl rfl hw dX1_whyNot_334
  replace hF := fx_ff c_58 hF
  refine lv_tableOut (tgt := 335) hx hb dX1_whyNot_1 (by have z0 : p1.toInt ≠ 0 := fx_ne c_1; have z1 : p1.toInt ≠ 1 := fx_ne c_8; have z2 : p1.toInt ≠ 2 := fx_ne c_19; have z3 : p1.toInt ≠ 3 := fx_ne c_26; have z4 : p1.toInt ≠ 4 := fx_ne c_35; have z5 : p1.toInt ≠ 5 := fx_ne c_41; have z6 : p1.toInt ≠ 6 := fx_ne c_44; have z7 : p1.toInt ≠ 7 := fx_ne c_58; omega) (by decide) ?_
  refine lv_aload_n hx hb dX1_whyNot_335 rfl (lv_at hl 0 rfl) ?_
  refine lv_iload_n hx hb dX1_whyNot_336 rfl (lv_at hl 2 rfl) ?_
  replace hF := fx_b1_e hF
  obtain ⟨r_64, h_65, hF⟩ := hF
  refine cx_cVi (r := r_64) (ws := sC g Rs (some (Rn 100)) im S ++ (stC g Rn N ++ X)) (ws' := sC g Rs (some (Rn 100)) im S ++ (stC g Rn N ++ X)) (As := [.int p2]) (rest := []) E (mX1_isStripe_s l g A Rs Rn _ _ S N p2 h_65) (kwX1_X1_isStripe E ⟨Nat.le_of_ble_eq_true rfl, Nat.le_of_ble_eq_true rfl⟩) 0 1 rfl rfl rfl hw rfl hl.1 rfl (Nat.le_of_ble_eq_true rfl) dX1_whyNot_337 ⟨Nat.le_of_ble_eq_true rfl, Nat.le_of_ble_eq_true rfl⟩ (fun H locs hw => ?_)
  refine lv_if_eq (tgt := 357) hx hb dX1_whyNot_340 (by decide) (fun c_66 => ?_) (fun c_66 => ?_)
  · replace hF := fx_tt c_66 hF
    refine lv_iconst (v := (0 : Int32)) hx hb dX1_whyNot_357 (by decide) ?_
    refine lv_goto (tgt := 390) hx hb dX1_whyNot_358 (by decide) ?_
    obtain rfl := Option.some.inj hF
    exact hret _ _ _ _ _ rfl rfl hw dX1_whyNot_390
  · replace hF := fx_ff c_66 hF
    refine lv_iload_n hx hb dX1_whyNot_343 rfl (lv_at hl 3 rfl) ?_
    refine lv_iconst (v := (0 : Int32)) hx hb dX1_whyNot_344 (by decide) ?_
    refine lv_aload_n hx hb dX1_whyNot_345 rfl (lv_at hl 0 rfl) ?_
    replace hF := fx_b1_e hF
    obtain ⟨r_67, h_68, hF⟩ := hF
    refine cx_cVi (r := r_67) (ws := sC g Rs (some (Rn 100)) im S ++ (stC g Rn N ++ X)) (ws' := sC g Rs (some (Rn 100)) im S ++ (stC g Rn N ++ X)) (As := []) (rest := [.int (0 : Int32), .int p3]) E (mX1_chunk l g A Rs _ _ _ S h_68) (kwX1_X1_chunk E ⟨Nat.le_of_ble_eq_true rfl, Nat.le_of_ble_eq_true rfl⟩) 0 1 rfl rfl rfl hw rfl hl.1 rfl (Nat.le_of_ble_eq_true rfl) dX1_whyNot_346 ⟨Nat.le_of_ble_eq_true rfl, Nat.le_of_ble_eq_true rfl⟩ (fun H locs hw => ?_)
    refine lv_iconst (v := (1 : Int32)) hx hb dX1_whyNot_349 (by decide) ?_
    refine lv_isub hx hb dX1_whyNot_350 ?_
    replace hF := fx_b1_e hF
    obtain ⟨r_69, h_70, hF⟩ := hF
    refine cx_cSi (r := r_69) (ws := sC g Rs (some (Rn 100)) im S ++ (stC g Rn N ++ X)) (ws' := sC g Rs (some (Rn 100)) im S ++ (stC g Rn N ++ X)) (As := [.int p3, .int (0 : Int32), .int (r_67 - (1 : Int32))]) (rest := []) E (mX1_in l g A (sC g Rs (some (Rn 100)) im S ++ (stC g Rn N ++ X)) p3 (0 : Int32) (r_67 - (1 : Int32)) h_70) (kwX1_X1_in E ⟨Nat.le_of_ble_eq_true rfl, Nat.le_of_ble_eq_true rfl⟩) hw rfl hl.1 rfl (Nat.le_of_ble_eq_true rfl) dX1_whyNot_351 ⟨Nat.le_of_ble_eq_true rfl, Nat.le_of_ble_eq_true rfl⟩ (fun H locs hw => ?_)
    refine lv_if_ne (tgt := 361) hx hb dX1_whyNot_354 (by decide) (fun c_71 => ?_) (fun c_71 => ?_)
    · replace hF := fx_ff c_71 hF
      refine lv_iload hx hb dX1_whyNot_361 (lv_at hl 4 rfl) ?_
      refine lv_iconst (v := (0 : Int32)) hx hb dX1_whyNot_363 (by decide) ?_
      refine lv_sipush (v := (255 : Int32)) hx hb dX1_whyNot_364 (by decide) ?_
      replace hF := fx_b1_e hF
      obtain ⟨r_72, h_73, hF⟩ := hF
      refine cx_cSi (r := r_72) (ws := sC g Rs (some (Rn 100)) im S ++ (stC g Rn N ++ X)) (ws' := sC g Rs (some (Rn 100)) im S ++ (stC g Rn N ++ X)) (As := [.int p4, .int (0 : Int32), .int (255 : Int32)]) (rest := []) E (mX1_in l g A (sC g Rs (some (Rn 100)) im S ++ (stC g Rn N ++ X)) p4 (0 : Int32) (255 : Int32) h_73) (kwX1_X1_in E ⟨Nat.le_of_ble_eq_true rfl, Nat.le_of_ble_eq_true rfl⟩) hw rfl hl.1 rfl (Nat.le_of_ble_eq_true rfl) dX1_whyNot_367 ⟨Nat.le_of_ble_eq_true rfl, Nat.le_of_ble_eq_true rfl⟩ (fun H locs hw => ?_)
      refine lv_if_eq (tgt := 389) hx hb dX1_whyNot_370 (by decide) (fun c_74 => ?_) (fun c_74 => ?_)
      · replace hF := fx_tt c_74 hF
        refine lv_iconst (v := (1 : Int32)) hx hb dX1_whyNot_389 (by decide) ?_
        obtain rfl := Option.some.inj hF
        exact hret _ _ _ _ _ rfl rfl hw dX1_whyNot_390
      · replace hF := fx_ff c_74 hF
        refine lv_iload hx hb dX1_whyNot_373 (lv_at hl 5 rfl) ?_
        refine lv_iconst (v := (0 : Int32)) hx hb dX1_whyNot_375 (by decide) ?_
        refine lv_sipush (v := (255 : Int32)) hx hb dX1_whyNot_376 (by decide) ?_
        replace hF := fx_b1_e hF
        obtain ⟨r_75, h_76, hF⟩ := hF
        refine cx_cSi (r := r_75) (ws := sC g Rs (some (Rn 100)) im S ++ (stC g Rn N ++ X)) (ws' := sC g Rs (some (Rn 100)) im S ++ (stC g Rn N ++ X)) (As := [.int p5, .int (0 : Int32), .int (255 : Int32)]) (rest := []) E (mX1_in l g A (sC g Rs (some (Rn 100)) im S ++ (stC g Rn N ++ X)) p5 (0 : Int32) (255 : Int32) h_76) (kwX1_X1_in E ⟨Nat.le_of_ble_eq_true rfl, Nat.le_of_ble_eq_true rfl⟩) hw rfl hl.1 rfl (Nat.le_of_ble_eq_true rfl) dX1_whyNot_379 ⟨Nat.le_of_ble_eq_true rfl, Nat.le_of_ble_eq_true rfl⟩ (fun H locs hw => ?_)
        refine lv_if_eq (tgt := 389) hx hb dX1_whyNot_382 (by decide) (fun c_77 => ?_) (fun c_77 => ?_)
        · replace hF := fx_tt c_77 hF
          refine lv_iconst (v := (1 : Int32)) hx hb dX1_whyNot_389 (by decide) ?_
          obtain rfl := Option.some.inj hF
          exact hret _ _ _ _ _ rfl rfl hw dX1_whyNot_390
        · replace hF := fx_ff c_77 hF
          refine lv_iconst (v := (-1 : Int32)) hx hb dX1_whyNot_385 (by decide) ?_
          refine lv_goto (tgt := 390) hx hb dX1_whyNot_386 (by decide) ?_
          obtain rfl := Option.some.inj hF
          exact hret _ _ _ _ _ rfl rfl hw dX1_whyNot_390
    · replace hF := fx_tt c_71 hF
      refine lv_iconst (v := (0 : Int32)) hx hb dX1_whyNot_357 (by decide) ?_
      refine lv_goto (tgt := 390) hx hb dX1_whyNot_358 (by decide) ?_
      obtain rfl := Option.some.inj hF
      exact hret _ _ _ _ _ rfl rfl hw dX1_whyNot_390
/-! whyNot(IIIII)I -/
def FX1_whyNot_n (S : Sx) (p1 : Int32) (p2 : Int32) (p3 : Int32) (p4 : Int32) (p5 : Int32) : Option (Int32 × Sx) :=
  if p1 = (0 : Int32) then (some ((0 : Int32), S)) else if p1 = (1 : Int32) then (some ((0 : Int32), S)) else if p1 = (2 : Int32) then (some ((0 : Int32), S)) else if p1 = (3 : Int32) then (some ((0 : Int32), S)) else if p1 = (4 : Int32) then (some ((0 : Int32), S)) else if p1 = (5 : Int32) then (some ((0 : Int32), S)) else if p1 = (6 : Int32) then (some ((0 : Int32), S)) else if p1 = (7 : Int32) then (some ((0 : Int32), S)) else (some ((0 : Int32), S))
set_option maxHeartbeats 4000000 in
set_option maxRecDepth 100000 in
theorem mX1_whyNot_n (l : Launch) (g : Gx) (A : Nat → Prop) (Rs : Nat → Nat) (im : Option Nat) (X : va_W) (S : Sx) (p1 : Int32) (p2 : Int32) (p3 : Int32) (p4 : Int32) (p5 : Int32) {o : Int32 × Sx} (hF : FX1_whyNot_n S p1 p2 p3 p4 p5 = some o) :
    cx_i l yX1_whyNot cX1_whyNot 6 .int rmX1_whyNot [.ref (Rs 100), .int p1, .int p2, .int p3, .int p4, .int p5] g A (sC g Rs none im S ++ X) o.1 (sC g Rs none im o.2 ++ X) 0 0 := by
  refine cx_i_of (by decide) (Nat.le_of_ble_eq_true rfl) ?_
  intro p e s m av below meth c Q E hret H hw ls hl
  have E : cx_E p m meth c cX1_whyNot 6 s av RX1 g A := E
  have hx := E.1.1
  have hb := E.1.2.1
  have hl : lv_has ls 6 [(0, .ref (Rs 100)), (1, .int p1), (2, .int p2), (3, .int p3), (4, .int p4), (5, .int p5)] := hl
  generalize hlc : ([] : List Loc) = locs at hw ⊢
  clear hlc
  unfold FX1_whyNot_n at hF
  refine lv_iload_n hx hb dX1_whyNot_0 rfl (lv_at hl 1 rfl) ?_
  by_cases c_1 : p1 = (0 : Int32)
  · replace hF := fx_tt c_1 hF
    refine lv_tableIn (off := 47) (tgt := 48) hx hb dX1_whyNot_1 (by rw [c_1]; decide) (by rw [c_1]; decide) (by rw [c_1]; rfl) (by decide) ?_
    refine lv_aload_n hx hb dX1_whyNot_48 rfl (lv_at hl 0 rfl) ?_
    refine lv_iload_n hx hb dX1_whyNot_49 rfl (lv_at hl 2 rfl) ?_
    refine cx_cVi (r := (0 : Int32)) (ws := sC g Rs none im S ++ X) (ws' := sC g Rs none im S ++ X) (As := [.int p2]) (rest := []) E (mX1_isAddress_n l g A Rs _ _ S p2 (o := (0 : Int32)) rfl) (kwX1_X1_isAddress E ⟨Nat.le_of_ble_eq_true rfl, Nat.le_of_ble_eq_true rfl⟩) 0 1 rfl rfl rfl hw rfl hl.1 rfl (Nat.le_of_ble_eq_true rfl) dX1_whyNot_50 ⟨Nat.le_of_ble_eq_true rfl, Nat.le_of_ble_eq_true rfl⟩ (fun H locs hw => ?_)
    refine lv_if_ne (tgt := 60) hx hb dX1_whyNot_53 (by decide) (fun c_ => absurd c_ (by decide)) (fun _ => ?_)
    refine lv_iconst (v := (0 : Int32)) hx hb dX1_whyNot_56 (by decide) ?_
    refine lv_goto (tgt := 76) hx hb dX1_whyNot_57 (by decide) ?_
    obtain rfl := Option.some.inj hF
    exact hret _ _ _ _ _ rfl rfl hw dX1_whyNot_76
  replace hF := fx_ff c_1 hF
  by_cases c_4 : p1 = (1 : Int32)
  · replace hF := fx_tt c_4 hF
    refine lv_tableIn (off := 76) (tgt := 77) hx hb dX1_whyNot_1 (by rw [c_4]; decide) (by rw [c_4]; decide) (by rw [c_4]; rfl) (by decide) ?_
    refine lv_aload_n hx hb dX1_whyNot_77 rfl (lv_at hl 0 rfl) ?_
    refine lv_iload_n hx hb dX1_whyNot_78 rfl (lv_at hl 2 rfl) ?_
    refine cx_cVi (r := (0 : Int32)) (ws := sC g Rs none im S ++ X) (ws' := sC g Rs none im S ++ X) (As := [.int p2]) (rest := []) E (mX1_isDisk_n l g A Rs _ _ S p2 (o := (0 : Int32)) rfl) (kwX1_X1_isDisk E ⟨Nat.le_of_ble_eq_true rfl, Nat.le_of_ble_eq_true rfl⟩) 0 1 rfl rfl rfl hw rfl hl.1 rfl (Nat.le_of_ble_eq_true rfl) dX1_whyNot_79 ⟨Nat.le_of_ble_eq_true rfl, Nat.le_of_ble_eq_true rfl⟩ (fun H locs hw => ?_)
    refine lv_if_ne (tgt := 89) hx hb dX1_whyNot_82 (by decide) (fun c_ => absurd c_ (by decide)) (fun _ => ?_)
    refine lv_iconst (v := (0 : Int32)) hx hb dX1_whyNot_85 (by decide) ?_
    refine lv_goto (tgt := 131) hx hb dX1_whyNot_86 (by decide) ?_
    obtain rfl := Option.some.inj hF
    exact hret _ _ _ _ _ rfl rfl hw dX1_whyNot_131
  replace hF := fx_ff c_4 hF
  by_cases c_7 : p1 = (2 : Int32)
  · replace hF := fx_tt c_7 hF
    refine lv_tableIn (off := 131) (tgt := 132) hx hb dX1_whyNot_1 (by rw [c_7]; decide) (by rw [c_7]; decide) (by rw [c_7]; rfl) (by decide) ?_
    refine lv_aload_n hx hb dX1_whyNot_132 rfl (lv_at hl 0 rfl) ?_
    refine lv_iload_n hx hb dX1_whyNot_133 rfl (lv_at hl 2 rfl) ?_
    refine cx_cVi (r := (0 : Int32)) (ws := sC g Rs none im S ++ X) (ws' := sC g Rs none im S ++ X) (As := [.int p2]) (rest := []) E (mX1_isDisk_n l g A Rs _ _ S p2 (o := (0 : Int32)) rfl) (kwX1_X1_isDisk E ⟨Nat.le_of_ble_eq_true rfl, Nat.le_of_ble_eq_true rfl⟩) 0 1 rfl rfl rfl hw rfl hl.1 rfl (Nat.le_of_ble_eq_true rfl) dX1_whyNot_134 ⟨Nat.le_of_ble_eq_true rfl, Nat.le_of_ble_eq_true rfl⟩ (fun H locs hw => ?_)
    refine lv_if_ne (tgt := 144) hx hb dX1_whyNot_137 (by decide) (fun c_ => absurd c_ (by decide)) (fun _ => ?_)
    refine lv_iconst (v := (0 : Int32)) hx hb dX1_whyNot_140 (by decide) ?_
    refine lv_goto (tgt := 176) hx hb dX1_whyNot_141 (by decide) ?_
    obtain rfl := Option.some.inj hF
    exact hret _ _ _ _ _ rfl rfl hw dX1_whyNot_176
  replace hF := fx_ff c_7 hF
  by_cases c_10 : p1 = (3 : Int32)
  · replace hF := fx_tt c_10 hF
    refine lv_tableIn (off := 176) (tgt := 177) hx hb dX1_whyNot_1 (by rw [c_10]; decide) (by rw [c_10]; decide) (by rw [c_10]; rfl) (by decide) ?_
    refine lv_aload_n hx hb dX1_whyNot_177 rfl (lv_at hl 0 rfl) ?_
    refine lv_iload_n hx hb dX1_whyNot_178 rfl (lv_at hl 2 rfl) ?_
    refine cx_cVi (r := (0 : Int32)) (ws := sC g Rs none im S ++ X) (ws' := sC g Rs none im S ++ X) (As := [.int p2]) (rest := []) E (mX1_isDisk_n l g A Rs _ _ S p2 (o := (0 : Int32)) rfl) (kwX1_X1_isDisk E ⟨Nat.le_of_ble_eq_true rfl, Nat.le_of_ble_eq_true rfl⟩) 0 1 rfl rfl rfl hw rfl hl.1 rfl (Nat.le_of_ble_eq_true rfl) dX1_whyNot_179 ⟨Nat.le_of_ble_eq_true rfl, Nat.le_of_ble_eq_true rfl⟩ (fun H locs hw => ?_)
    refine lv_if_ne (tgt := 189) hx hb dX1_whyNot_182 (by decide) (fun c_ => absurd c_ (by decide)) (fun _ => ?_)
    refine lv_iconst (v := (0 : Int32)) hx hb dX1_whyNot_185 (by decide) ?_
    refine lv_goto (tgt := 221) hx hb dX1_whyNot_186 (by decide) ?_
    obtain rfl := Option.some.inj hF
    exact hret _ _ _ _ _ rfl rfl hw dX1_whyNot_221
  replace hF := fx_ff c_10 hF
  by_cases c_13 : p1 = (4 : Int32)
  · replace hF := fx_tt c_13 hF
    refine lv_tableIn (off := 221) (tgt := 222) hx hb dX1_whyNot_1 (by rw [c_13]; decide) (by rw [c_13]; decide) (by rw [c_13]; rfl) (by decide) ?_
    refine lv_aload_n hx hb dX1_whyNot_222 rfl (lv_at hl 0 rfl) ?_
    refine cx_cVi (r := (0 : Int32)) (ws := sC g Rs none im S ++ X) (ws' := sC g Rs none im S ++ X) (As := []) (rest := []) E (mX1_isShelf_n l g A Rs _ _ S (o := (0 : Int32)) rfl) (kwX1_X1_isShelf E ⟨Nat.le_of_ble_eq_true rfl, Nat.le_of_ble_eq_true rfl⟩) 0 1 rfl rfl rfl hw rfl hl.1 rfl (Nat.le_of_ble_eq_true rfl) dX1_whyNot_223 ⟨Nat.le_of_ble_eq_true rfl, Nat.le_of_ble_eq_true rfl⟩ (fun H locs hw => ?_)
    refine lv_if_ne (tgt := 233) hx hb dX1_whyNot_226 (by decide) (fun c_ => absurd c_ (by decide)) (fun _ => ?_)
    refine lv_iconst (v := (0 : Int32)) hx hb dX1_whyNot_229 (by decide) ?_
    refine lv_goto (tgt := 248) hx hb dX1_whyNot_230 (by decide) ?_
    obtain rfl := Option.some.inj hF
    exact hret _ _ _ _ _ rfl rfl hw dX1_whyNot_248
  replace hF := fx_ff c_13 hF
  by_cases c_16 : p1 = (5 : Int32)
  · replace hF := fx_tt c_16 hF
    refine lv_tableIn (off := 248) (tgt := 249) hx hb dX1_whyNot_1 (by rw [c_16]; decide) (by rw [c_16]; decide) (by rw [c_16]; rfl) (by decide) ?_
    refine lv_aload_n hx hb dX1_whyNot_249 rfl (lv_at hl 0 rfl) ?_
    refine lv_iload_n hx hb dX1_whyNot_250 rfl (lv_at hl 2 rfl) ?_
    refine lv_iload_n hx hb dX1_whyNot_251 rfl (lv_at hl 3 rfl) ?_
    refine lv_iload hx hb dX1_whyNot_252 (lv_at hl 4 rfl) ?_
    refine lv_iload hx hb dX1_whyNot_254 (lv_at hl 5 rfl) ?_
    refine cx_cVi (r := (0 : Int32)) (ws := sC g Rs none im S ++ X) (ws' := sC g Rs none im S ++ X) (As := [.int p2, .int p3, .int p4, .int p5]) (rest := []) E (mX1_whyNotSpoilt_n l g A Rs _ _ S p2 p3 p4 p5 (o := (0 : Int32)) rfl) (kwX1_X1_whyNotSpoilt E ⟨Nat.le_of_ble_eq_true rfl, Nat.le_of_ble_eq_true rfl⟩) 0 1 rfl rfl rfl hw rfl hl.1 rfl (Nat.le_of_ble_eq_true rfl) dX1_whyNot_256 ⟨Nat.le_of_ble_eq_true rfl, Nat.le_of_ble_eq_true rfl⟩ (fun H locs hw => ?_)
    obtain rfl := Option.some.inj hF
    exact hret _ _ _ _ _ rfl rfl hw dX1_whyNot_259
  replace hF := fx_ff c_16 hF
  by_cases c_18 : p1 = (6 : Int32)
  · replace hF := fx_tt c_18 hF
    refine lv_tableIn (off := 259) (tgt := 260) hx hb dX1_whyNot_1 (by rw [c_18]; decide) (by rw [c_18]; decide) (by rw [c_18]; rfl) (by decide) ?_
    refine lv_aload_n hx hb dX1_whyNot_260 rfl (lv_at hl 0 rfl) ?_
    refine lv_iload_n hx hb dX1_whyNot_261 rfl (lv_at hl 2 rfl) ?_
    refine cx_cVi (r := (0 : Int32)) (ws := sC g Rs none im S ++ X) (ws' := sC g Rs none im S ++ X) (As := [.int p2]) (rest := []) E (mX1_isAddress_n l g A Rs _ _ S p2 (o := (0 : Int32)) rfl) (kwX1_X1_isAddress E ⟨Nat.le_of_ble_eq_true rfl, Nat.le_of_ble_eq_true rfl⟩) 0 1 rfl rfl rfl hw rfl hl.1 rfl (Nat.le_of_ble_eq_true rfl) dX1_whyNot_262 ⟨Nat.le_of_ble_eq_true rfl, Nat.le_of_ble_eq_true rfl⟩ (fun H locs hw => ?_)
    refine lv_if_ne (tgt := 272) hx hb dX1_whyNot_265 (by decide) (fun c_ => absurd c_ (by decide)) (fun _ => ?_)
    refine lv_iconst (v := (0 : Int32)) hx hb dX1_whyNot_268 (by decide) ?_
    refine lv_goto (tgt := 310) hx hb dX1_whyNot_269 (by decide) ?_
    obtain rfl := Option.some.inj hF
    exact hret _ _ _ _ _ rfl rfl hw dX1_whyNot_310
  replace hF := fx_ff c_18 hF
  by_cases c_21 : p1 = (7 : Int32)
  · replace hF := fx_tt c_21 hF
    refine lv_tableIn (off := 310) (tgt := 311) hx hb dX1_whyNot_1 (by rw [c_21]; decide) (by rw [c_21]; decide) (by rw [c_21]; rfl) (by decide) ?_
    refine lv_aload_n hx hb dX1_whyNot_311 rfl (lv_at hl 0 rfl) ?_
    refine cx_cVi (r := (0 : Int32)) (ws := sC g Rs none im S ++ X) (ws' := sC g Rs none im S ++ X) (As := []) (rest := []) E (mX1_isShelf_n l g A Rs _ _ S (o := (0 : Int32)) rfl) (kwX1_X1_isShelf E ⟨Nat.le_of_ble_eq_true rfl, Nat.le_of_ble_eq_true rfl⟩) 0 1 rfl rfl rfl hw rfl hl.1 rfl (Nat.le_of_ble_eq_true rfl) dX1_whyNot_312 ⟨Nat.le_of_ble_eq_true rfl, Nat.le_of_ble_eq_true rfl⟩ (fun H locs hw => ?_)
    refine lv_if_ne (tgt := 322) hx hb dX1_whyNot_315 (by decide) (fun c_ => absurd c_ (by decide)) (fun _ => ?_)
    refine lv_iconst (v := (0 : Int32)) hx hb dX1_whyNot_318 (by decide) ?_
    refine lv_goto (tgt := 334) hx hb dX1_whyNot_319 (by decide) ?_
    obtain rfl := Option.some.inj hF
    exact hret _ _ _ _ _ rfl rfl hw dX1_whyNot_334
  replace hF := fx_ff c_21 hF
  refine lv_tableOut (tgt := 335) hx hb dX1_whyNot_1 (by have z0 : p1.toInt ≠ 0 := fx_ne c_1; have z1 : p1.toInt ≠ 1 := fx_ne c_4; have z2 : p1.toInt ≠ 2 := fx_ne c_7; have z3 : p1.toInt ≠ 3 := fx_ne c_10; have z4 : p1.toInt ≠ 4 := fx_ne c_13; have z5 : p1.toInt ≠ 5 := fx_ne c_16; have z6 : p1.toInt ≠ 6 := fx_ne c_18; have z7 : p1.toInt ≠ 7 := fx_ne c_21; omega) (by decide) ?_
  refine lv_aload_n hx hb dX1_whyNot_335 rfl (lv_at hl 0 rfl) ?_
  refine lv_iload_n hx hb dX1_whyNot_336 rfl (lv_at hl 2 rfl) ?_
  refine cx_cVi (r := (0 : Int32)) (ws := sC g Rs none im S ++ X) (ws' := sC g Rs none im S ++ X) (As := [.int p2]) (rest := []) E (mX1_isStripe_n l g A Rs _ _ S p2 (o := (0 : Int32)) rfl) (kwX1_X1_isStripe E ⟨Nat.le_of_ble_eq_true rfl, Nat.le_of_ble_eq_true rfl⟩) 0 1 rfl rfl rfl hw rfl hl.1 rfl (Nat.le_of_ble_eq_true rfl) dX1_whyNot_337 ⟨Nat.le_of_ble_eq_true rfl, Nat.le_of_ble_eq_true rfl⟩ (fun H locs hw => ?_)
  refine lv_if_eq (tgt := 357) hx hb dX1_whyNot_340 (by decide) (fun _ => ?_) (fun c_ => absurd c_ (by decide))
  refine lv_iconst (v := (0 : Int32)) hx hb dX1_whyNot_357 (by decide) ?_
  refine lv_goto (tgt := 390) hx hb dX1_whyNot_358 (by decide) ?_
  obtain rfl := Option.some.inj hF
  exact hret _ _ _ _ _ rfl rfl hw dX1_whyNot_390
/-! weighedWithout(I)I -/
def JX1_weighedWithout_50 (x2_1 : Int32) : Option Int32 :=
  some x2_1
def JX1_weighedWithout_44 (x3_3 : Int32) (x2_9 : Int32) : Option ((Int32 × Int32) ⊕ (Int32)) :=
  fx_lt (x3_3 + (1 : Int32)) (fun v_10 => some (.inl (x2_9, v_10)))
def LX1_weighedWithout_4 (S : Sx) (p1 : Int32) (q_ : Int32 × Int32) : Option ((Int32 × Int32) ⊕ (Int32)) :=
  fx_u2 q_ (fun x2_2 x3_3 => fx_b1 (FX1_data S) (fun r_4 => if r_4 ≤ x3_3 then (some (.inr x2_2)) else (fx_b1 (FX1_has p1 x3_3) (fun r_7 => if r_7 = 0 then (fx_gd (fx_in x3_3 8) (fx_b1 (FX3_power S x3_3) (fun r_13 => fx_b1 (FX3_times S (gx_A S 27 x3_3.toNatClampNeg) r_13) (fun r_15 => fx_lt (x2_2 ^^^ r_15) (fun v_17 => JX1_weighedWithout_44 x3_3 v_17))))) else (JX1_weighedWithout_44 x3_3 x2_2)))))
def FX1_weighedWithout (S : Sx) (p1 : Int32) : Option Int32 :=
  fx_b1 (fx_lp (LX1_weighedWithout_4 S p1) 2000 ((0 : Int32), (0 : Int32))) (fun y2_18 => JX1_weighedWithout_50 y2_18)
set_option maxHeartbeats 4000000 in
set_option maxRecDepth 100000 in
theorem mX1_weighedWithout (l : Launch) (g : Gx) (A : Nat → Prop) (Rs : Nat → Nat) (nw im : Option Nat) (X : va_W) (S : Sx) (p1 : Int32) {o : Int32} (hF : FX1_weighedWithout S p1 = some o) :
    cx_i l yX1_weighedWithout cX1_weighedWithout 4 .int rmX1_weighedWithout [.ref (Rs 100), .int p1] g A (sC g Rs nw im S ++ X) o (sC g Rs nw im S ++ X) 0 0 := by
  refine cx_i_of (by decide) (Nat.le_of_ble_eq_true rfl) ?_
  intro p e s m av below meth c Q E hret H hw ls hl
  have E : cx_E p m meth c cX1_weighedWithout 4 s av RX1 g A := E
  have hx := E.1.1
  have hb := E.1.2.1
  have hl : lv_has ls 4 [(0, .ref (Rs 100)), (1, .int p1)] := hl
  generalize hlc : ([] : List Loc) = locs at hw ⊢
  clear hlc
  unfold FX1_weighedWithout at hF
  refine lv_iconst (v := (0 : Int32)) hx hb dX1_weighedWithout_0 (by decide) ?_
  refine lv_istore_n hx hb dX1_weighedWithout_1 rfl hl (by decide) rfl (fun ls hl => ?_)
  have hl : lv_has ls 4 [(2, .int (0 : Int32)), (0, .ref (Rs 100)), (1, .int p1)] := hl
  refine lv_iconst (v := (0 : Int32)) hx hb dX1_weighedWithout_2 (by decide) ?_
  refine lv_istore_n hx hb dX1_weighedWithout_3 rfl hl (by decide) rfl (fun ls hl => ?_)
  have hl : lv_has ls 4 [(3, .int (0 : Int32)), (2, .int (0 : Int32)), (0, .ref (Rs 100)), (1, .int p1)] := hl
  have jn_50 : ∀ (x2_1 : Int32), JX1_weighedWithout_50 x2_1 = some o → ∀ (H : Heap) (locs : List Loc) (ls : Array Slot), cx_W g A s (sC g Rs nw im S ++ X) H locs → lv_has ls 4 [(2, .int x2_1)] → W p l e rmX1_weighedWithout s m av below meth c H locs 0 0 Q (F0 m 50 ls []) := by
    intro x2_1 hJ_50 H locs ls hw hl
    unfold JX1_weighedWithout_50 at hJ_50
    refine lv_iload_n hx hb dX1_weighedWithout_50 rfl (lv_at hl 0 rfl) ?_
    obtain rfl := Option.some.inj hJ_50
    exact hret _ _ _ _ _ rfl rfl hw dX1_weighedWithout_51
  replace hF := fx_b1_e hF
  obtain ⟨ex_4, hL_4, hF⟩ := hF
  have key_4 : ∀ (n_4 : Nat) (x2_2 : Int32) (x3_3 : Int32), fx_lp (LX1_weighedWithout_4 S p1) n_4 (x2_2, x3_3) = some ex_4 → ∀ (H : Heap) (locs : List Loc) (ls : Array Slot), cx_W g A s (sC g Rs nw im S ++ X) H locs → lv_has ls 4 [(0, .ref (Rs 100)), (1, .int p1), (2, .int x2_2), (3, .int x3_3)] → W p l e rmX1_weighedWithout s m av below meth c H locs 0 0 Q (F0 m 4 ls []) := by
    intro n_4
    induction n_4 with
    | zero => intro x2_2 x3_3 hL_4; exact fx_lp_0 hL_4
    | succ n_4 ih_4 =>
      intro x2_2 x3_3 hL_4 H locs ls hw hl
      replace hL_4 := fx_lp_s hL_4
      obtain ⟨o_4, hB_4, hO_4⟩ := hL_4
      unfold LX1_weighedWithout_4 at hB_4
      replace hB_4 := fx_u2_e hB_4
      refine lv_iload_n hx hb dX1_weighedWithout_4 rfl (lv_at hl 3 rfl) ?_
      refine lv_aload_n hx hb dX1_weighedWithout_5 rfl (lv_at hl 0 rfl) ?_
      replace hB_4 := fx_b1_e hB_4
      obtain ⟨r_4, h_5, hB_4⟩ := hB_4
      refine cx_cVi (r := r_4) (ws := sC g Rs nw im S ++ X) (ws' := sC g Rs nw im S ++ X) (As := []) (rest := [.int x3_3]) E (mX1_data l g A Rs _ _ _ S h_5) (kwX1_X1_data E ⟨Nat.le_of_ble_eq_true rfl, Nat.le_of_ble_eq_true rfl⟩) 0 1 rfl rfl rfl hw rfl hl.1 rfl (Nat.le_of_ble_eq_true rfl) dX1_weighedWithout_6 ⟨Nat.le_of_ble_eq_true rfl, Nat.le_of_ble_eq_true rfl⟩ (fun H locs hw => ?_)
      refine lv_icmp_ge (tgt := 50) hx hb dX1_weighedWithout_9 (by decide) (fun c_6 => ?_) (fun c_6 => ?_)
      · replace hB_4 := fx_tt c_6 hB_4
        obtain rfl := fx_ex hB_4 hO_4
        exact jn_50 x2_2 hF _ _ _ hw (lv_sub hl [2] rfl)
      · replace hB_4 := fx_ff c_6 hB_4
        refine lv_iload_n hx hb dX1_weighedWithout_12 rfl (lv_at hl 1 rfl) ?_
        refine lv_iload_n hx hb dX1_weighedWithout_13 rfl (lv_at hl 3 rfl) ?_
        replace hB_4 := fx_b1_e hB_4
        obtain ⟨r_7, h_8, hB_4⟩ := hB_4
        refine cx_cSi (r := r_7) (ws := sC g Rs nw im S ++ X) (ws' := sC g Rs nw im S ++ X) (As := [.int p1, .int x3_3]) (rest := []) E (mX1_has l g A (sC g Rs nw im S ++ X) p1 x3_3 h_8) (kwX1_X1_has E ⟨Nat.le_of_ble_eq_true rfl, Nat.le_of_ble_eq_true rfl⟩) hw rfl hl.1 rfl (Nat.le_of_ble_eq_true rfl) dX1_weighedWithout_14 ⟨Nat.le_of_ble_eq_true rfl, Nat.le_of_ble_eq_true rfl⟩ (fun H locs hw => ?_)
        have jn_44 : ∀ (x2_9 : Int32), JX1_weighedWithout_44 x3_3 x2_9 = some o_4 → ∀ (H : Heap) (locs : List Loc) (ls : Array Slot), cx_W g A s (sC g Rs nw im S ++ X) H locs → lv_has ls 4 [(0, .ref (Rs 100)), (1, .int p1), (2, .int x2_9), (3, .int x3_3)] → W p l e rmX1_weighedWithout s m av below meth c H locs 0 0 Q (F0 m 44 ls []) := by
          intro x2_9 hJ_44 H locs ls hw hl
          unfold JX1_weighedWithout_44 at hJ_44
          obtain ⟨v_10, ev_10⟩ : ∃ z : Int32, z = x3_3 + (1 : Int32) := ⟨_, rfl⟩
          replace hJ_44 := fx_lt_e ev_10 hJ_44
          refine cx_iinc (z := (1 : Int32)) (v := v_10) hx hb dX1_weighedWithout_44 hl (k := 3) rfl (by decide) ev_10 (by decide) rfl (fun ls hl => ?_)
          have hl : lv_has ls 4 [(3, .int v_10), (0, .ref (Rs 100)), (1, .int p1), (2, .int x2_9)] := hl
          refine lv_goto (tgt := 4) hx hb dX1_weighedWithout_47 (by decide) ?_
          exact ih_4 x2_9 v_10 (fx_bk hJ_44 hO_4) _ _ _ hw (lv_sub hl [1, 2, 3, 0] rfl)
        refine lv_if_ne (tgt := 44) hx hb dX1_weighedWithout_17 (by decide) (fun c_11 => ?_) (fun c_11 => ?_)
        · replace hB_4 := fx_ff c_11 hB_4
          exact jn_44 x2_2 hB_4 _ _ _ hw hl
        · replace hB_4 := fx_tt c_11 hB_4
          refine lv_iload_n hx hb dX1_weighedWithout_20 rfl (lv_at hl 2 rfl) ?_
          refine lv_aload_n hx hb dX1_weighedWithout_21 rfl (lv_at hl 0 rfl) ?_
          refine gX1_18 E hw dX1_weighedWithout_22 ?_
          refine lv_aload_n hx hb dX1_weighedWithout_25 rfl (lv_at hl 0 rfl) ?_
          refine gX1_27 E hw dX1_weighedWithout_26 ?_
          refine lv_iload_n hx hb dX1_weighedWithout_29 rfl (lv_at hl 3 rfl) ?_
          replace hB_4 := fx_gd_e hB_4
          obtain ⟨h_12, hB_4⟩ := hB_4
          refine raX1_27 E hw (fx_in_e h_12) dX1_weighedWithout_30 ?_
          refine lv_aload_n hx hb dX1_weighedWithout_31 rfl (lv_at hl 0 rfl) ?_
          refine gX1_18 E hw dX1_weighedWithout_32 ?_
          refine lv_iload_n hx hb dX1_weighedWithout_35 rfl (lv_at hl 3 rfl) ?_
          replace hB_4 := fx_b1_e hB_4
          obtain ⟨r_13, h_14, hB_4⟩ := hB_4
          refine cx_cVi (r := r_13) (ws := sC g Rs nw im S ++ X) (ws' := sC g Rs nw im S ++ X) (As := [.int x3_3]) (rest := [.int (gx_A S 27 x3_3.toNatClampNeg), .ref (Rs 18), .int x2_2]) E (mX3_power l g A Rs _ _ _ S x3_3 h_14) (kwX1_X3_power E ⟨Nat.le_of_ble_eq_true rfl, Nat.le_of_ble_eq_true rfl⟩) 16 3 rfl rfl rfl hw rfl hl.1 rfl (Nat.le_of_ble_eq_true rfl) dX1_weighedWithout_36 ⟨Nat.le_of_ble_eq_true rfl, Nat.le_of_ble_eq_true rfl⟩ (fun H locs hw => ?_)
          replace hB_4 := fx_b1_e hB_4
          obtain ⟨r_15, h_16, hB_4⟩ := hB_4
          refine cx_cVi (r := r_15) (ws := sC g Rs nw im S ++ X) (ws' := sC g Rs nw im S ++ X) (As := [.int (gx_A S 27 x3_3.toNatClampNeg), .int r_13]) (rest := [.int x2_2]) E (mX3_times l g A Rs _ _ _ S (gx_A S 27 x3_3.toNatClampNeg) r_13 h_16) (kwX1_X3_times E ⟨Nat.le_of_ble_eq_true rfl, Nat.le_of_ble_eq_true rfl⟩) 16 3 rfl rfl rfl hw rfl hl.1 rfl (Nat.le_of_ble_eq_true rfl) dX1_weighedWithout_39 ⟨Nat.le_of_ble_eq_true rfl, Nat.le_of_ble_eq_true rfl⟩ (fun H locs hw => ?_)
          refine lv_ixor hx hb dX1_weighedWithout_42 ?_
          refine lv_topi (fun v_17 ev_17 => ?_)
          replace hB_4 := fx_lt_e ev_17 hB_4
          refine lv_istore_n hx hb dX1_weighedWithout_43 rfl hl (by decide) rfl (fun ls hl => ?_)
          have hl : lv_has ls 4 [(2, .int v_17), (0, .ref (Rs 100)), (1, .int p1), (3, .int x3_3)] := hl
          exact jn_44 v_17 hB_4 _ _ _ hw (lv_sub hl [1, 2, 0, 3] rfl)
  exact key_4 _ (0 : Int32) (0 : Int32) hL_4 _ _ _ hw (lv_sub hl [2, 3, 1, 0] rfl)
/-! over(II)I -/
def FX3_over (S : Sx) (p1 : Int32) (p2 : Int32) : Option Int32 :=
  if p1 = 0 then (some (0 : Int32)) else (fx_gd (fx_in p1 256) (fx_gd (fx_in p2 256) (fx_gd (fx_in ((((gx_A S 41 p1.toNatClampNeg) + (256 : Int32)) - (1 : Int32)) - (gx_A S 41 p2.toNatClampNeg)) 512) (some (gx_A S 40 ((((gx_A S 41 p1.toNatClampNeg) + (256 : Int32)) - (1 : Int32)) - (gx_A S 41 p2.toNatClampNeg)).toNatClampNeg)))))
set_option maxHeartbeats 4000000 in
set_option maxRecDepth 100000 in
theorem mX3_over (l : Launch) (g : Gx) (A : Nat → Prop) (Rs : Nat → Nat) (nw im : Option Nat) (X : va_W) (S : Sx) (p1 : Int32) (p2 : Int32) {o : Int32} (hF : FX3_over S p1 p2 = some o) :
    cx_i l yX3_over cX3_over 3 .int rmX3_over [.ref (Rs 18), .int p1, .int p2] g A (sC g Rs nw im S ++ X) o (sC g Rs nw im S ++ X) 0 0 := by
  refine cx_i_of (by decide) (Nat.le_of_ble_eq_true rfl) ?_
  intro p e s m av below meth c Q E hret H hw ls hl
  have E : cx_E p m meth c cX3_over 3 s av RX3 g A := E
  have hx := E.1.1
  have hb := E.1.2.1
  have hl : lv_has ls 3 [(0, .ref (Rs 18)), (1, .int p1), (2, .int p2)] := hl
  generalize hlc : ([] : List Loc) = locs at hw ⊢
  clear hlc
  unfold FX3_over at hF
  refine lv_iload_n hx hb dX3_over_0 rfl (lv_at hl 1 rfl) ?_
  refine lv_if_ne (tgt := 8) hx hb dX3_over_1 (by decide) (fun c_1 => ?_) (fun c_1 => ?_)
  · replace hF := fx_ff c_1 hF
    refine lv_aload_n hx hb dX3_over_8 rfl (lv_at hl 0 rfl) ?_
    refine gX3_0 E hw dX3_over_9 ?_
    refine lv_aload_n hx hb dX3_over_12 rfl (lv_at hl 0 rfl) ?_
    refine gX3_1 E hw dX3_over_13 ?_
    refine lv_iload_n hx hb dX3_over_16 rfl (lv_at hl 1 rfl) ?_
    replace hF := fx_gd_e hF
    obtain ⟨h_2, hF⟩ := hF
    refine raX1_41 E hw (fx_in_e h_2) dX3_over_17 ?_
    refine lv_sipush (v := (256 : Int32)) hx hb dX3_over_18 (by decide) ?_
    refine lv_iadd hx hb dX3_over_21 ?_
    refine lv_iconst (v := (1 : Int32)) hx hb dX3_over_22 (by decide) ?_
    refine lv_isub hx hb dX3_over_23 ?_
    refine lv_aload_n hx hb dX3_over_24 rfl (lv_at hl 0 rfl) ?_
    refine gX3_1 E hw dX3_over_25 ?_
    refine lv_iload_n hx hb dX3_over_28 rfl (lv_at hl 2 rfl) ?_
    replace hF := fx_gd_e hF
    obtain ⟨h_3, hF⟩ := hF
    refine raX1_41 E hw (fx_in_e h_3) dX3_over_29 ?_
    refine lv_isub hx hb dX3_over_30 ?_
    replace hF := fx_gd_e hF
    obtain ⟨h_4, hF⟩ := hF
    refine raX1_40 E hw (fx_in_e h_4) dX3_over_31 ?_
    obtain rfl := Option.some.inj hF
    exact hret _ _ _ _ _ rfl rfl hw dX3_over_32
  · replace hF := fx_tt c_1 hF
    refine lv_iconst (v := (0 : Int32)) hx hb dX3_over_4 (by decide) ?_
    refine lv_goto (tgt := 32) hx hb dX3_over_5 (by decide) ?_
    obtain rfl := Option.some.inj hF
    exact hret _ _ _ _ _ rfl rfl hw dX3_over_32
/-! sumWithout(I)I -/
def JX1_sumWithout_35 (x2_1 : Int32) : Option Int32 :=
  some x2_1
def JX1_sumWithout_29 (x3_3 : Int32) (x2_9 : Int32) : Option ((Int32 × Int32) ⊕ (Int32)) :=
  fx_lt (x3_3 + (1 : Int32)) (fun v_10 => some (.inl (x2_9, v_10)))
def LX1_sumWithout_4 (S : Sx) (p1 : Int32) (q_ : Int32 × Int32) : Option ((Int32 × Int32) ⊕ (Int32)) :=
  fx_u2 q_ (fun x2_2 x3_3 => fx_b1 (FX1_data S) (fun r_4 => if r_4 ≤ x3_3 then (some (.inr x2_2)) else (fx_b1 (FX1_has p1 x3_3) (fun r_7 => if r_7 = 0 then (fx_gd (fx_in x3_3 8) (fx_lt (x2_2 ^^^ (gx_A S 27 x3_3.toNatClampNeg)) (fun v_13 => JX1_sumWithout_29 x3_3 v_13))) else (JX1_sumWithout_29 x3_3 x2_2)))))
def FX1_sumWithout (S : Sx) (p1 : Int32) : Option Int32 :=
  fx_b1 (fx_lp (LX1_sumWithout_4 S p1) 2000 ((0 : Int32), (0 : Int32))) (fun y2_14 => JX1_sumWithout_35 y2_14)
set_option maxHeartbeats 4000000 in
set_option maxRecDepth 100000 in
theorem mX1_sumWithout (l : Launch) (g : Gx) (A : Nat → Prop) (Rs : Nat → Nat) (nw im : Option Nat) (X : va_W) (S : Sx) (p1 : Int32) {o : Int32} (hF : FX1_sumWithout S p1 = some o) :
    cx_i l yX1_sumWithout cX1_sumWithout 4 .int rmX1_sumWithout [.ref (Rs 100), .int p1] g A (sC g Rs nw im S ++ X) o (sC g Rs nw im S ++ X) 0 0 := by
  refine cx_i_of (by decide) (Nat.le_of_ble_eq_true rfl) ?_
  intro p e s m av below meth c Q E hret H hw ls hl
  have E : cx_E p m meth c cX1_sumWithout 4 s av RX1 g A := E
  have hx := E.1.1
  have hb := E.1.2.1
  have hl : lv_has ls 4 [(0, .ref (Rs 100)), (1, .int p1)] := hl
  generalize hlc : ([] : List Loc) = locs at hw ⊢
  clear hlc
  unfold FX1_sumWithout at hF
  refine lv_iconst (v := (0 : Int32)) hx hb dX1_sumWithout_0 (by decide) ?_
  refine lv_istore_n hx hb dX1_sumWithout_1 rfl hl (by decide) rfl (fun ls hl => ?_)
  have hl : lv_has ls 4 [(2, .int (0 : Int32)), (0, .ref (Rs 100)), (1, .int p1)] := hl
  refine lv_iconst (v := (0 : Int32)) hx hb dX1_sumWithout_2 (by decide) ?_
  refine lv_istore_n hx hb dX1_sumWithout_3 rfl hl (by decide) rfl (fun ls hl => ?_)
  have hl : lv_has ls 4 [(3, .int (0 : Int32)), (2, .int (0 : Int32)), (0, .ref (Rs 100)), (1, .int p1)] := hl
  have jn_35 : ∀ (x2_1 : Int32), JX1_sumWithout_35 x2_1 = some o → ∀ (H : Heap) (locs : List Loc) (ls : Array Slot), cx_W g A s (sC g Rs nw im S ++ X) H locs → lv_has ls 4 [(2, .int x2_1)] → W p l e rmX1_sumWithout s m av below meth c H locs 0 0 Q (F0 m 35 ls []) := by
    intro x2_1 hJ_35 H locs ls hw hl
    unfold JX1_sumWithout_35 at hJ_35
    refine lv_iload_n hx hb dX1_sumWithout_35 rfl (lv_at hl 0 rfl) ?_
    obtain rfl := Option.some.inj hJ_35
    exact hret _ _ _ _ _ rfl rfl hw dX1_sumWithout_36
  replace hF := fx_b1_e hF
  obtain ⟨ex_4, hL_4, hF⟩ := hF
  have key_4 : ∀ (n_4 : Nat) (x2_2 : Int32) (x3_3 : Int32), fx_lp (LX1_sumWithout_4 S p1) n_4 (x2_2, x3_3) = some ex_4 → ∀ (H : Heap) (locs : List Loc) (ls : Array Slot), cx_W g A s (sC g Rs nw im S ++ X) H locs → lv_has ls 4 [(0, .ref (Rs 100)), (1, .int p1), (2, .int x2_2), (3, .int x3_3)] → W p l e rmX1_sumWithout s m av below meth c H locs 0 0 Q (F0 m 4 ls []) := by
    intro n_4
    induction n_4 with
    | zero => intro x2_2 x3_3 hL_4; exact fx_lp_0 hL_4
    | succ n_4 ih_4 =>
      intro x2_2 x3_3 hL_4 H locs ls hw hl
      replace hL_4 := fx_lp_s hL_4
      obtain ⟨o_4, hB_4, hO_4⟩ := hL_4
      unfold LX1_sumWithout_4 at hB_4
      replace hB_4 := fx_u2_e hB_4
      refine lv_iload_n hx hb dX1_sumWithout_4 rfl (lv_at hl 3 rfl) ?_
      refine lv_aload_n hx hb dX1_sumWithout_5 rfl (lv_at hl 0 rfl) ?_
      replace hB_4 := fx_b1_e hB_4
      obtain ⟨r_4, h_5, hB_4⟩ := hB_4
      refine cx_cVi (r := r_4) (ws := sC g Rs nw im S ++ X) (ws' := sC g Rs nw im S ++ X) (As := []) (rest := [.int x3_3]) E (mX1_data l g A Rs _ _ _ S h_5) (kwX1_X1_data E ⟨Nat.le_of_ble_eq_true rfl, Nat.le_of_ble_eq_true rfl⟩) 0 1 rfl rfl rfl hw rfl hl.1 rfl (Nat.le_of_ble_eq_true rfl) dX1_sumWithout_6 ⟨Nat.le_of_ble_eq_true rfl, Nat.le_of_ble_eq_true rfl⟩ (fun H locs hw => ?_)
      refine lv_icmp_ge (tgt := 35) hx hb dX1_sumWithout_9 (by decide) (fun c_6 => ?_) (fun c_6 => ?_)
      · replace hB_4 := fx_tt c_6 hB_4
        obtain rfl := fx_ex hB_4 hO_4
        exact jn_35 x2_2 hF _ _ _ hw (lv_sub hl [2] rfl)
      · replace hB_4 := fx_ff c_6 hB_4
        refine lv_iload_n hx hb dX1_sumWithout_12 rfl (lv_at hl 1 rfl) ?_
        refine lv_iload_n hx hb dX1_sumWithout_13 rfl (lv_at hl 3 rfl) ?_
        replace hB_4 := fx_b1_e hB_4
        obtain ⟨r_7, h_8, hB_4⟩ := hB_4
        refine cx_cSi (r := r_7) (ws := sC g Rs nw im S ++ X) (ws' := sC g Rs nw im S ++ X) (As := [.int p1, .int x3_3]) (rest := []) E (mX1_has l g A (sC g Rs nw im S ++ X) p1 x3_3 h_8) (kwX1_X1_has E ⟨Nat.le_of_ble_eq_true rfl, Nat.le_of_ble_eq_true rfl⟩) hw rfl hl.1 rfl (Nat.le_of_ble_eq_true rfl) dX1_sumWithout_14 ⟨Nat.le_of_ble_eq_true rfl, Nat.le_of_ble_eq_true rfl⟩ (fun H locs hw => ?_)
        have jn_29 : ∀ (x2_9 : Int32), JX1_sumWithout_29 x3_3 x2_9 = some o_4 → ∀ (H : Heap) (locs : List Loc) (ls : Array Slot), cx_W g A s (sC g Rs nw im S ++ X) H locs → lv_has ls 4 [(0, .ref (Rs 100)), (1, .int p1), (2, .int x2_9), (3, .int x3_3)] → W p l e rmX1_sumWithout s m av below meth c H locs 0 0 Q (F0 m 29 ls []) := by
          intro x2_9 hJ_29 H locs ls hw hl
          unfold JX1_sumWithout_29 at hJ_29
          obtain ⟨v_10, ev_10⟩ : ∃ z : Int32, z = x3_3 + (1 : Int32) := ⟨_, rfl⟩
          replace hJ_29 := fx_lt_e ev_10 hJ_29
          refine cx_iinc (z := (1 : Int32)) (v := v_10) hx hb dX1_sumWithout_29 hl (k := 3) rfl (by decide) ev_10 (by decide) rfl (fun ls hl => ?_)
          have hl : lv_has ls 4 [(3, .int v_10), (0, .ref (Rs 100)), (1, .int p1), (2, .int x2_9)] := hl
          refine lv_goto (tgt := 4) hx hb dX1_sumWithout_32 (by decide) ?_
          exact ih_4 x2_9 v_10 (fx_bk hJ_29 hO_4) _ _ _ hw (lv_sub hl [1, 2, 3, 0] rfl)
        refine lv_if_ne (tgt := 29) hx hb dX1_sumWithout_17 (by decide) (fun c_11 => ?_) (fun c_11 => ?_)
        · replace hB_4 := fx_ff c_11 hB_4
          exact jn_29 x2_2 hB_4 _ _ _ hw hl
        · replace hB_4 := fx_tt c_11 hB_4
          refine lv_iload_n hx hb dX1_sumWithout_20 rfl (lv_at hl 2 rfl) ?_
          refine lv_aload_n hx hb dX1_sumWithout_21 rfl (lv_at hl 0 rfl) ?_
          refine gX1_27 E hw dX1_sumWithout_22 ?_
          refine lv_iload_n hx hb dX1_sumWithout_25 rfl (lv_at hl 3 rfl) ?_
          replace hB_4 := fx_gd_e hB_4
          obtain ⟨h_12, hB_4⟩ := hB_4
          refine raX1_27 E hw (fx_in_e h_12) dX1_sumWithout_26 ?_
          refine lv_ixor hx hb dX1_sumWithout_27 ?_
          refine lv_topi (fun v_13 ev_13 => ?_)
          replace hB_4 := fx_lt_e ev_13 hB_4
          refine lv_istore_n hx hb dX1_sumWithout_28 rfl hl (by decide) rfl (fun ls hl => ?_)
          have hl : lv_has ls 4 [(2, .int v_13), (0, .ref (Rs 100)), (1, .int p1), (3, .int x3_3)] := hl
          exact jn_29 v_13 hB_4 _ _ _ hw (lv_sub hl [1, 2, 0, 3] rfl)
  exact key_4 _ (0 : Int32) (0 : Int32) hL_4 _ _ _ hw (lv_sub hl [2, 3, 1, 0] rfl)
/-! solves(III)V -/
def JX1_solves_s_289 (p3 : Int32) (r_1 : Int32) (S_12 : Sx) : Option Sx :=
  fx_b1 (FX1_has p3 (r_1 + (1 : Int32))) (fun r_13 => if r_13 = 0 then (some S_12) else (fx_b1 (FX1_weighedWithout S_12 (0 : Int32)) (fun r_16 => fx_gd (fx_in (r_1 + (1 : Int32)) 8) (fx_lt (px_A S_12 27 (upd (gx_A S_12 27) (r_1 + (1 : Int32)).toNatClampNeg r_16)) (fun S_19 => some S_19)))))
def JX1_solves_s_268 (p3 : Int32) (r_1 : Int32) (S_9 : Sx) : Option Sx :=
  fx_b1 (FX1_has p3 r_1) (fun r_10 => if r_10 = 0 then (JX1_solves_s_289 p3 r_1 S_9) else (fx_b1 (FX1_sumWithout S_9 (0 : Int32)) (fun r_21 => fx_gd (fx_in r_1 8) (fx_lt (px_A S_9 27 (upd (gx_A S_9 27) r_1.toNatClampNeg r_21)) (fun S_24 => JX1_solves_s_289 p3 r_1 S_24)))))
def JX1_solves_s_140 (t_56 : Int32) (S_3 : Sx) (t_57 : Int32) (p3 : Int32) (r_1 : Int32) : Option Sx :=
  fx_gd (fx_in t_56 8) (fx_lt (px_A S_3 27 (upd (gx_A S_3 27) t_56.toNatClampNeg t_57)) (fun S_59 => JX1_solves_s_268 p3 r_1 S_59))
def JX1_solves_s_52 (p3 : Int32) (r_1 : Int32) (S_3 : Sx) : Option Sx :=
  fx_lt (p3 &&& (((1 : Int32) <<< (r_1 &&& 31)) - (1 : Int32))) (fun v_4 => fx_b1 (FJ10_numberOfTrailingZeros v_4) (fun r_5 => fx_b1 (FJ10_bitCount v_4) (fun r_7 => if r_7 = (1 : Int32) then (fx_b1 (FX1_has p3 r_1) (fun r_54 => if r_54 = 0 then (fx_gd (fx_in r_1 8) (fx_b1 (FX1_sumWithout S_3 p3) (fun r_62 => JX1_solves_s_140 r_5 S_3 ((gx_A S_3 27 r_1.toNatClampNeg) ^^^ r_62) p3 r_1))) else (fx_gd (fx_in (r_1 + (1 : Int32)) 8) (fx_b1 (FX1_weighedWithout S_3 p3) (fun r_65 => fx_b1 (FX3_power S_3 r_5) (fun r_67 => fx_b1 (FX3_over S_3 ((gx_A S_3 27 (r_1 + (1 : Int32)).toNatClampNeg) ^^^ r_65) r_67) (fun r_69 => JX1_solves_s_140 r_5 S_3 r_69 p3 r_1))))))) else (fx_b1 (FJ10_bitCount v_4) (fun r_26 => if r_26 = (2 : Int32) then (fx_b1 (FJ10_numberOfTrailingZeros (v_4 &&& (v_4 - (1 : Int32)))) (fun r_29 => fx_gd (fx_in r_1 8) (fx_b1 (FX1_sumWithout S_3 p3) (fun r_32 => fx_lt ((gx_A S_3 27 r_1.toNatClampNeg) ^^^ r_32) (fun v_34 => fx_gd (fx_in (r_1 + (1 : Int32)) 8) (fx_b1 (FX1_weighedWithout S_3 p3) (fun r_36 => fx_lt ((gx_A S_3 27 (r_1 + (1 : Int32)).toNatClampNeg) ^^^ r_36) (fun v_38 => fx_b1 (FX3_power S_3 r_29) (fun r_39 => fx_b1 (FX3_times S_3 v_34 r_39) (fun r_41 => fx_b1 (FX3_power S_3 r_5) (fun r_43 => fx_b1 (FX3_power S_3 r_29) (fun r_45 => fx_b1 (FX3_over S_3 (v_38 ^^^ r_41) (r_43 ^^^ r_45)) (fun r_47 => fx_gd (fx_in r_5 8) (fx_lt (px_A S_3 27 (upd (gx_A S_3 27) r_5.toNatClampNeg r_47)) (fun S_50 => fx_gd (fx_in r_5 8) (fx_gd (fx_in r_29 8) (fx_lt (px_A S_50 27 (upd (gx_A S_50 27) r_29.toNatClampNeg (v_34 ^^^ (gx_A S_50 27 r_5.toNatClampNeg)))) (fun S_53 => JX1_solves_s_268 p3 r_1 S_53)))))))))))))))))) else (JX1_solves_s_268 p3 r_1 S_3))))))
def JX1_solves_s_45 (t_76 : Int32) (S_71 : Sx) (t_77 : Int32) (x5_72 : Int32) : Option ((Sx × Int32) ⊕ (Sx)) :=
  fx_gd (fx_in t_76 8) (fx_lt (px_A S_71 27 (upd (gx_A S_71 27) t_76.toNatClampNeg t_77)) (fun S_79 => fx_lt (x5_72 + (1 : Int32)) (fun v_80 => some (.inl (S_79, v_80)))))
def LX1_solves_s_9 (r_1 : Int32) (p3 : Int32) (N : Sx) (p1 : Int32) (p2 : Int32) (q_ : Sx × Int32) : Option ((Sx × Int32) ⊕ (Sx)) :=
  fx_u2 q_ (fun S_71 x5_72 => if (r_1 + (2 : Int32)) ≤ x5_72 then (some (.inr S_71)) else (fx_b1 (FX1_has p3 x5_72) (fun r_74 => if r_74 = 0 then (fx_b1 (FX1_get_s S_71 N p1 x5_72 p2) (fun r_82 => JX1_solves_s_45 x5_72 S_71 r_82 x5_72)) else (JX1_solves_s_45 x5_72 S_71 (0 : Int32) x5_72))))
def FX1_solves_s (S : Sx) (N : Sx) (p1 : Int32) (p2 : Int32) (p3 : Int32) : Option Sx :=
  fx_b1 (FX1_data S) (fun r_1 => fx_b1 (fx_lp (LX1_solves_s_9 r_1 p3 N p1 p2) 2000 (S, (0 : Int32))) (fun S_84 => JX1_solves_s_52 p3 r_1 S_84))
set_option maxHeartbeats 4000000 in
set_option maxRecDepth 100000 in
theorem mX1_solves_s (l : Launch) (g : Gx) (A : Nat → Prop) (Rs Rn : Nat → Nat) (im : Option Nat) (X : va_W) (S : Sx) (N : Sx) (p1 : Int32) (p2 : Int32) (p3 : Int32) {o : Sx} (hF : FX1_solves_s S N p1 p2 p3 = some o) :
    cx_v l yX1_solves cX1_solves 10 rmX1_solves [.ref (Rs 100), .int p1, .int p2, .int p3] g A (sC g Rs (some (Rn 100)) im S ++ (stC g Rn N ++ X)) (sC g Rs (some (Rn 100)) im o ++ (stC g Rn N ++ X)) 0 0 := by
  refine cx_v_of (by decide) (Nat.le_of_ble_eq_true rfl) ?_
  intro p e s m av below meth c Q E hret H hw ls hl
  have E : cx_E p m meth c cX1_solves 10 s av RX1 g A := E
  have hx := E.1.1
  have hb := E.1.2.1
  have hl : lv_has ls 10 [(0, .ref (Rs 100)), (1, .int p1), (2, .int p2), (3, .int p3)] := hl
  generalize hlc : ([] : List Loc) = locs at hw ⊢
  clear hlc
  unfold FX1_solves_s at hF
  refine lv_aload_n hx hb dX1_solves_0 rfl (lv_at hl 0 rfl) ?_
  replace hF := fx_b1_e hF
  obtain ⟨r_1, h_2, hF⟩ := hF
  refine cx_cVi (r := r_1) (ws := sC g Rs (some (Rn 100)) im S ++ (stC g Rn N ++ X)) (ws' := sC g Rs (some (Rn 100)) im S ++ (stC g Rn N ++ X)) (As := []) (rest := []) E (mX1_data l g A Rs _ _ _ S h_2) (kwX1_X1_data E ⟨Nat.le_of_ble_eq_true rfl, Nat.le_of_ble_eq_true rfl⟩) 0 1 rfl rfl rfl hw rfl hl.1 rfl (Nat.le_of_ble_eq_true rfl) dX1_solves_1 ⟨Nat.le_of_ble_eq_true rfl, Nat.le_of_ble_eq_true rfl⟩ (fun H locs hw => ?_)
  refine lv_istore hx hb dX1_solves_4 hl (by decide) rfl (fun ls hl => ?_)
  have hl : lv_has ls 10 [(4, .int r_1), (0, .ref (Rs 100)), (1, .int p1), (2, .int p2), (3, .int p3)] := hl
  refine lv_iconst (v := (0 : Int32)) hx hb dX1_solves_6 (by decide) ?_
  refine lv_istore hx hb dX1_solves_7 hl (by decide) rfl (fun ls hl => ?_)
  have hl : lv_has ls 10 [(5, .int (0 : Int32)), (4, .int r_1), (0, .ref (Rs 100)), (1, .int p1), (2, .int p2), (3, .int p3)] := hl
  have jn_52 : ∀ (S_3 : Sx), JX1_solves_s_52 p3 r_1 S_3 = some o → ∀ (H : Heap) (locs : List Loc) (ls : Array Slot), cx_W g A s (sC g Rs (some (Rn 100)) im S_3 ++ (stC g Rn N ++ X)) H locs → lv_has ls 10 [(0, .ref (Rs 100)), (3, .int p3), (4, .int r_1)] → W p l e rmX1_solves s m av below meth c H locs 0 0 Q (F0 m 52 ls []) := by
    intro S_3 hJ_52 H locs ls hw hl
    unfold JX1_solves_s_52 at hJ_52
    refine lv_iload_n hx hb dX1_solves_52 rfl (lv_at hl 1 rfl) ?_
    refine lv_iconst (v := (1 : Int32)) hx hb dX1_solves_53 (by decide) ?_
    refine lv_iload hx hb dX1_solves_54 (lv_at hl 2 rfl) ?_
    refine lv_ishl hx hb dX1_solves_56 ?_
    refine lv_iconst (v := (1 : Int32)) hx hb dX1_solves_57 (by decide) ?_
    refine lv_isub hx hb dX1_solves_58 ?_
    refine lv_iand hx hb dX1_solves_59 ?_
    refine lv_topi (fun v_4 ev_4 => ?_)
    replace hJ_52 := fx_lt_e ev_4 hJ_52
    refine lv_istore hx hb dX1_solves_60 hl (by decide) rfl (fun ls hl => ?_)
    have hl : lv_has ls 10 [(5, .int v_4), (0, .ref (Rs 100)), (3, .int p3), (4, .int r_1)] := hl
    refine lv_iload hx hb dX1_solves_62 (lv_at hl 0 rfl) ?_
    replace hJ_52 := fx_b1_e hJ_52
    obtain ⟨r_5, h_6, hJ_52⟩ := hJ_52
    refine cx_cSi (r := r_5) (ws := sC g Rs (some (Rn 100)) im S_3 ++ (stC g Rn N ++ X)) (ws' := sC g Rs (some (Rn 100)) im S_3 ++ (stC g Rn N ++ X)) (As := [.int v_4]) (rest := []) E (mJ10_numberOfTrailingZeros l g A (sC g Rs (some (Rn 100)) im S_3 ++ (stC g Rn N ++ X)) v_4 h_6) (kwX1_J10_numberOfTrailingZeros E ⟨Nat.le_of_ble_eq_true rfl, Nat.le_of_ble_eq_true rfl⟩) hw rfl hl.1 rfl (Nat.le_of_ble_eq_true rfl) dX1_solves_64 ⟨Nat.le_of_ble_eq_true rfl, Nat.le_of_ble_eq_true rfl⟩ (fun H locs hw => ?_)
    refine lv_istore hx hb dX1_solves_67 hl (by decide) rfl (fun ls hl => ?_)
    have hl : lv_has ls 10 [(6, .int r_5), (5, .int v_4), (0, .ref (Rs 100)), (3, .int p3), (4, .int r_1)] := hl
    refine lv_iload hx hb dX1_solves_69 (lv_at hl 1 rfl) ?_
    replace hJ_52 := fx_b1_e hJ_52
    obtain ⟨r_7, h_8, hJ_52⟩ := hJ_52
    refine cx_cSi (r := r_7) (ws := sC g Rs (some (Rn 100)) im S_3 ++ (stC g Rn N ++ X)) (ws' := sC g Rs (some (Rn 100)) im S_3 ++ (stC g Rn N ++ X)) (As := [.int v_4]) (rest := []) E (mJ10_bitCount l g A (sC g Rs (some (Rn 100)) im S_3 ++ (stC g Rn N ++ X)) v_4 h_8) (kwX1_J10_bitCount E ⟨Nat.le_of_ble_eq_true rfl, Nat.le_of_ble_eq_true rfl⟩) hw rfl hl.1 rfl (Nat.le_of_ble_eq_true rfl) dX1_solves_71 ⟨Nat.le_of_ble_eq_true rfl, Nat.le_of_ble_eq_true rfl⟩ (fun H locs hw => ?_)
    refine lv_iconst (v := (1 : Int32)) hx hb dX1_solves_74 (by decide) ?_
    have jn_268 : ∀ (S_9 : Sx), JX1_solves_s_268 p3 r_1 S_9 = some o → ∀ (H : Heap) (locs : List Loc) (ls : Array Slot), cx_W g A s (sC g Rs (some (Rn 100)) im S_9 ++ (stC g Rn N ++ X)) H locs → lv_has ls 10 [(0, .ref (Rs 100)), (3, .int p3), (4, .int r_1)] → W p l e rmX1_solves s m av below meth c H locs 0 0 Q (F0 m 268 ls []) := by
      intro S_9 hJ_268 H locs ls hw hl
      unfold JX1_solves_s_268 at hJ_268
      refine lv_iload_n hx hb dX1_solves_268 rfl (lv_at hl 1 rfl) ?_
      refine lv_iload hx hb dX1_solves_269 (lv_at hl 2 rfl) ?_
      replace hJ_268 := fx_b1_e hJ_268
      obtain ⟨r_10, h_11, hJ_268⟩ := hJ_268
      refine cx_cSi (r := r_10) (ws := sC g Rs (some (Rn 100)) im S_9 ++ (stC g Rn N ++ X)) (ws' := sC g Rs (some (Rn 100)) im S_9 ++ (stC g Rn N ++ X)) (As := [.int p3, .int r_1]) (rest := []) E (mX1_has l g A (sC g Rs (some (Rn 100)) im S_9 ++ (stC g Rn N ++ X)) p3 r_1 h_11) (kwX1_X1_has E ⟨Nat.le_of_ble_eq_true rfl, Nat.le_of_ble_eq_true rfl⟩) hw rfl hl.1 rfl (Nat.le_of_ble_eq_true rfl) dX1_solves_271 ⟨Nat.le_of_ble_eq_true rfl, Nat.le_of_ble_eq_true rfl⟩ (fun H locs hw => ?_)
      have jn_289 : ∀ (S_12 : Sx), JX1_solves_s_289 p3 r_1 S_12 = some o → ∀ (H : Heap) (locs : List Loc) (ls : Array Slot), cx_W g A s (sC g Rs (some (Rn 100)) im S_12 ++ (stC g Rn N ++ X)) H locs → lv_has ls 10 [(0, .ref (Rs 100)), (3, .int p3), (4, .int r_1)] → W p l e rmX1_solves s m av below meth c H locs 0 0 Q (F0 m 289 ls []) := by
        intro S_12 hJ_289 H locs ls hw hl
        unfold JX1_solves_s_289 at hJ_289
        refine lv_iload_n hx hb dX1_solves_289 rfl (lv_at hl 1 rfl) ?_
        refine lv_iload hx hb dX1_solves_290 (lv_at hl 2 rfl) ?_
        refine lv_iconst (v := (1 : Int32)) hx hb dX1_solves_292 (by decide) ?_
        refine lv_iadd hx hb dX1_solves_293 ?_
        replace hJ_289 := fx_b1_e hJ_289
        obtain ⟨r_13, h_14, hJ_289⟩ := hJ_289
        refine cx_cSi (r := r_13) (ws := sC g Rs (some (Rn 100)) im S_12 ++ (stC g Rn N ++ X)) (ws' := sC g Rs (some (Rn 100)) im S_12 ++ (stC g Rn N ++ X)) (As := [.int p3, .int (r_1 + (1 : Int32))]) (rest := []) E (mX1_has l g A (sC g Rs (some (Rn 100)) im S_12 ++ (stC g Rn N ++ X)) p3 (r_1 + (1 : Int32)) h_14) (kwX1_X1_has E ⟨Nat.le_of_ble_eq_true rfl, Nat.le_of_ble_eq_true rfl⟩) hw rfl hl.1 rfl (Nat.le_of_ble_eq_true rfl) dX1_solves_294 ⟨Nat.le_of_ble_eq_true rfl, Nat.le_of_ble_eq_true rfl⟩ (fun H locs hw => ?_)
        refine lv_if_eq (tgt := 314) hx hb dX1_solves_297 (by decide) (fun c_15 => ?_) (fun c_15 => ?_)
        · replace hJ_289 := fx_tt c_15 hJ_289
          obtain rfl := Option.some.inj hJ_289
          exact hret _ _ _ _ hw dX1_solves_314
        · replace hJ_289 := fx_ff c_15 hJ_289
          refine lv_aload_n hx hb dX1_solves_300 rfl (lv_at hl 0 rfl) ?_
          refine gX1_27 E hw dX1_solves_301 ?_
          refine lv_iload hx hb dX1_solves_304 (lv_at hl 2 rfl) ?_
          refine lv_iconst (v := (1 : Int32)) hx hb dX1_solves_306 (by decide) ?_
          refine lv_iadd hx hb dX1_solves_307 ?_
          refine lv_aload_n hx hb dX1_solves_308 rfl (lv_at hl 0 rfl) ?_
          refine lv_iconst (v := (0 : Int32)) hx hb dX1_solves_309 (by decide) ?_
          replace hJ_289 := fx_b1_e hJ_289
          obtain ⟨r_16, h_17, hJ_289⟩ := hJ_289
          refine cx_cVi (r := r_16) (ws := sC g Rs (some (Rn 100)) im S_12 ++ (stC g Rn N ++ X)) (ws' := sC g Rs (some (Rn 100)) im S_12 ++ (stC g Rn N ++ X)) (As := [.int (0 : Int32)]) (rest := [.int (r_1 + (1 : Int32)), .ref (Rs 27)]) E (mX1_weighedWithout l g A Rs _ _ _ S_12 (0 : Int32) h_17) (kwX1_X1_weighedWithout E ⟨Nat.le_of_ble_eq_true rfl, Nat.le_of_ble_eq_true rfl⟩) 0 1 rfl rfl rfl hw rfl hl.1 rfl (Nat.le_of_ble_eq_true rfl) dX1_solves_310 ⟨Nat.le_of_ble_eq_true rfl, Nat.le_of_ble_eq_true rfl⟩ (fun H locs hw => ?_)
          replace hJ_289 := fx_gd_e hJ_289
          obtain ⟨h_18, hJ_289⟩ := hJ_289
          obtain ⟨S_19, eS_19⟩ : ∃ z : Sx, z = px_A S_12 27 (upd (gx_A S_12 27) (r_1 + (1 : Int32)).toNatClampNeg r_16) := ⟨_, rfl⟩
          replace hJ_289 := fx_lt_e eS_19 hJ_289
          refine rsX1_27 eS_19 E hw (fx_in_e h_18) dX1_solves_313 (fun H locs hw => ?_)
          obtain rfl := Option.some.inj hJ_289
          exact hret _ _ _ _ hw dX1_solves_314
      refine lv_if_eq (tgt := 289) hx hb dX1_solves_274 (by decide) (fun c_20 => ?_) (fun c_20 => ?_)
      · replace hJ_268 := fx_tt c_20 hJ_268
        exact jn_289 S_9 hJ_268 _ _ _ hw hl
      · replace hJ_268 := fx_ff c_20 hJ_268
        refine lv_aload_n hx hb dX1_solves_277 rfl (lv_at hl 0 rfl) ?_
        refine gX1_27 E hw dX1_solves_278 ?_
        refine lv_iload hx hb dX1_solves_281 (lv_at hl 2 rfl) ?_
        refine lv_aload_n hx hb dX1_solves_283 rfl (lv_at hl 0 rfl) ?_
        refine lv_iconst (v := (0 : Int32)) hx hb dX1_solves_284 (by decide) ?_
        replace hJ_268 := fx_b1_e hJ_268
        obtain ⟨r_21, h_22, hJ_268⟩ := hJ_268
        refine cx_cVi (r := r_21) (ws := sC g Rs (some (Rn 100)) im S_9 ++ (stC g Rn N ++ X)) (ws' := sC g Rs (some (Rn 100)) im S_9 ++ (stC g Rn N ++ X)) (As := [.int (0 : Int32)]) (rest := [.int r_1, .ref (Rs 27)]) E (mX1_sumWithout l g A Rs _ _ _ S_9 (0 : Int32) h_22) (kwX1_X1_sumWithout E ⟨Nat.le_of_ble_eq_true rfl, Nat.le_of_ble_eq_true rfl⟩) 0 1 rfl rfl rfl hw rfl hl.1 rfl (Nat.le_of_ble_eq_true rfl) dX1_solves_285 ⟨Nat.le_of_ble_eq_true rfl, Nat.le_of_ble_eq_true rfl⟩ (fun H locs hw => ?_)
        replace hJ_268 := fx_gd_e hJ_268
        obtain ⟨h_23, hJ_268⟩ := hJ_268
        obtain ⟨S_24, eS_24⟩ : ∃ z : Sx, z = px_A S_9 27 (upd (gx_A S_9 27) r_1.toNatClampNeg r_21) := ⟨_, rfl⟩
        replace hJ_268 := fx_lt_e eS_24 hJ_268
        refine rsX1_27 eS_24 E hw (fx_in_e h_23) dX1_solves_288 (fun H locs hw => ?_)
        exact jn_289 S_24 hJ_268 _ _ _ hw hl
    refine lv_icmp_ne (tgt := 144) hx hb dX1_solves_75 (by decide) (fun c_25 => ?_) (fun c_25 => ?_)
    · replace hJ_52 := fx_ff c_25 hJ_52
      refine lv_iload hx hb dX1_solves_144 (lv_at hl 1 rfl) ?_
      replace hJ_52 := fx_b1_e hJ_52
      obtain ⟨r_26, h_27, hJ_52⟩ := hJ_52
      refine cx_cSi (r := r_26) (ws := sC g Rs (some (Rn 100)) im S_3 ++ (stC g Rn N ++ X)) (ws' := sC g Rs (some (Rn 100)) im S_3 ++ (stC g Rn N ++ X)) (As := [.int v_4]) (rest := []) E (mJ10_bitCount l g A (sC g Rs (some (Rn 100)) im S_3 ++ (stC g Rn N ++ X)) v_4 h_27) (kwX1_J10_bitCount E ⟨Nat.le_of_ble_eq_true rfl, Nat.le_of_ble_eq_true rfl⟩) hw rfl hl.1 rfl (Nat.le_of_ble_eq_true rfl) dX1_solves_146 ⟨Nat.le_of_ble_eq_true rfl, Nat.le_of_ble_eq_true rfl⟩ (fun H locs hw => ?_)
      refine lv_iconst (v := (2 : Int32)) hx hb dX1_solves_149 (by decide) ?_
      refine lv_icmp_ne (tgt := 268) hx hb dX1_solves_150 (by decide) (fun c_28 => ?_) (fun c_28 => ?_)
      · replace hJ_52 := fx_ff c_28 hJ_52
        exact jn_268 S_3 hJ_52 _ _ _ hw (lv_sub hl [2, 3, 4] rfl)
      · replace hJ_52 := fx_tt c_28 hJ_52
        refine lv_iload hx hb dX1_solves_153 (lv_at hl 1 rfl) ?_
        refine lv_iload hx hb dX1_solves_155 (lv_at hl 1 rfl) ?_
        refine lv_iconst (v := (1 : Int32)) hx hb dX1_solves_157 (by decide) ?_
        refine lv_isub hx hb dX1_solves_158 ?_
        refine lv_iand hx hb dX1_solves_159 ?_
        replace hJ_52 := fx_b1_e hJ_52
        obtain ⟨r_29, h_30, hJ_52⟩ := hJ_52
        refine cx_cSi (r := r_29) (ws := sC g Rs (some (Rn 100)) im S_3 ++ (stC g Rn N ++ X)) (ws' := sC g Rs (some (Rn 100)) im S_3 ++ (stC g Rn N ++ X)) (As := [.int (v_4 &&& (v_4 - (1 : Int32)))]) (rest := []) E (mJ10_numberOfTrailingZeros l g A (sC g Rs (some (Rn 100)) im S_3 ++ (stC g Rn N ++ X)) (v_4 &&& (v_4 - (1 : Int32))) h_30) (kwX1_J10_numberOfTrailingZeros E ⟨Nat.le_of_ble_eq_true rfl, Nat.le_of_ble_eq_true rfl⟩) hw rfl hl.1 rfl (Nat.le_of_ble_eq_true rfl) dX1_solves_160 ⟨Nat.le_of_ble_eq_true rfl, Nat.le_of_ble_eq_true rfl⟩ (fun H locs hw => ?_)
        refine lv_istore hx hb dX1_solves_163 hl (by decide) rfl (fun ls hl => ?_)
        have hl : lv_has ls 10 [(7, .int r_29), (6, .int r_5), (5, .int v_4), (0, .ref (Rs 100)), (3, .int p3), (4, .int r_1)] := hl
        refine lv_aload_n hx hb dX1_solves_165 rfl (lv_at hl 3 rfl) ?_
        refine gX1_27 E hw dX1_solves_166 ?_
        refine lv_iload hx hb dX1_solves_169 (lv_at hl 5 rfl) ?_
        replace hJ_52 := fx_gd_e hJ_52
        obtain ⟨h_31, hJ_52⟩ := hJ_52
        refine raX1_27 E hw (fx_in_e h_31) dX1_solves_171 ?_
        refine lv_aload_n hx hb dX1_solves_172 rfl (lv_at hl 3 rfl) ?_
        refine lv_iload_n hx hb dX1_solves_173 rfl (lv_at hl 4 rfl) ?_
        replace hJ_52 := fx_b1_e hJ_52
        obtain ⟨r_32, h_33, hJ_52⟩ := hJ_52
        refine cx_cVi (r := r_32) (ws := sC g Rs (some (Rn 100)) im S_3 ++ (stC g Rn N ++ X)) (ws' := sC g Rs (some (Rn 100)) im S_3 ++ (stC g Rn N ++ X)) (As := [.int p3]) (rest := [.int (gx_A S_3 27 r_1.toNatClampNeg)]) E (mX1_sumWithout l g A Rs _ _ _ S_3 p3 h_33) (kwX1_X1_sumWithout E ⟨Nat.le_of_ble_eq_true rfl, Nat.le_of_ble_eq_true rfl⟩) 0 1 rfl rfl rfl hw rfl hl.1 rfl (Nat.le_of_ble_eq_true rfl) dX1_solves_174 ⟨Nat.le_of_ble_eq_true rfl, Nat.le_of_ble_eq_true rfl⟩ (fun H locs hw => ?_)
        refine lv_ixor hx hb dX1_solves_177 ?_
        refine lv_topi (fun v_34 ev_34 => ?_)
        replace hJ_52 := fx_lt_e ev_34 hJ_52
        refine lv_istore hx hb dX1_solves_178 hl (by decide) rfl (fun ls hl => ?_)
        have hl : lv_has ls 10 [(8, .int v_34), (7, .int r_29), (6, .int r_5), (5, .int v_4), (0, .ref (Rs 100)), (3, .int p3), (4, .int r_1)] := hl
        refine lv_aload_n hx hb dX1_solves_180 rfl (lv_at hl 4 rfl) ?_
        refine gX1_27 E hw dX1_solves_181 ?_
        refine lv_iload hx hb dX1_solves_184 (lv_at hl 6 rfl) ?_
        refine lv_iconst (v := (1 : Int32)) hx hb dX1_solves_186 (by decide) ?_
        refine lv_iadd hx hb dX1_solves_187 ?_
        replace hJ_52 := fx_gd_e hJ_52
        obtain ⟨h_35, hJ_52⟩ := hJ_52
        refine raX1_27 E hw (fx_in_e h_35) dX1_solves_188 ?_
        refine lv_aload_n hx hb dX1_solves_189 rfl (lv_at hl 4 rfl) ?_
        refine lv_iload_n hx hb dX1_solves_190 rfl (lv_at hl 5 rfl) ?_
        replace hJ_52 := fx_b1_e hJ_52
        obtain ⟨r_36, h_37, hJ_52⟩ := hJ_52
        refine cx_cVi (r := r_36) (ws := sC g Rs (some (Rn 100)) im S_3 ++ (stC g Rn N ++ X)) (ws' := sC g Rs (some (Rn 100)) im S_3 ++ (stC g Rn N ++ X)) (As := [.int p3]) (rest := [.int (gx_A S_3 27 (r_1 + (1 : Int32)).toNatClampNeg)]) E (mX1_weighedWithout l g A Rs _ _ _ S_3 p3 h_37) (kwX1_X1_weighedWithout E ⟨Nat.le_of_ble_eq_true rfl, Nat.le_of_ble_eq_true rfl⟩) 0 1 rfl rfl rfl hw rfl hl.1 rfl (Nat.le_of_ble_eq_true rfl) dX1_solves_191 ⟨Nat.le_of_ble_eq_true rfl, Nat.le_of_ble_eq_true rfl⟩ (fun H locs hw => ?_)
        refine lv_ixor hx hb dX1_solves_194 ?_
        refine lv_topi (fun v_38 ev_38 => ?_)
        replace hJ_52 := fx_lt_e ev_38 hJ_52
        refine lv_istore hx hb dX1_solves_195 hl (by decide) rfl (fun ls hl => ?_)
        have hl : lv_has ls 10 [(9, .int v_38), (8, .int v_34), (7, .int r_29), (6, .int r_5), (5, .int v_4), (0, .ref (Rs 100)), (3, .int p3), (4, .int r_1)] := hl
        refine lv_aload_n hx hb dX1_solves_197 rfl (lv_at hl 5 rfl) ?_
        refine gX1_27 E hw dX1_solves_198 ?_
        refine lv_iload hx hb dX1_solves_201 (lv_at hl 3 rfl) ?_
        refine lv_aload_n hx hb dX1_solves_203 rfl (lv_at hl 5 rfl) ?_
        refine gX1_18 E hw dX1_solves_204 ?_
        refine lv_iload hx hb dX1_solves_207 (lv_at hl 0 rfl) ?_
        refine lv_aload_n hx hb dX1_solves_209 rfl (lv_at hl 5 rfl) ?_
        refine gX1_18 E hw dX1_solves_210 ?_
        refine lv_iload hx hb dX1_solves_213 (lv_at hl 1 rfl) ?_
        refine lv_aload_n hx hb dX1_solves_215 rfl (lv_at hl 5 rfl) ?_
        refine gX1_18 E hw dX1_solves_216 ?_
        refine lv_iload hx hb dX1_solves_219 (lv_at hl 2 rfl) ?_
        replace hJ_52 := fx_b1_e hJ_52
        obtain ⟨r_39, h_40, hJ_52⟩ := hJ_52
        refine cx_cVi (r := r_39) (ws := sC g Rs (some (Rn 100)) im S_3 ++ (stC g Rn N ++ X)) (ws' := sC g Rs (some (Rn 100)) im S_3 ++ (stC g Rn N ++ X)) (As := [.int r_29]) (rest := [.int v_34, .ref (Rs 18), .int v_38, .ref (Rs 18), .int r_5, .ref (Rs 27)]) E (mX3_power l g A Rs _ _ _ S_3 r_29 h_40) (kwX1_X3_power E ⟨Nat.le_of_ble_eq_true rfl, Nat.le_of_ble_eq_true rfl⟩) 16 3 rfl rfl rfl hw rfl hl.1 rfl (Nat.le_of_ble_eq_true rfl) dX1_solves_221 ⟨Nat.le_of_ble_eq_true rfl, Nat.le_of_ble_eq_true rfl⟩ (fun H locs hw => ?_)
        replace hJ_52 := fx_b1_e hJ_52
        obtain ⟨r_41, h_42, hJ_52⟩ := hJ_52
        refine cx_cVi (r := r_41) (ws := sC g Rs (some (Rn 100)) im S_3 ++ (stC g Rn N ++ X)) (ws' := sC g Rs (some (Rn 100)) im S_3 ++ (stC g Rn N ++ X)) (As := [.int v_34, .int r_39]) (rest := [.int v_38, .ref (Rs 18), .int r_5, .ref (Rs 27)]) E (mX3_times l g A Rs _ _ _ S_3 v_34 r_39 h_42) (kwX1_X3_times E ⟨Nat.le_of_ble_eq_true rfl, Nat.le_of_ble_eq_true rfl⟩) 16 3 rfl rfl rfl hw rfl hl.1 rfl (Nat.le_of_ble_eq_true rfl) dX1_solves_224 ⟨Nat.le_of_ble_eq_true rfl, Nat.le_of_ble_eq_true rfl⟩ (fun H locs hw => ?_)
        refine lv_ixor hx hb dX1_solves_227 ?_
        refine lv_aload_n hx hb dX1_solves_228 rfl (lv_at hl 5 rfl) ?_
        refine gX1_18 E hw dX1_solves_229 ?_
        refine lv_iload hx hb dX1_solves_232 (lv_at hl 3 rfl) ?_
        replace hJ_52 := fx_b1_e hJ_52
        obtain ⟨r_43, h_44, hJ_52⟩ := hJ_52
        refine cx_cVi (r := r_43) (ws := sC g Rs (some (Rn 100)) im S_3 ++ (stC g Rn N ++ X)) (ws' := sC g Rs (some (Rn 100)) im S_3 ++ (stC g Rn N ++ X)) (As := [.int r_5]) (rest := [.int (v_38 ^^^ r_41), .ref (Rs 18), .int r_5, .ref (Rs 27)]) E (mX3_power l g A Rs _ _ _ S_3 r_5 h_44) (kwX1_X3_power E ⟨Nat.le_of_ble_eq_true rfl, Nat.le_of_ble_eq_true rfl⟩) 16 3 rfl rfl rfl hw rfl hl.1 rfl (Nat.le_of_ble_eq_true rfl) dX1_solves_234 ⟨Nat.le_of_ble_eq_true rfl, Nat.le_of_ble_eq_true rfl⟩ (fun H locs hw => ?_)
        refine lv_aload_n hx hb dX1_solves_237 rfl (lv_at hl 5 rfl) ?_
        refine gX1_18 E hw dX1_solves_238 ?_
        refine lv_iload hx hb dX1_solves_241 (lv_at hl 2 rfl) ?_
        replace hJ_52 := fx_b1_e hJ_52
        obtain ⟨r_45, h_46, hJ_52⟩ := hJ_52
        refine cx_cVi (r := r_45) (ws := sC g Rs (some (Rn 100)) im S_3 ++ (stC g Rn N ++ X)) (ws' := sC g Rs (some (Rn 100)) im S_3 ++ (stC g Rn N ++ X)) (As := [.int r_29]) (rest := [.int r_43, .int (v_38 ^^^ r_41), .ref (Rs 18), .int r_5, .ref (Rs 27)]) E (mX3_power l g A Rs _ _ _ S_3 r_29 h_46) (kwX1_X3_power E ⟨Nat.le_of_ble_eq_true rfl, Nat.le_of_ble_eq_true rfl⟩) 16 3 rfl rfl rfl hw rfl hl.1 rfl (Nat.le_of_ble_eq_true rfl) dX1_solves_243 ⟨Nat.le_of_ble_eq_true rfl, Nat.le_of_ble_eq_true rfl⟩ (fun H locs hw => ?_)
        refine lv_ixor hx hb dX1_solves_246 ?_
        replace hJ_52 := fx_b1_e hJ_52
        obtain ⟨r_47, h_48, hJ_52⟩ := hJ_52
        refine cx_cVi (r := r_47) (ws := sC g Rs (some (Rn 100)) im S_3 ++ (stC g Rn N ++ X)) (ws' := sC g Rs (some (Rn 100)) im S_3 ++ (stC g Rn N ++ X)) (As := [.int (v_38 ^^^ r_41), .int (r_43 ^^^ r_45)]) (rest := [.int r_5, .ref (Rs 27)]) E (mX3_over l g A Rs _ _ _ S_3 (v_38 ^^^ r_41) (r_43 ^^^ r_45) h_48) (kwX1_X3_over E ⟨Nat.le_of_ble_eq_true rfl, Nat.le_of_ble_eq_true rfl⟩) 16 3 rfl rfl rfl hw rfl hl.1 rfl (Nat.le_of_ble_eq_true rfl) dX1_solves_247 ⟨Nat.le_of_ble_eq_true rfl, Nat.le_of_ble_eq_true rfl⟩ (fun H locs hw => ?_)
        replace hJ_52 := fx_gd_e hJ_52
        obtain ⟨h_49, hJ_52⟩ := hJ_52
        obtain ⟨S_50, eS_50⟩ : ∃ z : Sx, z = px_A S_3 27 (upd (gx_A S_3 27) r_5.toNatClampNeg r_47) := ⟨_, rfl⟩
        replace hJ_52 := fx_lt_e eS_50 hJ_52
        refine rsX1_27 eS_50 E hw (fx_in_e h_49) dX1_solves_250 (fun H locs hw => ?_)
        refine lv_aload_n hx hb dX1_solves_251 rfl (lv_at hl 5 rfl) ?_
        refine gX1_27 E hw dX1_solves_252 ?_
        refine lv_iload hx hb dX1_solves_255 (lv_at hl 2 rfl) ?_
        refine lv_iload hx hb dX1_solves_257 (lv_at hl 1 rfl) ?_
        refine lv_aload_n hx hb dX1_solves_259 rfl (lv_at hl 5 rfl) ?_
        refine gX1_27 E hw dX1_solves_260 ?_
        refine lv_iload hx hb dX1_solves_263 (lv_at hl 3 rfl) ?_
        replace hJ_52 := fx_gd_e hJ_52
        obtain ⟨h_51, hJ_52⟩ := hJ_52
        refine raX1_27 E hw (fx_in_e h_51) dX1_solves_265 ?_
        refine lv_ixor hx hb dX1_solves_266 ?_
        replace hJ_52 := fx_gd_e hJ_52
        obtain ⟨h_52, hJ_52⟩ := hJ_52
        obtain ⟨S_53, eS_53⟩ : ∃ z : Sx, z = px_A S_50 27 (upd (gx_A S_50 27) r_29.toNatClampNeg (v_34 ^^^ (gx_A S_50 27 r_5.toNatClampNeg))) := ⟨_, rfl⟩
        replace hJ_52 := fx_lt_e eS_53 hJ_52
        refine rsX1_27 eS_53 E hw (fx_in_e h_52) dX1_solves_267 (fun H locs hw => ?_)
        exact jn_268 S_53 hJ_52 _ _ _ hw (lv_sub hl [5, 6, 7] rfl)
    · replace hJ_52 := fx_tt c_25 hJ_52
      refine lv_aload_n hx hb dX1_solves_78 rfl (lv_at hl 2 rfl) ?_
      refine gX1_27 E hw dX1_solves_79 ?_
      refine lv_iload hx hb dX1_solves_82 (lv_at hl 0 rfl) ?_
      refine lv_iload_n hx hb dX1_solves_84 rfl (lv_at hl 3 rfl) ?_
      refine lv_iload hx hb dX1_solves_85 (lv_at hl 4 rfl) ?_
      replace hJ_52 := fx_b1_e hJ_52
      obtain ⟨r_54, h_55, hJ_52⟩ := hJ_52
      refine cx_cSi (r := r_54) (ws := sC g Rs (some (Rn 100)) im S_3 ++ (stC g Rn N ++ X)) (ws' := sC g Rs (some (Rn 100)) im S_3 ++ (stC g Rn N ++ X)) (As := [.int p3, .int r_1]) (rest := [.int r_5, .ref (Rs 27)]) E (mX1_has l g A (sC g Rs (some (Rn 100)) im S_3 ++ (stC g Rn N ++ X)) p3 r_1 h_55) (kwX1_X1_has E ⟨Nat.le_of_ble_eq_true rfl, Nat.le_of_ble_eq_true rfl⟩) hw rfl hl.1 rfl (Nat.le_of_ble_eq_true rfl) dX1_solves_87 ⟨Nat.le_of_ble_eq_true rfl, Nat.le_of_ble_eq_true rfl⟩ (fun H locs hw => ?_)
      have jn_140 : ∀ (t_56 : Int32) (t_57 : Int32), JX1_solves_s_140 t_56 S_3 t_57 p3 r_1 = some o → ∀ (H : Heap) (locs : List Loc) (ls : Array Slot), cx_W g A s (sC g Rs (some (Rn 100)) im S_3 ++ (stC g Rn N ++ X)) H locs → lv_has ls 10 [(0, .ref (Rs 100)), (3, .int p3), (4, .int r_1)] → W p l e rmX1_solves s m av below meth c H locs 0 0 Q (F0 m 140 ls [.int t_57, .int t_56, .ref (Rs 27)]) := by
        intro t_56 t_57 hJ_140 H locs ls hw hl
        unfold JX1_solves_s_140 at hJ_140
        replace hJ_140 := fx_gd_e hJ_140
        obtain ⟨h_58, hJ_140⟩ := hJ_140
        obtain ⟨S_59, eS_59⟩ : ∃ z : Sx, z = px_A S_3 27 (upd (gx_A S_3 27) t_56.toNatClampNeg t_57) := ⟨_, rfl⟩
        replace hJ_140 := fx_lt_e eS_59 hJ_140
        refine rsX1_27 eS_59 E hw (fx_in_e h_58) dX1_solves_140 (fun H locs hw => ?_)
        refine lv_goto (tgt := 268) hx hb dX1_solves_141 (by decide) ?_
        exact jn_268 S_59 hJ_140 _ _ _ hw hl
      refine lv_if_eq (tgt := 127) hx hb dX1_solves_90 (by decide) (fun c_60 => ?_) (fun c_60 => ?_)
      · replace hJ_52 := fx_tt c_60 hJ_52
        refine lv_aload_n hx hb dX1_solves_127 rfl (lv_at hl 2 rfl) ?_
        refine gX1_27 E hw dX1_solves_128 ?_
        refine lv_iload hx hb dX1_solves_131 (lv_at hl 4 rfl) ?_
        replace hJ_52 := fx_gd_e hJ_52
        obtain ⟨h_61, hJ_52⟩ := hJ_52
        refine raX1_27 E hw (fx_in_e h_61) dX1_solves_133 ?_
        refine lv_aload_n hx hb dX1_solves_134 rfl (lv_at hl 2 rfl) ?_
        refine lv_iload_n hx hb dX1_solves_135 rfl (lv_at hl 3 rfl) ?_
        replace hJ_52 := fx_b1_e hJ_52
        obtain ⟨r_62, h_63, hJ_52⟩ := hJ_52
        refine cx_cVi (r := r_62) (ws := sC g Rs (some (Rn 100)) im S_3 ++ (stC g Rn N ++ X)) (ws' := sC g Rs (some (Rn 100)) im S_3 ++ (stC g Rn N ++ X)) (As := [.int p3]) (rest := [.int (gx_A S_3 27 r_1.toNatClampNeg), .int r_5, .ref (Rs 27)]) E (mX1_sumWithout l g A Rs _ _ _ S_3 p3 h_63) (kwX1_X1_sumWithout E ⟨Nat.le_of_ble_eq_true rfl, Nat.le_of_ble_eq_true rfl⟩) 0 1 rfl rfl rfl hw rfl hl.1 rfl (Nat.le_of_ble_eq_true rfl) dX1_solves_136 ⟨Nat.le_of_ble_eq_true rfl, Nat.le_of_ble_eq_true rfl⟩ (fun H locs hw => ?_)
        refine lv_ixor hx hb dX1_solves_139 ?_
        exact jn_140 r_5 ((gx_A S_3 27 r_1.toNatClampNeg) ^^^ r_62) hJ_52 _ _ _ hw (lv_sub hl [2, 3, 4] rfl)
      · replace hJ_52 := fx_ff c_60 hJ_52
        refine lv_aload_n hx hb dX1_solves_93 rfl (lv_at hl 2 rfl) ?_
        refine gX1_18 E hw dX1_solves_94 ?_
        refine lv_aload_n hx hb dX1_solves_97 rfl (lv_at hl 2 rfl) ?_
        refine gX1_27 E hw dX1_solves_98 ?_
        refine lv_iload hx hb dX1_solves_101 (lv_at hl 4 rfl) ?_
        refine lv_iconst (v := (1 : Int32)) hx hb dX1_solves_103 (by decide) ?_
        refine lv_iadd hx hb dX1_solves_104 ?_
        replace hJ_52 := fx_gd_e hJ_52
        obtain ⟨h_64, hJ_52⟩ := hJ_52
        refine raX1_27 E hw (fx_in_e h_64) dX1_solves_105 ?_
        refine lv_aload_n hx hb dX1_solves_106 rfl (lv_at hl 2 rfl) ?_
        refine lv_iload_n hx hb dX1_solves_107 rfl (lv_at hl 3 rfl) ?_
        replace hJ_52 := fx_b1_e hJ_52
        obtain ⟨r_65, h_66, hJ_52⟩ := hJ_52
        refine cx_cVi (r := r_65) (ws := sC g Rs (some (Rn 100)) im S_3 ++ (stC g Rn N ++ X)) (ws' := sC g Rs (some (Rn 100)) im S_3 ++ (stC g Rn N ++ X)) (As := [.int p3]) (rest := [.int (gx_A S_3 27 (r_1 + (1 : Int32)).toNatClampNeg), .ref (Rs 18), .int r_5, .ref (Rs 27)]) E (mX1_weighedWithout l g A Rs _ _ _ S_3 p3 h_66) (kwX1_X1_weighedWithout E ⟨Nat.le_of_ble_eq_true rfl, Nat.le_of_ble_eq_true rfl⟩) 0 1 rfl rfl rfl hw rfl hl.1 rfl (Nat.le_of_ble_eq_true rfl) dX1_solves_108 ⟨Nat.le_of_ble_eq_true rfl, Nat.le_of_ble_eq_true rfl⟩ (fun H locs hw => ?_)
        refine lv_ixor hx hb dX1_solves_111 ?_
        refine lv_aload_n hx hb dX1_solves_112 rfl (lv_at hl 2 rfl) ?_
        refine gX1_18 E hw dX1_solves_113 ?_
        refine lv_iload hx hb dX1_solves_116 (lv_at hl 0 rfl) ?_
        replace hJ_52 := fx_b1_e hJ_52
        obtain ⟨r_67, h_68, hJ_52⟩ := hJ_52
        refine cx_cVi (r := r_67) (ws := sC g Rs (some (Rn 100)) im S_3 ++ (stC g Rn N ++ X)) (ws' := sC g Rs (some (Rn 100)) im S_3 ++ (stC g Rn N ++ X)) (As := [.int r_5]) (rest := [.int ((gx_A S_3 27 (r_1 + (1 : Int32)).toNatClampNeg) ^^^ r_65), .ref (Rs 18), .int r_5, .ref (Rs 27)]) E (mX3_power l g A Rs _ _ _ S_3 r_5 h_68) (kwX1_X3_power E ⟨Nat.le_of_ble_eq_true rfl, Nat.le_of_ble_eq_true rfl⟩) 16 3 rfl rfl rfl hw rfl hl.1 rfl (Nat.le_of_ble_eq_true rfl) dX1_solves_118 ⟨Nat.le_of_ble_eq_true rfl, Nat.le_of_ble_eq_true rfl⟩ (fun H locs hw => ?_)
        replace hJ_52 := fx_b1_e hJ_52
        obtain ⟨r_69, h_70, hJ_52⟩ := hJ_52
        refine cx_cVi (r := r_69) (ws := sC g Rs (some (Rn 100)) im S_3 ++ (stC g Rn N ++ X)) (ws' := sC g Rs (some (Rn 100)) im S_3 ++ (stC g Rn N ++ X)) (As := [.int ((gx_A S_3 27 (r_1 + (1 : Int32)).toNatClampNeg) ^^^ r_65), .int r_67]) (rest := [.int r_5, .ref (Rs 27)]) E (mX3_over l g A Rs _ _ _ S_3 ((gx_A S_3 27 (r_1 + (1 : Int32)).toNatClampNeg) ^^^ r_65) r_67 h_70) (kwX1_X3_over E ⟨Nat.le_of_ble_eq_true rfl, Nat.le_of_ble_eq_true rfl⟩) 16 3 rfl rfl rfl hw rfl hl.1 rfl (Nat.le_of_ble_eq_true rfl) dX1_solves_121 ⟨Nat.le_of_ble_eq_true rfl, Nat.le_of_ble_eq_true rfl⟩ (fun H locs hw => ?_)
        refine lv_goto (tgt := 140) hx hb dX1_solves_124 (by decide) ?_
        exact jn_140 r_5 r_69 hJ_52 _ _ _ hw (lv_sub hl [2, 3, 4] rfl)
  replace hF := fx_b1_e hF
  obtain ⟨ex_9, hL_9, hF⟩ := hF
  have key_9 : ∀ (n_9 : Nat) (S_71 : Sx) (x5_72 : Int32), fx_lp (LX1_solves_s_9 r_1 p3 N p1 p2) n_9 (S_71, x5_72) = some ex_9 → ∀ (H : Heap) (locs : List Loc) (ls : Array Slot), cx_W g A s (sC g Rs (some (Rn 100)) im S_71 ++ (stC g Rn N ++ X)) H locs → lv_has ls 10 [(0, .ref (Rs 100)), (1, .int p1), (2, .int p2), (3, .int p3), (4, .int r_1), (5, .int x5_72)] → W p l e rmX1_solves s m av below meth c H locs 0 0 Q (F0 m 9 ls []) := by
    intro n_9
    induction n_9 with
    | zero => intro S_71 x5_72 hL_9; exact fx_lp_0 hL_9
    | succ n_9 ih_9 =>
      intro S_71 x5_72 hL_9 H locs ls hw hl
      replace hL_9 := fx_lp_s hL_9
      obtain ⟨o_9, hB_9, hO_9⟩ := hL_9
      unfold LX1_solves_s_9 at hB_9
      replace hB_9 := fx_u2_e hB_9
      refine lv_iload hx hb dX1_solves_9 (lv_at hl 5 rfl) ?_
      refine lv_iload hx hb dX1_solves_11 (lv_at hl 4 rfl) ?_
      refine lv_iconst (v := (2 : Int32)) hx hb dX1_solves_13 (by decide) ?_
      refine lv_iadd hx hb dX1_solves_14 ?_
      refine lv_icmp_ge (tgt := 52) hx hb dX1_solves_15 (by decide) (fun c_73 => ?_) (fun c_73 => ?_)
      · replace hB_9 := fx_tt c_73 hB_9
        obtain rfl := fx_ex hB_9 hO_9
        exact jn_52 S_71 hF _ _ _ hw (lv_sub hl [0, 3, 4] rfl)
      · replace hB_9 := fx_ff c_73 hB_9
        refine lv_aload_n hx hb dX1_solves_18 rfl (lv_at hl 0 rfl) ?_
        refine gX1_27 E hw dX1_solves_19 ?_
        refine lv_iload hx hb dX1_solves_22 (lv_at hl 5 rfl) ?_
        refine lv_iload_n hx hb dX1_solves_24 rfl (lv_at hl 3 rfl) ?_
        refine lv_iload hx hb dX1_solves_25 (lv_at hl 5 rfl) ?_
        replace hB_9 := fx_b1_e hB_9
        obtain ⟨r_74, h_75, hB_9⟩ := hB_9
        refine cx_cSi (r := r_74) (ws := sC g Rs (some (Rn 100)) im S_71 ++ (stC g Rn N ++ X)) (ws' := sC g Rs (some (Rn 100)) im S_71 ++ (stC g Rn N ++ X)) (As := [.int p3, .int x5_72]) (rest := [.int x5_72, .ref (Rs 27)]) E (mX1_has l g A (sC g Rs (some (Rn 100)) im S_71 ++ (stC g Rn N ++ X)) p3 x5_72 h_75) (kwX1_X1_has E ⟨Nat.le_of_ble_eq_true rfl, Nat.le_of_ble_eq_true rfl⟩) hw rfl hl.1 rfl (Nat.le_of_ble_eq_true rfl) dX1_solves_27 ⟨Nat.le_of_ble_eq_true rfl, Nat.le_of_ble_eq_true rfl⟩ (fun H locs hw => ?_)
        have jn_45 : ∀ (t_76 : Int32) (t_77 : Int32), JX1_solves_s_45 t_76 S_71 t_77 x5_72 = some o_9 → ∀ (H : Heap) (locs : List Loc) (ls : Array Slot), cx_W g A s (sC g Rs (some (Rn 100)) im S_71 ++ (stC g Rn N ++ X)) H locs → lv_has ls 10 [(0, .ref (Rs 100)), (1, .int p1), (2, .int p2), (3, .int p3), (4, .int r_1), (5, .int x5_72)] → W p l e rmX1_solves s m av below meth c H locs 0 0 Q (F0 m 45 ls [.int t_77, .int t_76, .ref (Rs 27)]) := by
          intro t_76 t_77 hJ_45 H locs ls hw hl
          unfold JX1_solves_s_45 at hJ_45
          replace hJ_45 := fx_gd_e hJ_45
          obtain ⟨h_78, hJ_45⟩ := hJ_45
          obtain ⟨S_79, eS_79⟩ : ∃ z : Sx, z = px_A S_71 27 (upd (gx_A S_71 27) t_76.toNatClampNeg t_77) := ⟨_, rfl⟩
          replace hJ_45 := fx_lt_e eS_79 hJ_45
          refine rsX1_27 eS_79 E hw (fx_in_e h_78) dX1_solves_45 (fun H locs hw => ?_)
          obtain ⟨v_80, ev_80⟩ : ∃ z : Int32, z = x5_72 + (1 : Int32) := ⟨_, rfl⟩
          replace hJ_45 := fx_lt_e ev_80 hJ_45
          refine cx_iinc (z := (1 : Int32)) (v := v_80) hx hb dX1_solves_46 hl (k := 5) rfl (by decide) ev_80 (by decide) rfl (fun ls hl => ?_)
          have hl : lv_has ls 10 [(5, .int v_80), (0, .ref (Rs 100)), (1, .int p1), (2, .int p2), (3, .int p3), (4, .int r_1)] := hl
          refine lv_goto (tgt := 9) hx hb dX1_solves_49 (by decide) ?_
          exact ih_9 S_79 v_80 (fx_bk hJ_45 hO_9) _ _ _ hw (lv_sub hl [1, 2, 3, 4, 5, 0] rfl)
        refine lv_if_eq (tgt := 37) hx hb dX1_solves_30 (by decide) (fun c_81 => ?_) (fun c_81 => ?_)
        · replace hB_9 := fx_tt c_81 hB_9
          refine lv_aload_n hx hb dX1_solves_37 rfl (lv_at hl 0 rfl) ?_
          refine lv_iload_n hx hb dX1_solves_38 rfl (lv_at hl 1 rfl) ?_
          refine lv_iload hx hb dX1_solves_39 (lv_at hl 5 rfl) ?_
          refine lv_iload_n hx hb dX1_solves_41 rfl (lv_at hl 2 rfl) ?_
          replace hB_9 := fx_b1_e hB_9
          obtain ⟨r_82, h_83, hB_9⟩ := hB_9
          refine cx_cVi (r := r_82) (ws := sC g Rs (some (Rn 100)) im S_71 ++ (stC g Rn N ++ X)) (ws' := sC g Rs (some (Rn 100)) im S_71 ++ (stC g Rn N ++ X)) (As := [.int p1, .int x5_72, .int p2]) (rest := [.int x5_72, .ref (Rs 27)]) E (mX1_get_s l g A Rs Rn _ _ S_71 N p1 x5_72 p2 h_83) (kwX1_X1_get E ⟨Nat.le_of_ble_eq_true rfl, Nat.le_of_ble_eq_true rfl⟩) 0 1 rfl rfl rfl hw rfl hl.1 rfl (Nat.le_of_ble_eq_true rfl) dX1_solves_42 ⟨Nat.le_of_ble_eq_true rfl, Nat.le_of_ble_eq_true rfl⟩ (fun H locs hw => ?_)
          exact jn_45 x5_72 r_82 hB_9 _ _ _ hw hl
        · replace hB_9 := fx_ff c_81 hB_9
          refine lv_iconst (v := (0 : Int32)) hx hb dX1_solves_33 (by decide) ?_
          refine lv_goto (tgt := 45) hx hb dX1_solves_34 (by decide) ?_
          exact jn_45 x5_72 (0 : Int32) hB_9 _ _ _ hw hl
  exact key_9 _ S (0 : Int32) hL_9 _ _ _ hw (lv_sub hl [2, 3, 4, 5, 1, 0] rfl)
/-! solves(III)V -/
def JX1_solves_n_289 (p3 : Int32) (r_1 : Int32) (S_12 : Sx) : Option Sx :=
  fx_b1 (FX1_has p3 (r_1 + (1 : Int32))) (fun r_13 => if r_13 = 0 then (some S_12) else (fx_b1 (FX1_weighedWithout S_12 (0 : Int32)) (fun r_16 => fx_gd (fx_in (r_1 + (1 : Int32)) 8) (fx_lt (px_A S_12 27 (upd (gx_A S_12 27) (r_1 + (1 : Int32)).toNatClampNeg r_16)) (fun S_19 => some S_19)))))
def JX1_solves_n_268 (p3 : Int32) (r_1 : Int32) (S_9 : Sx) : Option Sx :=
  fx_b1 (FX1_has p3 r_1) (fun r_10 => if r_10 = 0 then (JX1_solves_n_289 p3 r_1 S_9) else (fx_b1 (FX1_sumWithout S_9 (0 : Int32)) (fun r_21 => fx_gd (fx_in r_1 8) (fx_lt (px_A S_9 27 (upd (gx_A S_9 27) r_1.toNatClampNeg r_21)) (fun S_24 => JX1_solves_n_289 p3 r_1 S_24)))))
def JX1_solves_n_140 (t_56 : Int32) (S_3 : Sx) (t_57 : Int32) (p3 : Int32) (r_1 : Int32) : Option Sx :=
  fx_gd (fx_in t_56 8) (fx_lt (px_A S_3 27 (upd (gx_A S_3 27) t_56.toNatClampNeg t_57)) (fun S_59 => JX1_solves_n_268 p3 r_1 S_59))
def JX1_solves_n_52 (p3 : Int32) (r_1 : Int32) (S_3 : Sx) : Option Sx :=
  fx_lt (p3 &&& (((1 : Int32) <<< (r_1 &&& 31)) - (1 : Int32))) (fun v_4 => fx_b1 (FJ10_numberOfTrailingZeros v_4) (fun r_5 => fx_b1 (FJ10_bitCount v_4) (fun r_7 => if r_7 = (1 : Int32) then (fx_b1 (FX1_has p3 r_1) (fun r_54 => if r_54 = 0 then (fx_gd (fx_in r_1 8) (fx_b1 (FX1_sumWithout S_3 p3) (fun r_62 => JX1_solves_n_140 r_5 S_3 ((gx_A S_3 27 r_1.toNatClampNeg) ^^^ r_62) p3 r_1))) else (fx_gd (fx_in (r_1 + (1 : Int32)) 8) (fx_b1 (FX1_weighedWithout S_3 p3) (fun r_65 => fx_b1 (FX3_power S_3 r_5) (fun r_67 => fx_b1 (FX3_over S_3 ((gx_A S_3 27 (r_1 + (1 : Int32)).toNatClampNeg) ^^^ r_65) r_67) (fun r_69 => JX1_solves_n_140 r_5 S_3 r_69 p3 r_1))))))) else (fx_b1 (FJ10_bitCount v_4) (fun r_26 => if r_26 = (2 : Int32) then (fx_b1 (FJ10_numberOfTrailingZeros (v_4 &&& (v_4 - (1 : Int32)))) (fun r_29 => fx_gd (fx_in r_1 8) (fx_b1 (FX1_sumWithout S_3 p3) (fun r_32 => fx_lt ((gx_A S_3 27 r_1.toNatClampNeg) ^^^ r_32) (fun v_34 => fx_gd (fx_in (r_1 + (1 : Int32)) 8) (fx_b1 (FX1_weighedWithout S_3 p3) (fun r_36 => fx_lt ((gx_A S_3 27 (r_1 + (1 : Int32)).toNatClampNeg) ^^^ r_36) (fun v_38 => fx_b1 (FX3_power S_3 r_29) (fun r_39 => fx_b1 (FX3_times S_3 v_34 r_39) (fun r_41 => fx_b1 (FX3_power S_3 r_5) (fun r_43 => fx_b1 (FX3_power S_3 r_29) (fun r_45 => fx_b1 (FX3_over S_3 (v_38 ^^^ r_41) (r_43 ^^^ r_45)) (fun r_47 => fx_gd (fx_in r_5 8) (fx_lt (px_A S_3 27 (upd (gx_A S_3 27) r_5.toNatClampNeg r_47)) (fun S_50 => fx_gd (fx_in r_5 8) (fx_gd (fx_in r_29 8) (fx_lt (px_A S_50 27 (upd (gx_A S_50 27) r_29.toNatClampNeg (v_34 ^^^ (gx_A S_50 27 r_5.toNatClampNeg)))) (fun S_53 => JX1_solves_n_268 p3 r_1 S_53)))))))))))))))))) else (JX1_solves_n_268 p3 r_1 S_3))))))
def JX1_solves_n_45 (t_76 : Int32) (S_71 : Sx) (t_77 : Int32) (x5_72 : Int32) : Option ((Sx × Int32) ⊕ (Sx)) :=
  fx_gd (fx_in t_76 8) (fx_lt (px_A S_71 27 (upd (gx_A S_71 27) t_76.toNatClampNeg t_77)) (fun S_79 => fx_lt (x5_72 + (1 : Int32)) (fun v_80 => some (.inl (S_79, v_80)))))
def LX1_solves_n_9 (r_1 : Int32) (p3 : Int32) (p1 : Int32) (p2 : Int32) (q_ : Sx × Int32) : Option ((Sx × Int32) ⊕ (Sx)) :=
  fx_u2 q_ (fun S_71 x5_72 => if (r_1 + (2 : Int32)) ≤ x5_72 then (some (.inr S_71)) else (fx_b1 (FX1_has p3 x5_72) (fun r_74 => if r_74 = 0 then (fx_b1 (FX1_get_n S_71 p1 x5_72 p2) (fun r_82 => JX1_solves_n_45 x5_72 S_71 r_82 x5_72)) else (JX1_solves_n_45 x5_72 S_71 (0 : Int32) x5_72))))
def FX1_solves_n (S : Sx) (p1 : Int32) (p2 : Int32) (p3 : Int32) : Option Sx :=
  fx_b1 (FX1_data S) (fun r_1 => fx_b1 (fx_lp (LX1_solves_n_9 r_1 p3 p1 p2) 2000 (S, (0 : Int32))) (fun S_84 => JX1_solves_n_52 p3 r_1 S_84))
set_option maxHeartbeats 4000000 in
set_option maxRecDepth 100000 in
theorem mX1_solves_n (l : Launch) (g : Gx) (A : Nat → Prop) (Rs : Nat → Nat) (im : Option Nat) (X : va_W) (S : Sx) (p1 : Int32) (p2 : Int32) (p3 : Int32) {o : Sx} (hF : FX1_solves_n S p1 p2 p3 = some o) :
    cx_v l yX1_solves cX1_solves 10 rmX1_solves [.ref (Rs 100), .int p1, .int p2, .int p3] g A (sC g Rs none im S ++ X) (sC g Rs none im o ++ X) 0 0 := by
  refine cx_v_of (by decide) (Nat.le_of_ble_eq_true rfl) ?_
  intro p e s m av below meth c Q E hret H hw ls hl
  have E : cx_E p m meth c cX1_solves 10 s av RX1 g A := E
  have hx := E.1.1
  have hb := E.1.2.1
  have hl : lv_has ls 10 [(0, .ref (Rs 100)), (1, .int p1), (2, .int p2), (3, .int p3)] := hl
  generalize hlc : ([] : List Loc) = locs at hw ⊢
  clear hlc
  unfold FX1_solves_n at hF
  refine lv_aload_n hx hb dX1_solves_0 rfl (lv_at hl 0 rfl) ?_
  replace hF := fx_b1_e hF
  obtain ⟨r_1, h_2, hF⟩ := hF
  refine cx_cVi (r := r_1) (ws := sC g Rs none im S ++ X) (ws' := sC g Rs none im S ++ X) (As := []) (rest := []) E (mX1_data l g A Rs _ _ _ S h_2) (kwX1_X1_data E ⟨Nat.le_of_ble_eq_true rfl, Nat.le_of_ble_eq_true rfl⟩) 0 1 rfl rfl rfl hw rfl hl.1 rfl (Nat.le_of_ble_eq_true rfl) dX1_solves_1 ⟨Nat.le_of_ble_eq_true rfl, Nat.le_of_ble_eq_true rfl⟩ (fun H locs hw => ?_)
  refine lv_istore hx hb dX1_solves_4 hl (by decide) rfl (fun ls hl => ?_)
  have hl : lv_has ls 10 [(4, .int r_1), (0, .ref (Rs 100)), (1, .int p1), (2, .int p2), (3, .int p3)] := hl
  refine lv_iconst (v := (0 : Int32)) hx hb dX1_solves_6 (by decide) ?_
  refine lv_istore hx hb dX1_solves_7 hl (by decide) rfl (fun ls hl => ?_)
  have hl : lv_has ls 10 [(5, .int (0 : Int32)), (4, .int r_1), (0, .ref (Rs 100)), (1, .int p1), (2, .int p2), (3, .int p3)] := hl
  have jn_52 : ∀ (S_3 : Sx), JX1_solves_n_52 p3 r_1 S_3 = some o → ∀ (H : Heap) (locs : List Loc) (ls : Array Slot), cx_W g A s (sC g Rs none im S_3 ++ X) H locs → lv_has ls 10 [(0, .ref (Rs 100)), (3, .int p3), (4, .int r_1)] → W p l e rmX1_solves s m av below meth c H locs 0 0 Q (F0 m 52 ls []) := by
    intro S_3 hJ_52 H locs ls hw hl
    unfold JX1_solves_n_52 at hJ_52
    refine lv_iload_n hx hb dX1_solves_52 rfl (lv_at hl 1 rfl) ?_
    refine lv_iconst (v := (1 : Int32)) hx hb dX1_solves_53 (by decide) ?_
    refine lv_iload hx hb dX1_solves_54 (lv_at hl 2 rfl) ?_
    refine lv_ishl hx hb dX1_solves_56 ?_
    refine lv_iconst (v := (1 : Int32)) hx hb dX1_solves_57 (by decide) ?_
    refine lv_isub hx hb dX1_solves_58 ?_
    refine lv_iand hx hb dX1_solves_59 ?_
    refine lv_topi (fun v_4 ev_4 => ?_)
    replace hJ_52 := fx_lt_e ev_4 hJ_52
    refine lv_istore hx hb dX1_solves_60 hl (by decide) rfl (fun ls hl => ?_)
    have hl : lv_has ls 10 [(5, .int v_4), (0, .ref (Rs 100)), (3, .int p3), (4, .int r_1)] := hl
    refine lv_iload hx hb dX1_solves_62 (lv_at hl 0 rfl) ?_
    replace hJ_52 := fx_b1_e hJ_52
    obtain ⟨r_5, h_6, hJ_52⟩ := hJ_52
    refine cx_cSi (r := r_5) (ws := sC g Rs none im S_3 ++ X) (ws' := sC g Rs none im S_3 ++ X) (As := [.int v_4]) (rest := []) E (mJ10_numberOfTrailingZeros l g A (sC g Rs none im S_3 ++ X) v_4 h_6) (kwX1_J10_numberOfTrailingZeros E ⟨Nat.le_of_ble_eq_true rfl, Nat.le_of_ble_eq_true rfl⟩) hw rfl hl.1 rfl (Nat.le_of_ble_eq_true rfl) dX1_solves_64 ⟨Nat.le_of_ble_eq_true rfl, Nat.le_of_ble_eq_true rfl⟩ (fun H locs hw => ?_)
    refine lv_istore hx hb dX1_solves_67 hl (by decide) rfl (fun ls hl => ?_)
    have hl : lv_has ls 10 [(6, .int r_5), (5, .int v_4), (0, .ref (Rs 100)), (3, .int p3), (4, .int r_1)] := hl
    refine lv_iload hx hb dX1_solves_69 (lv_at hl 1 rfl) ?_
    replace hJ_52 := fx_b1_e hJ_52
    obtain ⟨r_7, h_8, hJ_52⟩ := hJ_52
    refine cx_cSi (r := r_7) (ws := sC g Rs none im S_3 ++ X) (ws' := sC g Rs none im S_3 ++ X) (As := [.int v_4]) (rest := []) E (mJ10_bitCount l g A (sC g Rs none im S_3 ++ X) v_4 h_8) (kwX1_J10_bitCount E ⟨Nat.le_of_ble_eq_true rfl, Nat.le_of_ble_eq_true rfl⟩) hw rfl hl.1 rfl (Nat.le_of_ble_eq_true rfl) dX1_solves_71 ⟨Nat.le_of_ble_eq_true rfl, Nat.le_of_ble_eq_true rfl⟩ (fun H locs hw => ?_)
    refine lv_iconst (v := (1 : Int32)) hx hb dX1_solves_74 (by decide) ?_
    have jn_268 : ∀ (S_9 : Sx), JX1_solves_n_268 p3 r_1 S_9 = some o → ∀ (H : Heap) (locs : List Loc) (ls : Array Slot), cx_W g A s (sC g Rs none im S_9 ++ X) H locs → lv_has ls 10 [(0, .ref (Rs 100)), (3, .int p3), (4, .int r_1)] → W p l e rmX1_solves s m av below meth c H locs 0 0 Q (F0 m 268 ls []) := by
      intro S_9 hJ_268 H locs ls hw hl
      unfold JX1_solves_n_268 at hJ_268
      refine lv_iload_n hx hb dX1_solves_268 rfl (lv_at hl 1 rfl) ?_
      refine lv_iload hx hb dX1_solves_269 (lv_at hl 2 rfl) ?_
      replace hJ_268 := fx_b1_e hJ_268
      obtain ⟨r_10, h_11, hJ_268⟩ := hJ_268
      refine cx_cSi (r := r_10) (ws := sC g Rs none im S_9 ++ X) (ws' := sC g Rs none im S_9 ++ X) (As := [.int p3, .int r_1]) (rest := []) E (mX1_has l g A (sC g Rs none im S_9 ++ X) p3 r_1 h_11) (kwX1_X1_has E ⟨Nat.le_of_ble_eq_true rfl, Nat.le_of_ble_eq_true rfl⟩) hw rfl hl.1 rfl (Nat.le_of_ble_eq_true rfl) dX1_solves_271 ⟨Nat.le_of_ble_eq_true rfl, Nat.le_of_ble_eq_true rfl⟩ (fun H locs hw => ?_)
      have jn_289 : ∀ (S_12 : Sx), JX1_solves_n_289 p3 r_1 S_12 = some o → ∀ (H : Heap) (locs : List Loc) (ls : Array Slot), cx_W g A s (sC g Rs none im S_12 ++ X) H locs → lv_has ls 10 [(0, .ref (Rs 100)), (3, .int p3), (4, .int r_1)] → W p l e rmX1_solves s m av below meth c H locs 0 0 Q (F0 m 289 ls []) := by
        intro S_12 hJ_289 H locs ls hw hl
        unfold JX1_solves_n_289 at hJ_289
        refine lv_iload_n hx hb dX1_solves_289 rfl (lv_at hl 1 rfl) ?_
        refine lv_iload hx hb dX1_solves_290 (lv_at hl 2 rfl) ?_
        refine lv_iconst (v := (1 : Int32)) hx hb dX1_solves_292 (by decide) ?_
        refine lv_iadd hx hb dX1_solves_293 ?_
        replace hJ_289 := fx_b1_e hJ_289
        obtain ⟨r_13, h_14, hJ_289⟩ := hJ_289
        refine cx_cSi (r := r_13) (ws := sC g Rs none im S_12 ++ X) (ws' := sC g Rs none im S_12 ++ X) (As := [.int p3, .int (r_1 + (1 : Int32))]) (rest := []) E (mX1_has l g A (sC g Rs none im S_12 ++ X) p3 (r_1 + (1 : Int32)) h_14) (kwX1_X1_has E ⟨Nat.le_of_ble_eq_true rfl, Nat.le_of_ble_eq_true rfl⟩) hw rfl hl.1 rfl (Nat.le_of_ble_eq_true rfl) dX1_solves_294 ⟨Nat.le_of_ble_eq_true rfl, Nat.le_of_ble_eq_true rfl⟩ (fun H locs hw => ?_)
        refine lv_if_eq (tgt := 314) hx hb dX1_solves_297 (by decide) (fun c_15 => ?_) (fun c_15 => ?_)
        · replace hJ_289 := fx_tt c_15 hJ_289
          obtain rfl := Option.some.inj hJ_289
          exact hret _ _ _ _ hw dX1_solves_314
        · replace hJ_289 := fx_ff c_15 hJ_289
          refine lv_aload_n hx hb dX1_solves_300 rfl (lv_at hl 0 rfl) ?_
          refine gX1_27 E hw dX1_solves_301 ?_
          refine lv_iload hx hb dX1_solves_304 (lv_at hl 2 rfl) ?_
          refine lv_iconst (v := (1 : Int32)) hx hb dX1_solves_306 (by decide) ?_
          refine lv_iadd hx hb dX1_solves_307 ?_
          refine lv_aload_n hx hb dX1_solves_308 rfl (lv_at hl 0 rfl) ?_
          refine lv_iconst (v := (0 : Int32)) hx hb dX1_solves_309 (by decide) ?_
          replace hJ_289 := fx_b1_e hJ_289
          obtain ⟨r_16, h_17, hJ_289⟩ := hJ_289
          refine cx_cVi (r := r_16) (ws := sC g Rs none im S_12 ++ X) (ws' := sC g Rs none im S_12 ++ X) (As := [.int (0 : Int32)]) (rest := [.int (r_1 + (1 : Int32)), .ref (Rs 27)]) E (mX1_weighedWithout l g A Rs _ _ _ S_12 (0 : Int32) h_17) (kwX1_X1_weighedWithout E ⟨Nat.le_of_ble_eq_true rfl, Nat.le_of_ble_eq_true rfl⟩) 0 1 rfl rfl rfl hw rfl hl.1 rfl (Nat.le_of_ble_eq_true rfl) dX1_solves_310 ⟨Nat.le_of_ble_eq_true rfl, Nat.le_of_ble_eq_true rfl⟩ (fun H locs hw => ?_)
          replace hJ_289 := fx_gd_e hJ_289
          obtain ⟨h_18, hJ_289⟩ := hJ_289
          obtain ⟨S_19, eS_19⟩ : ∃ z : Sx, z = px_A S_12 27 (upd (gx_A S_12 27) (r_1 + (1 : Int32)).toNatClampNeg r_16) := ⟨_, rfl⟩
          replace hJ_289 := fx_lt_e eS_19 hJ_289
          refine rsX1_27 eS_19 E hw (fx_in_e h_18) dX1_solves_313 (fun H locs hw => ?_)
          obtain rfl := Option.some.inj hJ_289
          exact hret _ _ _ _ hw dX1_solves_314
      refine lv_if_eq (tgt := 289) hx hb dX1_solves_274 (by decide) (fun c_20 => ?_) (fun c_20 => ?_)
      · replace hJ_268 := fx_tt c_20 hJ_268
        exact jn_289 S_9 hJ_268 _ _ _ hw hl
      · replace hJ_268 := fx_ff c_20 hJ_268
        refine lv_aload_n hx hb dX1_solves_277 rfl (lv_at hl 0 rfl) ?_
        refine gX1_27 E hw dX1_solves_278 ?_
        refine lv_iload hx hb dX1_solves_281 (lv_at hl 2 rfl) ?_
        refine lv_aload_n hx hb dX1_solves_283 rfl (lv_at hl 0 rfl) ?_
        refine lv_iconst (v := (0 : Int32)) hx hb dX1_solves_284 (by decide) ?_
        replace hJ_268 := fx_b1_e hJ_268
        obtain ⟨r_21, h_22, hJ_268⟩ := hJ_268
        refine cx_cVi (r := r_21) (ws := sC g Rs none im S_9 ++ X) (ws' := sC g Rs none im S_9 ++ X) (As := [.int (0 : Int32)]) (rest := [.int r_1, .ref (Rs 27)]) E (mX1_sumWithout l g A Rs _ _ _ S_9 (0 : Int32) h_22) (kwX1_X1_sumWithout E ⟨Nat.le_of_ble_eq_true rfl, Nat.le_of_ble_eq_true rfl⟩) 0 1 rfl rfl rfl hw rfl hl.1 rfl (Nat.le_of_ble_eq_true rfl) dX1_solves_285 ⟨Nat.le_of_ble_eq_true rfl, Nat.le_of_ble_eq_true rfl⟩ (fun H locs hw => ?_)
        replace hJ_268 := fx_gd_e hJ_268
        obtain ⟨h_23, hJ_268⟩ := hJ_268
        obtain ⟨S_24, eS_24⟩ : ∃ z : Sx, z = px_A S_9 27 (upd (gx_A S_9 27) r_1.toNatClampNeg r_21) := ⟨_, rfl⟩
        replace hJ_268 := fx_lt_e eS_24 hJ_268
        refine rsX1_27 eS_24 E hw (fx_in_e h_23) dX1_solves_288 (fun H locs hw => ?_)
        exact jn_289 S_24 hJ_268 _ _ _ hw hl
    refine lv_icmp_ne (tgt := 144) hx hb dX1_solves_75 (by decide) (fun c_25 => ?_) (fun c_25 => ?_)
    · replace hJ_52 := fx_ff c_25 hJ_52
      refine lv_iload hx hb dX1_solves_144 (lv_at hl 1 rfl) ?_
      replace hJ_52 := fx_b1_e hJ_52
      obtain ⟨r_26, h_27, hJ_52⟩ := hJ_52
      refine cx_cSi (r := r_26) (ws := sC g Rs none im S_3 ++ X) (ws' := sC g Rs none im S_3 ++ X) (As := [.int v_4]) (rest := []) E (mJ10_bitCount l g A (sC g Rs none im S_3 ++ X) v_4 h_27) (kwX1_J10_bitCount E ⟨Nat.le_of_ble_eq_true rfl, Nat.le_of_ble_eq_true rfl⟩) hw rfl hl.1 rfl (Nat.le_of_ble_eq_true rfl) dX1_solves_146 ⟨Nat.le_of_ble_eq_true rfl, Nat.le_of_ble_eq_true rfl⟩ (fun H locs hw => ?_)
      refine lv_iconst (v := (2 : Int32)) hx hb dX1_solves_149 (by decide) ?_
      refine lv_icmp_ne (tgt := 268) hx hb dX1_solves_150 (by decide) (fun c_28 => ?_) (fun c_28 => ?_)
      · replace hJ_52 := fx_ff c_28 hJ_52
        exact jn_268 S_3 hJ_52 _ _ _ hw (lv_sub hl [2, 3, 4] rfl)
      · replace hJ_52 := fx_tt c_28 hJ_52
        refine lv_iload hx hb dX1_solves_153 (lv_at hl 1 rfl) ?_
        refine lv_iload hx hb dX1_solves_155 (lv_at hl 1 rfl) ?_
        refine lv_iconst (v := (1 : Int32)) hx hb dX1_solves_157 (by decide) ?_
        refine lv_isub hx hb dX1_solves_158 ?_
        refine lv_iand hx hb dX1_solves_159 ?_
        replace hJ_52 := fx_b1_e hJ_52
        obtain ⟨r_29, h_30, hJ_52⟩ := hJ_52
        refine cx_cSi (r := r_29) (ws := sC g Rs none im S_3 ++ X) (ws' := sC g Rs none im S_3 ++ X) (As := [.int (v_4 &&& (v_4 - (1 : Int32)))]) (rest := []) E (mJ10_numberOfTrailingZeros l g A (sC g Rs none im S_3 ++ X) (v_4 &&& (v_4 - (1 : Int32))) h_30) (kwX1_J10_numberOfTrailingZeros E ⟨Nat.le_of_ble_eq_true rfl, Nat.le_of_ble_eq_true rfl⟩) hw rfl hl.1 rfl (Nat.le_of_ble_eq_true rfl) dX1_solves_160 ⟨Nat.le_of_ble_eq_true rfl, Nat.le_of_ble_eq_true rfl⟩ (fun H locs hw => ?_)
        refine lv_istore hx hb dX1_solves_163 hl (by decide) rfl (fun ls hl => ?_)
        have hl : lv_has ls 10 [(7, .int r_29), (6, .int r_5), (5, .int v_4), (0, .ref (Rs 100)), (3, .int p3), (4, .int r_1)] := hl
        refine lv_aload_n hx hb dX1_solves_165 rfl (lv_at hl 3 rfl) ?_
        refine gX1_27 E hw dX1_solves_166 ?_
        refine lv_iload hx hb dX1_solves_169 (lv_at hl 5 rfl) ?_
        replace hJ_52 := fx_gd_e hJ_52
        obtain ⟨h_31, hJ_52⟩ := hJ_52
        refine raX1_27 E hw (fx_in_e h_31) dX1_solves_171 ?_
        refine lv_aload_n hx hb dX1_solves_172 rfl (lv_at hl 3 rfl) ?_
        refine lv_iload_n hx hb dX1_solves_173 rfl (lv_at hl 4 rfl) ?_
        replace hJ_52 := fx_b1_e hJ_52
        obtain ⟨r_32, h_33, hJ_52⟩ := hJ_52
        refine cx_cVi (r := r_32) (ws := sC g Rs none im S_3 ++ X) (ws' := sC g Rs none im S_3 ++ X) (As := [.int p3]) (rest := [.int (gx_A S_3 27 r_1.toNatClampNeg)]) E (mX1_sumWithout l g A Rs _ _ _ S_3 p3 h_33) (kwX1_X1_sumWithout E ⟨Nat.le_of_ble_eq_true rfl, Nat.le_of_ble_eq_true rfl⟩) 0 1 rfl rfl rfl hw rfl hl.1 rfl (Nat.le_of_ble_eq_true rfl) dX1_solves_174 ⟨Nat.le_of_ble_eq_true rfl, Nat.le_of_ble_eq_true rfl⟩ (fun H locs hw => ?_)
        refine lv_ixor hx hb dX1_solves_177 ?_
        refine lv_topi (fun v_34 ev_34 => ?_)
        replace hJ_52 := fx_lt_e ev_34 hJ_52
        refine lv_istore hx hb dX1_solves_178 hl (by decide) rfl (fun ls hl => ?_)
        have hl : lv_has ls 10 [(8, .int v_34), (7, .int r_29), (6, .int r_5), (5, .int v_4), (0, .ref (Rs 100)), (3, .int p3), (4, .int r_1)] := hl
        refine lv_aload_n hx hb dX1_solves_180 rfl (lv_at hl 4 rfl) ?_
        refine gX1_27 E hw dX1_solves_181 ?_
        refine lv_iload hx hb dX1_solves_184 (lv_at hl 6 rfl) ?_
        refine lv_iconst (v := (1 : Int32)) hx hb dX1_solves_186 (by decide) ?_
        refine lv_iadd hx hb dX1_solves_187 ?_
        replace hJ_52 := fx_gd_e hJ_52
        obtain ⟨h_35, hJ_52⟩ := hJ_52
        refine raX1_27 E hw (fx_in_e h_35) dX1_solves_188 ?_
        refine lv_aload_n hx hb dX1_solves_189 rfl (lv_at hl 4 rfl) ?_
        refine lv_iload_n hx hb dX1_solves_190 rfl (lv_at hl 5 rfl) ?_
        replace hJ_52 := fx_b1_e hJ_52
        obtain ⟨r_36, h_37, hJ_52⟩ := hJ_52
        refine cx_cVi (r := r_36) (ws := sC g Rs none im S_3 ++ X) (ws' := sC g Rs none im S_3 ++ X) (As := [.int p3]) (rest := [.int (gx_A S_3 27 (r_1 + (1 : Int32)).toNatClampNeg)]) E (mX1_weighedWithout l g A Rs _ _ _ S_3 p3 h_37) (kwX1_X1_weighedWithout E ⟨Nat.le_of_ble_eq_true rfl, Nat.le_of_ble_eq_true rfl⟩) 0 1 rfl rfl rfl hw rfl hl.1 rfl (Nat.le_of_ble_eq_true rfl) dX1_solves_191 ⟨Nat.le_of_ble_eq_true rfl, Nat.le_of_ble_eq_true rfl⟩ (fun H locs hw => ?_)
        refine lv_ixor hx hb dX1_solves_194 ?_
        refine lv_topi (fun v_38 ev_38 => ?_)
        replace hJ_52 := fx_lt_e ev_38 hJ_52
        refine lv_istore hx hb dX1_solves_195 hl (by decide) rfl (fun ls hl => ?_)
        have hl : lv_has ls 10 [(9, .int v_38), (8, .int v_34), (7, .int r_29), (6, .int r_5), (5, .int v_4), (0, .ref (Rs 100)), (3, .int p3), (4, .int r_1)] := hl
        refine lv_aload_n hx hb dX1_solves_197 rfl (lv_at hl 5 rfl) ?_
        refine gX1_27 E hw dX1_solves_198 ?_
        refine lv_iload hx hb dX1_solves_201 (lv_at hl 3 rfl) ?_
        refine lv_aload_n hx hb dX1_solves_203 rfl (lv_at hl 5 rfl) ?_
        refine gX1_18 E hw dX1_solves_204 ?_
        refine lv_iload hx hb dX1_solves_207 (lv_at hl 0 rfl) ?_
        refine lv_aload_n hx hb dX1_solves_209 rfl (lv_at hl 5 rfl) ?_
        refine gX1_18 E hw dX1_solves_210 ?_
        refine lv_iload hx hb dX1_solves_213 (lv_at hl 1 rfl) ?_
        refine lv_aload_n hx hb dX1_solves_215 rfl (lv_at hl 5 rfl) ?_
        refine gX1_18 E hw dX1_solves_216 ?_
        refine lv_iload hx hb dX1_solves_219 (lv_at hl 2 rfl) ?_
        replace hJ_52 := fx_b1_e hJ_52
        obtain ⟨r_39, h_40, hJ_52⟩ := hJ_52
        refine cx_cVi (r := r_39) (ws := sC g Rs none im S_3 ++ X) (ws' := sC g Rs none im S_3 ++ X) (As := [.int r_29]) (rest := [.int v_34, .ref (Rs 18), .int v_38, .ref (Rs 18), .int r_5, .ref (Rs 27)]) E (mX3_power l g A Rs _ _ _ S_3 r_29 h_40) (kwX1_X3_power E ⟨Nat.le_of_ble_eq_true rfl, Nat.le_of_ble_eq_true rfl⟩) 16 3 rfl rfl rfl hw rfl hl.1 rfl (Nat.le_of_ble_eq_true rfl) dX1_solves_221 ⟨Nat.le_of_ble_eq_true rfl, Nat.le_of_ble_eq_true rfl⟩ (fun H locs hw => ?_)
        replace hJ_52 := fx_b1_e hJ_52
        obtain ⟨r_41, h_42, hJ_52⟩ := hJ_52
        refine cx_cVi (r := r_41) (ws := sC g Rs none im S_3 ++ X) (ws' := sC g Rs none im S_3 ++ X) (As := [.int v_34, .int r_39]) (rest := [.int v_38, .ref (Rs 18), .int r_5, .ref (Rs 27)]) E (mX3_times l g A Rs _ _ _ S_3 v_34 r_39 h_42) (kwX1_X3_times E ⟨Nat.le_of_ble_eq_true rfl, Nat.le_of_ble_eq_true rfl⟩) 16 3 rfl rfl rfl hw rfl hl.1 rfl (Nat.le_of_ble_eq_true rfl) dX1_solves_224 ⟨Nat.le_of_ble_eq_true rfl, Nat.le_of_ble_eq_true rfl⟩ (fun H locs hw => ?_)
        refine lv_ixor hx hb dX1_solves_227 ?_
        refine lv_aload_n hx hb dX1_solves_228 rfl (lv_at hl 5 rfl) ?_
        refine gX1_18 E hw dX1_solves_229 ?_
        refine lv_iload hx hb dX1_solves_232 (lv_at hl 3 rfl) ?_
        replace hJ_52 := fx_b1_e hJ_52
        obtain ⟨r_43, h_44, hJ_52⟩ := hJ_52
        refine cx_cVi (r := r_43) (ws := sC g Rs none im S_3 ++ X) (ws' := sC g Rs none im S_3 ++ X) (As := [.int r_5]) (rest := [.int (v_38 ^^^ r_41), .ref (Rs 18), .int r_5, .ref (Rs 27)]) E (mX3_power l g A Rs _ _ _ S_3 r_5 h_44) (kwX1_X3_power E ⟨Nat.le_of_ble_eq_true rfl, Nat.le_of_ble_eq_true rfl⟩) 16 3 rfl rfl rfl hw rfl hl.1 rfl (Nat.le_of_ble_eq_true rfl) dX1_solves_234 ⟨Nat.le_of_ble_eq_true rfl, Nat.le_of_ble_eq_true rfl⟩ (fun H locs hw => ?_)
        refine lv_aload_n hx hb dX1_solves_237 rfl (lv_at hl 5 rfl) ?_
        refine gX1_18 E hw dX1_solves_238 ?_
        refine lv_iload hx hb dX1_solves_241 (lv_at hl 2 rfl) ?_
        replace hJ_52 := fx_b1_e hJ_52
        obtain ⟨r_45, h_46, hJ_52⟩ := hJ_52
        refine cx_cVi (r := r_45) (ws := sC g Rs none im S_3 ++ X) (ws' := sC g Rs none im S_3 ++ X) (As := [.int r_29]) (rest := [.int r_43, .int (v_38 ^^^ r_41), .ref (Rs 18), .int r_5, .ref (Rs 27)]) E (mX3_power l g A Rs _ _ _ S_3 r_29 h_46) (kwX1_X3_power E ⟨Nat.le_of_ble_eq_true rfl, Nat.le_of_ble_eq_true rfl⟩) 16 3 rfl rfl rfl hw rfl hl.1 rfl (Nat.le_of_ble_eq_true rfl) dX1_solves_243 ⟨Nat.le_of_ble_eq_true rfl, Nat.le_of_ble_eq_true rfl⟩ (fun H locs hw => ?_)
        refine lv_ixor hx hb dX1_solves_246 ?_
        replace hJ_52 := fx_b1_e hJ_52
        obtain ⟨r_47, h_48, hJ_52⟩ := hJ_52
        refine cx_cVi (r := r_47) (ws := sC g Rs none im S_3 ++ X) (ws' := sC g Rs none im S_3 ++ X) (As := [.int (v_38 ^^^ r_41), .int (r_43 ^^^ r_45)]) (rest := [.int r_5, .ref (Rs 27)]) E (mX3_over l g A Rs _ _ _ S_3 (v_38 ^^^ r_41) (r_43 ^^^ r_45) h_48) (kwX1_X3_over E ⟨Nat.le_of_ble_eq_true rfl, Nat.le_of_ble_eq_true rfl⟩) 16 3 rfl rfl rfl hw rfl hl.1 rfl (Nat.le_of_ble_eq_true rfl) dX1_solves_247 ⟨Nat.le_of_ble_eq_true rfl, Nat.le_of_ble_eq_true rfl⟩ (fun H locs hw => ?_)
        replace hJ_52 := fx_gd_e hJ_52
        obtain ⟨h_49, hJ_52⟩ := hJ_52
        obtain ⟨S_50, eS_50⟩ : ∃ z : Sx, z = px_A S_3 27 (upd (gx_A S_3 27) r_5.toNatClampNeg r_47) := ⟨_, rfl⟩
        replace hJ_52 := fx_lt_e eS_50 hJ_52
        refine rsX1_27 eS_50 E hw (fx_in_e h_49) dX1_solves_250 (fun H locs hw => ?_)
        refine lv_aload_n hx hb dX1_solves_251 rfl (lv_at hl 5 rfl) ?_
        refine gX1_27 E hw dX1_solves_252 ?_
        refine lv_iload hx hb dX1_solves_255 (lv_at hl 2 rfl) ?_
        refine lv_iload hx hb dX1_solves_257 (lv_at hl 1 rfl) ?_
        refine lv_aload_n hx hb dX1_solves_259 rfl (lv_at hl 5 rfl) ?_
        refine gX1_27 E hw dX1_solves_260 ?_
        refine lv_iload hx hb dX1_solves_263 (lv_at hl 3 rfl) ?_
        replace hJ_52 := fx_gd_e hJ_52
        obtain ⟨h_51, hJ_52⟩ := hJ_52
        refine raX1_27 E hw (fx_in_e h_51) dX1_solves_265 ?_
        refine lv_ixor hx hb dX1_solves_266 ?_
        replace hJ_52 := fx_gd_e hJ_52
        obtain ⟨h_52, hJ_52⟩ := hJ_52
        obtain ⟨S_53, eS_53⟩ : ∃ z : Sx, z = px_A S_50 27 (upd (gx_A S_50 27) r_29.toNatClampNeg (v_34 ^^^ (gx_A S_50 27 r_5.toNatClampNeg))) := ⟨_, rfl⟩
        replace hJ_52 := fx_lt_e eS_53 hJ_52
        refine rsX1_27 eS_53 E hw (fx_in_e h_52) dX1_solves_267 (fun H locs hw => ?_)
        exact jn_268 S_53 hJ_52 _ _ _ hw (lv_sub hl [5, 6, 7] rfl)
    · replace hJ_52 := fx_tt c_25 hJ_52
      refine lv_aload_n hx hb dX1_solves_78 rfl (lv_at hl 2 rfl) ?_
      refine gX1_27 E hw dX1_solves_79 ?_
      refine lv_iload hx hb dX1_solves_82 (lv_at hl 0 rfl) ?_
      refine lv_iload_n hx hb dX1_solves_84 rfl (lv_at hl 3 rfl) ?_
      refine lv_iload hx hb dX1_solves_85 (lv_at hl 4 rfl) ?_
      replace hJ_52 := fx_b1_e hJ_52
      obtain ⟨r_54, h_55, hJ_52⟩ := hJ_52
      refine cx_cSi (r := r_54) (ws := sC g Rs none im S_3 ++ X) (ws' := sC g Rs none im S_3 ++ X) (As := [.int p3, .int r_1]) (rest := [.int r_5, .ref (Rs 27)]) E (mX1_has l g A (sC g Rs none im S_3 ++ X) p3 r_1 h_55) (kwX1_X1_has E ⟨Nat.le_of_ble_eq_true rfl, Nat.le_of_ble_eq_true rfl⟩) hw rfl hl.1 rfl (Nat.le_of_ble_eq_true rfl) dX1_solves_87 ⟨Nat.le_of_ble_eq_true rfl, Nat.le_of_ble_eq_true rfl⟩ (fun H locs hw => ?_)
      have jn_140 : ∀ (t_56 : Int32) (t_57 : Int32), JX1_solves_n_140 t_56 S_3 t_57 p3 r_1 = some o → ∀ (H : Heap) (locs : List Loc) (ls : Array Slot), cx_W g A s (sC g Rs none im S_3 ++ X) H locs → lv_has ls 10 [(0, .ref (Rs 100)), (3, .int p3), (4, .int r_1)] → W p l e rmX1_solves s m av below meth c H locs 0 0 Q (F0 m 140 ls [.int t_57, .int t_56, .ref (Rs 27)]) := by
        intro t_56 t_57 hJ_140 H locs ls hw hl
        unfold JX1_solves_n_140 at hJ_140
        replace hJ_140 := fx_gd_e hJ_140
        obtain ⟨h_58, hJ_140⟩ := hJ_140
        obtain ⟨S_59, eS_59⟩ : ∃ z : Sx, z = px_A S_3 27 (upd (gx_A S_3 27) t_56.toNatClampNeg t_57) := ⟨_, rfl⟩
        replace hJ_140 := fx_lt_e eS_59 hJ_140
        refine rsX1_27 eS_59 E hw (fx_in_e h_58) dX1_solves_140 (fun H locs hw => ?_)
        refine lv_goto (tgt := 268) hx hb dX1_solves_141 (by decide) ?_
        exact jn_268 S_59 hJ_140 _ _ _ hw hl
      refine lv_if_eq (tgt := 127) hx hb dX1_solves_90 (by decide) (fun c_60 => ?_) (fun c_60 => ?_)
      · replace hJ_52 := fx_tt c_60 hJ_52
        refine lv_aload_n hx hb dX1_solves_127 rfl (lv_at hl 2 rfl) ?_
        refine gX1_27 E hw dX1_solves_128 ?_
        refine lv_iload hx hb dX1_solves_131 (lv_at hl 4 rfl) ?_
        replace hJ_52 := fx_gd_e hJ_52
        obtain ⟨h_61, hJ_52⟩ := hJ_52
        refine raX1_27 E hw (fx_in_e h_61) dX1_solves_133 ?_
        refine lv_aload_n hx hb dX1_solves_134 rfl (lv_at hl 2 rfl) ?_
        refine lv_iload_n hx hb dX1_solves_135 rfl (lv_at hl 3 rfl) ?_
        replace hJ_52 := fx_b1_e hJ_52
        obtain ⟨r_62, h_63, hJ_52⟩ := hJ_52
        refine cx_cVi (r := r_62) (ws := sC g Rs none im S_3 ++ X) (ws' := sC g Rs none im S_3 ++ X) (As := [.int p3]) (rest := [.int (gx_A S_3 27 r_1.toNatClampNeg), .int r_5, .ref (Rs 27)]) E (mX1_sumWithout l g A Rs _ _ _ S_3 p3 h_63) (kwX1_X1_sumWithout E ⟨Nat.le_of_ble_eq_true rfl, Nat.le_of_ble_eq_true rfl⟩) 0 1 rfl rfl rfl hw rfl hl.1 rfl (Nat.le_of_ble_eq_true rfl) dX1_solves_136 ⟨Nat.le_of_ble_eq_true rfl, Nat.le_of_ble_eq_true rfl⟩ (fun H locs hw => ?_)
        refine lv_ixor hx hb dX1_solves_139 ?_
        exact jn_140 r_5 ((gx_A S_3 27 r_1.toNatClampNeg) ^^^ r_62) hJ_52 _ _ _ hw (lv_sub hl [2, 3, 4] rfl)
      · replace hJ_52 := fx_ff c_60 hJ_52
        refine lv_aload_n hx hb dX1_solves_93 rfl (lv_at hl 2 rfl) ?_
        refine gX1_18 E hw dX1_solves_94 ?_
        refine lv_aload_n hx hb dX1_solves_97 rfl (lv_at hl 2 rfl) ?_
        refine gX1_27 E hw dX1_solves_98 ?_
        refine lv_iload hx hb dX1_solves_101 (lv_at hl 4 rfl) ?_
        refine lv_iconst (v := (1 : Int32)) hx hb dX1_solves_103 (by decide) ?_
        refine lv_iadd hx hb dX1_solves_104 ?_
        replace hJ_52 := fx_gd_e hJ_52
        obtain ⟨h_64, hJ_52⟩ := hJ_52
        refine raX1_27 E hw (fx_in_e h_64) dX1_solves_105 ?_
        refine lv_aload_n hx hb dX1_solves_106 rfl (lv_at hl 2 rfl) ?_
        refine lv_iload_n hx hb dX1_solves_107 rfl (lv_at hl 3 rfl) ?_
        replace hJ_52 := fx_b1_e hJ_52
        obtain ⟨r_65, h_66, hJ_52⟩ := hJ_52
        refine cx_cVi (r := r_65) (ws := sC g Rs none im S_3 ++ X) (ws' := sC g Rs none im S_3 ++ X) (As := [.int p3]) (rest := [.int (gx_A S_3 27 (r_1 + (1 : Int32)).toNatClampNeg), .ref (Rs 18), .int r_5, .ref (Rs 27)]) E (mX1_weighedWithout l g A Rs _ _ _ S_3 p3 h_66) (kwX1_X1_weighedWithout E ⟨Nat.le_of_ble_eq_true rfl, Nat.le_of_ble_eq_true rfl⟩) 0 1 rfl rfl rfl hw rfl hl.1 rfl (Nat.le_of_ble_eq_true rfl) dX1_solves_108 ⟨Nat.le_of_ble_eq_true rfl, Nat.le_of_ble_eq_true rfl⟩ (fun H locs hw => ?_)
        refine lv_ixor hx hb dX1_solves_111 ?_
        refine lv_aload_n hx hb dX1_solves_112 rfl (lv_at hl 2 rfl) ?_
        refine gX1_18 E hw dX1_solves_113 ?_
        refine lv_iload hx hb dX1_solves_116 (lv_at hl 0 rfl) ?_
        replace hJ_52 := fx_b1_e hJ_52
        obtain ⟨r_67, h_68, hJ_52⟩ := hJ_52
        refine cx_cVi (r := r_67) (ws := sC g Rs none im S_3 ++ X) (ws' := sC g Rs none im S_3 ++ X) (As := [.int r_5]) (rest := [.int ((gx_A S_3 27 (r_1 + (1 : Int32)).toNatClampNeg) ^^^ r_65), .ref (Rs 18), .int r_5, .ref (Rs 27)]) E (mX3_power l g A Rs _ _ _ S_3 r_5 h_68) (kwX1_X3_power E ⟨Nat.le_of_ble_eq_true rfl, Nat.le_of_ble_eq_true rfl⟩) 16 3 rfl rfl rfl hw rfl hl.1 rfl (Nat.le_of_ble_eq_true rfl) dX1_solves_118 ⟨Nat.le_of_ble_eq_true rfl, Nat.le_of_ble_eq_true rfl⟩ (fun H locs hw => ?_)
        replace hJ_52 := fx_b1_e hJ_52
        obtain ⟨r_69, h_70, hJ_52⟩ := hJ_52
        refine cx_cVi (r := r_69) (ws := sC g Rs none im S_3 ++ X) (ws' := sC g Rs none im S_3 ++ X) (As := [.int ((gx_A S_3 27 (r_1 + (1 : Int32)).toNatClampNeg) ^^^ r_65), .int r_67]) (rest := [.int r_5, .ref (Rs 27)]) E (mX3_over l g A Rs _ _ _ S_3 ((gx_A S_3 27 (r_1 + (1 : Int32)).toNatClampNeg) ^^^ r_65) r_67 h_70) (kwX1_X3_over E ⟨Nat.le_of_ble_eq_true rfl, Nat.le_of_ble_eq_true rfl⟩) 16 3 rfl rfl rfl hw rfl hl.1 rfl (Nat.le_of_ble_eq_true rfl) dX1_solves_121 ⟨Nat.le_of_ble_eq_true rfl, Nat.le_of_ble_eq_true rfl⟩ (fun H locs hw => ?_)
        refine lv_goto (tgt := 140) hx hb dX1_solves_124 (by decide) ?_
        exact jn_140 r_5 r_69 hJ_52 _ _ _ hw (lv_sub hl [2, 3, 4] rfl)
  replace hF := fx_b1_e hF
  obtain ⟨ex_9, hL_9, hF⟩ := hF
  have key_9 : ∀ (n_9 : Nat) (S_71 : Sx) (x5_72 : Int32), fx_lp (LX1_solves_n_9 r_1 p3 p1 p2) n_9 (S_71, x5_72) = some ex_9 → ∀ (H : Heap) (locs : List Loc) (ls : Array Slot), cx_W g A s (sC g Rs none im S_71 ++ X) H locs → lv_has ls 10 [(0, .ref (Rs 100)), (1, .int p1), (2, .int p2), (3, .int p3), (4, .int r_1), (5, .int x5_72)] → W p l e rmX1_solves s m av below meth c H locs 0 0 Q (F0 m 9 ls []) := by
    intro n_9
    induction n_9 with
    | zero => intro S_71 x5_72 hL_9; exact fx_lp_0 hL_9
    | succ n_9 ih_9 =>
      intro S_71 x5_72 hL_9 H locs ls hw hl
      replace hL_9 := fx_lp_s hL_9
      obtain ⟨o_9, hB_9, hO_9⟩ := hL_9
      unfold LX1_solves_n_9 at hB_9
      replace hB_9 := fx_u2_e hB_9
      refine lv_iload hx hb dX1_solves_9 (lv_at hl 5 rfl) ?_
      refine lv_iload hx hb dX1_solves_11 (lv_at hl 4 rfl) ?_
      refine lv_iconst (v := (2 : Int32)) hx hb dX1_solves_13 (by decide) ?_
      refine lv_iadd hx hb dX1_solves_14 ?_
      refine lv_icmp_ge (tgt := 52) hx hb dX1_solves_15 (by decide) (fun c_73 => ?_) (fun c_73 => ?_)
      · replace hB_9 := fx_tt c_73 hB_9
        obtain rfl := fx_ex hB_9 hO_9
        exact jn_52 S_71 hF _ _ _ hw (lv_sub hl [0, 3, 4] rfl)
      · replace hB_9 := fx_ff c_73 hB_9
        refine lv_aload_n hx hb dX1_solves_18 rfl (lv_at hl 0 rfl) ?_
        refine gX1_27 E hw dX1_solves_19 ?_
        refine lv_iload hx hb dX1_solves_22 (lv_at hl 5 rfl) ?_
        refine lv_iload_n hx hb dX1_solves_24 rfl (lv_at hl 3 rfl) ?_
        refine lv_iload hx hb dX1_solves_25 (lv_at hl 5 rfl) ?_
        replace hB_9 := fx_b1_e hB_9
        obtain ⟨r_74, h_75, hB_9⟩ := hB_9
        refine cx_cSi (r := r_74) (ws := sC g Rs none im S_71 ++ X) (ws' := sC g Rs none im S_71 ++ X) (As := [.int p3, .int x5_72]) (rest := [.int x5_72, .ref (Rs 27)]) E (mX1_has l g A (sC g Rs none im S_71 ++ X) p3 x5_72 h_75) (kwX1_X1_has E ⟨Nat.le_of_ble_eq_true rfl, Nat.le_of_ble_eq_true rfl⟩) hw rfl hl.1 rfl (Nat.le_of_ble_eq_true rfl) dX1_solves_27 ⟨Nat.le_of_ble_eq_true rfl, Nat.le_of_ble_eq_true rfl⟩ (fun H locs hw => ?_)
        have jn_45 : ∀ (t_76 : Int32) (t_77 : Int32), JX1_solves_n_45 t_76 S_71 t_77 x5_72 = some o_9 → ∀ (H : Heap) (locs : List Loc) (ls : Array Slot), cx_W g A s (sC g Rs none im S_71 ++ X) H locs → lv_has ls 10 [(0, .ref (Rs 100)), (1, .int p1), (2, .int p2), (3, .int p3), (4, .int r_1), (5, .int x5_72)] → W p l e rmX1_solves s m av below meth c H locs 0 0 Q (F0 m 45 ls [.int t_77, .int t_76, .ref (Rs 27)]) := by
          intro t_76 t_77 hJ_45 H locs ls hw hl
          unfold JX1_solves_n_45 at hJ_45
          replace hJ_45 := fx_gd_e hJ_45
          obtain ⟨h_78, hJ_45⟩ := hJ_45
          obtain ⟨S_79, eS_79⟩ : ∃ z : Sx, z = px_A S_71 27 (upd (gx_A S_71 27) t_76.toNatClampNeg t_77) := ⟨_, rfl⟩
          replace hJ_45 := fx_lt_e eS_79 hJ_45
          refine rsX1_27 eS_79 E hw (fx_in_e h_78) dX1_solves_45 (fun H locs hw => ?_)
          obtain ⟨v_80, ev_80⟩ : ∃ z : Int32, z = x5_72 + (1 : Int32) := ⟨_, rfl⟩
          replace hJ_45 := fx_lt_e ev_80 hJ_45
          refine cx_iinc (z := (1 : Int32)) (v := v_80) hx hb dX1_solves_46 hl (k := 5) rfl (by decide) ev_80 (by decide) rfl (fun ls hl => ?_)
          have hl : lv_has ls 10 [(5, .int v_80), (0, .ref (Rs 100)), (1, .int p1), (2, .int p2), (3, .int p3), (4, .int r_1)] := hl
          refine lv_goto (tgt := 9) hx hb dX1_solves_49 (by decide) ?_
          exact ih_9 S_79 v_80 (fx_bk hJ_45 hO_9) _ _ _ hw (lv_sub hl [1, 2, 3, 4, 5, 0] rfl)
        refine lv_if_eq (tgt := 37) hx hb dX1_solves_30 (by decide) (fun c_81 => ?_) (fun c_81 => ?_)
        · replace hB_9 := fx_tt c_81 hB_9
          refine lv_aload_n hx hb dX1_solves_37 rfl (lv_at hl 0 rfl) ?_
          refine lv_iload_n hx hb dX1_solves_38 rfl (lv_at hl 1 rfl) ?_
          refine lv_iload hx hb dX1_solves_39 (lv_at hl 5 rfl) ?_
          refine lv_iload_n hx hb dX1_solves_41 rfl (lv_at hl 2 rfl) ?_
          replace hB_9 := fx_b1_e hB_9
          obtain ⟨r_82, h_83, hB_9⟩ := hB_9
          refine cx_cVi (r := r_82) (ws := sC g Rs none im S_71 ++ X) (ws' := sC g Rs none im S_71 ++ X) (As := [.int p1, .int x5_72, .int p2]) (rest := [.int x5_72, .ref (Rs 27)]) E (mX1_get_n l g A Rs _ _ S_71 p1 x5_72 p2 h_83) (kwX1_X1_get E ⟨Nat.le_of_ble_eq_true rfl, Nat.le_of_ble_eq_true rfl⟩) 0 1 rfl rfl rfl hw rfl hl.1 rfl (Nat.le_of_ble_eq_true rfl) dX1_solves_42 ⟨Nat.le_of_ble_eq_true rfl, Nat.le_of_ble_eq_true rfl⟩ (fun H locs hw => ?_)
          exact jn_45 x5_72 r_82 hB_9 _ _ _ hw hl
        · replace hB_9 := fx_ff c_81 hB_9
          refine lv_iconst (v := (0 : Int32)) hx hb dX1_solves_33 (by decide) ?_
          refine lv_goto (tgt := 45) hx hb dX1_solves_34 (by decide) ?_
          exact jn_45 x5_72 (0 : Int32) hB_9 _ _ _ hw hl
  exact key_9 _ S (0 : Int32) hL_9 _ _ _ hw (lv_sub hl [2, 3, 4, 5, 1, 0] rfl)
/-! readAt(I)I -/
def FX1_readAt_s (S : Sx) (N : Sx) (p1 : Int32) : Option (Int32 × Sx) :=
  fx_b1 (FX1_lays S p1) (fun S_1 => fx_b1 (FX7_isThere N (gx_I S_1 23) (gx_I S_1 24)) (fun r_3 => if r_3 = 0 then (fx_b1 (FX1_absent_s S_1 N (gx_I S_1 24)) (fun r_6 => fx_b1 (FX1_solves_s S_1 N (gx_I S_1 24) (gx_I S_1 25) r_6) (fun S_8 => fx_gd (fx_in (gx_I S_8 26) 8) (some ((gx_A S_8 27 (gx_I S_8 26).toNatClampNeg), S_8))))) else (fx_b1 (FX1_cellOf (gx_I S_1 23) (gx_I S_1 24) (gx_I S_1 25)) (fun r_11 => fx_gd (fx_in r_11 384) (some ((gx_A N 0 r_11.toNatClampNeg), S_1))))))
set_option maxHeartbeats 4000000 in
set_option maxRecDepth 100000 in
theorem mX1_readAt_s (l : Launch) (g : Gx) (A : Nat → Prop) (Rs Rn : Nat → Nat) (im : Option Nat) (X : va_W) (S : Sx) (N : Sx) (p1 : Int32) {o : Int32 × Sx} (hF : FX1_readAt_s S N p1 = some o) :
    cx_i l yX1_readAt cX1_readAt 2 .int rmX1_readAt [.ref (Rs 100), .int p1] g A (sC g Rs (some (Rn 100)) im S ++ (stC g Rn N ++ X)) o.1 (sC g Rs (some (Rn 100)) im o.2 ++ (stC g Rn N ++ X)) 0 0 := by
  refine cx_i_of (by decide) (Nat.le_of_ble_eq_true rfl) ?_
  intro p e s m av below meth c Q E hret H hw ls hl
  have E : cx_E p m meth c cX1_readAt 2 s av RX1 g A := E
  have hx := E.1.1
  have hb := E.1.2.1
  have hl : lv_has ls 2 [(0, .ref (Rs 100)), (1, .int p1)] := hl
  generalize hlc : ([] : List Loc) = locs at hw ⊢
  clear hlc
  unfold FX1_readAt_s at hF
  refine lv_aload_n hx hb dX1_readAt_0 rfl (lv_at hl 0 rfl) ?_
  refine lv_iload_n hx hb dX1_readAt_1 rfl (lv_at hl 1 rfl) ?_
  replace hF := fx_b1_e hF
  obtain ⟨S_1, h_2, hF⟩ := hF
  refine cx_cVv (ws := sC g Rs (some (Rn 100)) im S ++ (stC g Rn N ++ X)) (ws' := sC g Rs (some (Rn 100)) im S_1 ++ (stC g Rn N ++ X)) (As := [.int p1]) (rest := []) E (mX1_lays l g A Rs _ _ _ S p1 h_2) (kwX1_X1_lays E ⟨Nat.le_of_ble_eq_true rfl, Nat.le_of_ble_eq_true rfl⟩) 0 1 rfl rfl rfl hw rfl hl.1 rfl (Nat.le_of_ble_eq_true rfl) dX1_readAt_2 ⟨Nat.le_of_ble_eq_true rfl, Nat.le_of_ble_eq_true rfl⟩ (fun H locs hw => ?_)
  refine lv_aload_n hx hb dX1_readAt_5 rfl (lv_at hl 0 rfl) ?_
  refine gX1_19s E hw dX1_readAt_6 ?_
  refine lv_aload_n hx hb dX1_readAt_9 rfl (lv_at hl 0 rfl) ?_
  refine gX1_23 E hw dX1_readAt_10 ?_
  refine lv_aload_n hx hb dX1_readAt_13 rfl (lv_at hl 0 rfl) ?_
  refine gX1_24 E hw dX1_readAt_14 ?_
  replace hF := fx_b1_e hF
  obtain ⟨r_3, h_4, hF⟩ := hF
  have hw : cx_W g A s (stC g Rn N ++ (sC g Rs (some (Rn 100)) im S_1 ++ X)) H locs := cx_W.perm hw (List.perm_append_comm_assoc _ _ _)
  refine cx_cVi (r := r_3) (ws := stC g Rn N ++ (sC g Rs (some (Rn 100)) im S_1 ++ X)) (ws' := stC g Rn N ++ (sC g Rs (some (Rn 100)) im S_1 ++ X)) (As := [.int (gx_I S_1 23), .int (gx_I S_1 24)]) (rest := []) E (mX7_isThere l g A Rn _ N (gx_I S_1 23) (gx_I S_1 24) h_4) (kwX1_X7_isThere E ⟨Nat.le_of_ble_eq_true rfl, Nat.le_of_ble_eq_true rfl⟩) 0 2 rfl rfl rfl hw rfl hl.1 rfl (Nat.le_of_ble_eq_true rfl) dX1_readAt_17 ⟨Nat.le_of_ble_eq_true rfl, Nat.le_of_ble_eq_true rfl⟩ (fun H locs hw => ?_)
  have hw : cx_W g A s (sC g Rs (some (Rn 100)) im S_1 ++ (stC g Rn N ++ X)) H locs := cx_W.perm hw (List.perm_append_comm_assoc _ _ _)
  refine lv_if_eq (tgt := 47) hx hb dX1_readAt_20 (by decide) (fun c_5 => ?_) (fun c_5 => ?_)
  · replace hF := fx_tt c_5 hF
    refine lv_aload_n hx hb dX1_readAt_47 rfl (lv_at hl 0 rfl) ?_
    refine lv_aload_n hx hb dX1_readAt_48 rfl (lv_at hl 0 rfl) ?_
    refine gX1_24 E hw dX1_readAt_49 ?_
    refine lv_aload_n hx hb dX1_readAt_52 rfl (lv_at hl 0 rfl) ?_
    refine gX1_25 E hw dX1_readAt_53 ?_
    refine lv_aload_n hx hb dX1_readAt_56 rfl (lv_at hl 0 rfl) ?_
    refine lv_aload_n hx hb dX1_readAt_57 rfl (lv_at hl 0 rfl) ?_
    refine gX1_24 E hw dX1_readAt_58 ?_
    replace hF := fx_b1_e hF
    obtain ⟨r_6, h_7, hF⟩ := hF
    refine cx_cVi (r := r_6) (ws := sC g Rs (some (Rn 100)) im S_1 ++ (stC g Rn N ++ X)) (ws' := sC g Rs (some (Rn 100)) im S_1 ++ (stC g Rn N ++ X)) (As := [.int (gx_I S_1 24)]) (rest := [.int (gx_I S_1 25), .int (gx_I S_1 24), .ref (Rs 100)]) E (mX1_absent_s l g A Rs Rn _ _ S_1 N (gx_I S_1 24) h_7) (kwX1_X1_absent E ⟨Nat.le_of_ble_eq_true rfl, Nat.le_of_ble_eq_true rfl⟩) 0 1 rfl rfl rfl hw rfl hl.1 rfl (Nat.le_of_ble_eq_true rfl) dX1_readAt_61 ⟨Nat.le_of_ble_eq_true rfl, Nat.le_of_ble_eq_true rfl⟩ (fun H locs hw => ?_)
    replace hF := fx_b1_e hF
    obtain ⟨S_8, h_9, hF⟩ := hF
    refine cx_cVv (ws := sC g Rs (some (Rn 100)) im S_1 ++ (stC g Rn N ++ X)) (ws' := sC g Rs (some (Rn 100)) im S_8 ++ (stC g Rn N ++ X)) (As := [.int (gx_I S_1 24), .int (gx_I S_1 25), .int r_6]) (rest := []) E (mX1_solves_s l g A Rs Rn _ _ S_1 N (gx_I S_1 24) (gx_I S_1 25) r_6 h_9) (kwX1_X1_solves E ⟨Nat.le_of_ble_eq_true rfl, Nat.le_of_ble_eq_true rfl⟩) 0 1 rfl rfl rfl hw rfl hl.1 rfl (Nat.le_of_ble_eq_true rfl) dX1_readAt_64 ⟨Nat.le_of_ble_eq_true rfl, Nat.le_of_ble_eq_true rfl⟩ (fun H locs hw => ?_)
    refine lv_aload_n hx hb dX1_readAt_67 rfl (lv_at hl 0 rfl) ?_
    refine gX1_27 E hw dX1_readAt_68 ?_
    refine lv_aload_n hx hb dX1_readAt_71 rfl (lv_at hl 0 rfl) ?_
    refine gX1_26 E hw dX1_readAt_72 ?_
    replace hF := fx_gd_e hF
    obtain ⟨h_10, hF⟩ := hF
    refine raX1_27 E hw (fx_in_e h_10) dX1_readAt_75 ?_
    obtain rfl := Option.some.inj hF
    exact hret _ _ _ _ _ rfl rfl hw dX1_readAt_76
  · replace hF := fx_ff c_5 hF
    refine lv_aload_n hx hb dX1_readAt_23 rfl (lv_at hl 0 rfl) ?_
    refine gX1_19s E hw dX1_readAt_24 ?_
    refine gNX7_0 E hw dX1_readAt_27 ?_
    refine lv_aload_n hx hb dX1_readAt_30 rfl (lv_at hl 0 rfl) ?_
    refine gX1_23 E hw dX1_readAt_31 ?_
    refine lv_aload_n hx hb dX1_readAt_34 rfl (lv_at hl 0 rfl) ?_
    refine gX1_24 E hw dX1_readAt_35 ?_
    refine lv_aload_n hx hb dX1_readAt_38 rfl (lv_at hl 0 rfl) ?_
    refine gX1_25 E hw dX1_readAt_39 ?_
    replace hF := fx_b1_e hF
    obtain ⟨r_11, h_12, hF⟩ := hF
    refine cx_cSi (r := r_11) (ws := sC g Rs (some (Rn 100)) im S_1 ++ (stC g Rn N ++ X)) (ws' := sC g Rs (some (Rn 100)) im S_1 ++ (stC g Rn N ++ X)) (As := [.int (gx_I S_1 23), .int (gx_I S_1 24), .int (gx_I S_1 25)]) (rest := [.ref (Rn 0)]) E (mX1_cellOf l g A (sC g Rs (some (Rn 100)) im S_1 ++ (stC g Rn N ++ X)) (gx_I S_1 23) (gx_I S_1 24) (gx_I S_1 25) h_12) (kwX1_X1_cellOf E ⟨Nat.le_of_ble_eq_true rfl, Nat.le_of_ble_eq_true rfl⟩) hw rfl hl.1 rfl (Nat.le_of_ble_eq_true rfl) dX1_readAt_42 ⟨Nat.le_of_ble_eq_true rfl, Nat.le_of_ble_eq_true rfl⟩ (fun H locs hw => ?_)
    replace hF := fx_gd_e hF
    obtain ⟨h_13, hF⟩ := hF
    refine raX7_0 E hw (fx_in_e h_13) dX1_readAt_45 ?_
    obtain rfl := Option.some.inj hF
    exact hret _ _ _ _ _ rfl rfl hw dX1_readAt_46
/-! readAt(I)I -/
def FX1_readAt_n (S : Sx) (p1 : Int32) : Option (Int32 × Sx) :=
  fx_b1 (FX1_lays S p1) (fun S_1 => none)
set_option maxHeartbeats 4000000 in
set_option maxRecDepth 100000 in
theorem mX1_readAt_n (l : Launch) (g : Gx) (A : Nat → Prop) (Rs : Nat → Nat) (im : Option Nat) (X : va_W) (S : Sx) (p1 : Int32) {o : Int32 × Sx} (hF : FX1_readAt_n S p1 = some o) :
    cx_i l yX1_readAt cX1_readAt 2 .int rmX1_readAt [.ref (Rs 100), .int p1] g A (sC g Rs none im S ++ X) o.1 (sC g Rs none im o.2 ++ X) 0 0 := by
  refine cx_i_of (by decide) (Nat.le_of_ble_eq_true rfl) ?_
  intro p e s m av below meth c Q E hret H hw ls hl
  have E : cx_E p m meth c cX1_readAt 2 s av RX1 g A := E
  have hx := E.1.1
  have hb := E.1.2.1
  have hl : lv_has ls 2 [(0, .ref (Rs 100)), (1, .int p1)] := hl
  generalize hlc : ([] : List Loc) = locs at hw ⊢
  clear hlc
  unfold FX1_readAt_n at hF
  refine lv_aload_n hx hb dX1_readAt_0 rfl (lv_at hl 0 rfl) ?_
  refine lv_iload_n hx hb dX1_readAt_1 rfl (lv_at hl 1 rfl) ?_
  replace hF := fx_b1_e hF
  obtain ⟨S_1, h_2, hF⟩ := hF
  refine cx_cVv (ws := sC g Rs none im S ++ X) (ws' := sC g Rs none im S_1 ++ X) (As := [.int p1]) (rest := []) E (mX1_lays l g A Rs _ _ _ S p1 h_2) (kwX1_X1_lays E ⟨Nat.le_of_ble_eq_true rfl, Nat.le_of_ble_eq_true rfl⟩) 0 1 rfl rfl rfl hw rfl hl.1 rfl (Nat.le_of_ble_eq_true rfl) dX1_readAt_2 ⟨Nat.le_of_ble_eq_true rfl, Nat.le_of_ble_eq_true rfl⟩ (fun H locs hw => ?_)
  refine lv_aload_n hx hb dX1_readAt_5 rfl (lv_at hl 0 rfl) ?_
  refine gX1_19n E hw dX1_readAt_6 ?_
  refine lv_aload_n hx hb dX1_readAt_9 rfl (lv_at hl 0 rfl) ?_
  refine gX1_23 E hw dX1_readAt_10 ?_
  refine lv_aload_n hx hb dX1_readAt_13 rfl (lv_at hl 0 rfl) ?_
  refine gX1_24 E hw dX1_readAt_14 ?_
  exact fx_no hF
/-! thereOf(II)I -/
def FX1_thereOf_s (S : Sx) (N : Sx) (p1 : Int32) (p2 : Int32) : Option Int32 :=
  fx_b1 (FX1_isThere_s S N p1 p2) (fun r_1 => if r_1 = 0 then (some (0 : Int32)) else (some (1 : Int32)))
set_option maxHeartbeats 4000000 in
set_option maxRecDepth 100000 in
theorem mX1_thereOf_s (l : Launch) (g : Gx) (A : Nat → Prop) (Rs Rn : Nat → Nat) (im : Option Nat) (X : va_W) (S : Sx) (N : Sx) (p1 : Int32) (p2 : Int32) {o : Int32} (hF : FX1_thereOf_s S N p1 p2 = some o) :
    cx_i l yX1_thereOf cX1_thereOf 3 .int rmX1_thereOf [.ref (Rs 100), .int p1, .int p2] g A (sC g Rs (some (Rn 100)) im S ++ (stC g Rn N ++ X)) o (sC g Rs (some (Rn 100)) im S ++ (stC g Rn N ++ X)) 0 0 := by
  refine cx_i_of (by decide) (Nat.le_of_ble_eq_true rfl) ?_
  intro p e s m av below meth c Q E hret H hw ls hl
  have E : cx_E p m meth c cX1_thereOf 3 s av RX1 g A := E
  have hx := E.1.1
  have hb := E.1.2.1
  have hl : lv_has ls 3 [(0, .ref (Rs 100)), (1, .int p1), (2, .int p2)] := hl
  generalize hlc : ([] : List Loc) = locs at hw ⊢
  clear hlc
  unfold FX1_thereOf_s at hF
  refine lv_aload_n hx hb dX1_thereOf_0 rfl (lv_at hl 0 rfl) ?_
  refine lv_iload_n hx hb dX1_thereOf_1 rfl (lv_at hl 1 rfl) ?_
  refine lv_iload_n hx hb dX1_thereOf_2 rfl (lv_at hl 2 rfl) ?_
  replace hF := fx_b1_e hF
  obtain ⟨r_1, h_2, hF⟩ := hF
  refine cx_cVi (r := r_1) (ws := sC g Rs (some (Rn 100)) im S ++ (stC g Rn N ++ X)) (ws' := sC g Rs (some (Rn 100)) im S ++ (stC g Rn N ++ X)) (As := [.int p1, .int p2]) (rest := []) E (mX1_isThere_s l g A Rs Rn _ _ S N p1 p2 h_2) (kwX1_X1_isThere E ⟨Nat.le_of_ble_eq_true rfl, Nat.le_of_ble_eq_true rfl⟩) 0 1 rfl rfl rfl hw rfl hl.1 rfl (Nat.le_of_ble_eq_true rfl) dX1_thereOf_3 ⟨Nat.le_of_ble_eq_true rfl, Nat.le_of_ble_eq_true rfl⟩ (fun H locs hw => ?_)
  refine lv_if_eq (tgt := 13) hx hb dX1_thereOf_6 (by decide) (fun c_3 => ?_) (fun c_3 => ?_)
  · replace hF := fx_tt c_3 hF
    refine lv_iconst (v := (0 : Int32)) hx hb dX1_thereOf_13 (by decide) ?_
    obtain rfl := Option.some.inj hF
    exact hret _ _ _ _ _ rfl rfl hw dX1_thereOf_14
  · replace hF := fx_ff c_3 hF
    refine lv_iconst (v := (1 : Int32)) hx hb dX1_thereOf_9 (by decide) ?_
    refine lv_goto (tgt := 14) hx hb dX1_thereOf_10 (by decide) ?_
    obtain rfl := Option.some.inj hF
    exact hret _ _ _ _ _ rfl rfl hw dX1_thereOf_14
/-! thereOf(II)I -/
def FX1_thereOf_n (S : Sx) (p1 : Int32) (p2 : Int32) : Option Int32 :=
  fx_b1 (FX1_isThere_n S p1 p2) (fun r_1 => if r_1 = 0 then (some (0 : Int32)) else (some (1 : Int32)))
set_option maxHeartbeats 4000000 in
set_option maxRecDepth 100000 in
theorem mX1_thereOf_n (l : Launch) (g : Gx) (A : Nat → Prop) (Rs : Nat → Nat) (im : Option Nat) (X : va_W) (S : Sx) (p1 : Int32) (p2 : Int32) {o : Int32} (hF : FX1_thereOf_n S p1 p2 = some o) :
    cx_i l yX1_thereOf cX1_thereOf 3 .int rmX1_thereOf [.ref (Rs 100), .int p1, .int p2] g A (sC g Rs none im S ++ X) o (sC g Rs none im S ++ X) 0 0 := by
  refine cx_i_of (by decide) (Nat.le_of_ble_eq_true rfl) ?_
  intro p e s m av below meth c Q E hret H hw ls hl
  have E : cx_E p m meth c cX1_thereOf 3 s av RX1 g A := E
  have hx := E.1.1
  have hb := E.1.2.1
  have hl : lv_has ls 3 [(0, .ref (Rs 100)), (1, .int p1), (2, .int p2)] := hl
  generalize hlc : ([] : List Loc) = locs at hw ⊢
  clear hlc
  unfold FX1_thereOf_n at hF
  refine lv_aload_n hx hb dX1_thereOf_0 rfl (lv_at hl 0 rfl) ?_
  refine lv_iload_n hx hb dX1_thereOf_1 rfl (lv_at hl 1 rfl) ?_
  refine lv_iload_n hx hb dX1_thereOf_2 rfl (lv_at hl 2 rfl) ?_
  replace hF := fx_b1_e hF
  obtain ⟨r_1, h_2, hF⟩ := hF
  refine cx_cVi (r := r_1) (ws := sC g Rs none im S ++ X) (ws' := sC g Rs none im S ++ X) (As := [.int p1, .int p2]) (rest := []) E (mX1_isThere_n l g A Rs _ _ S p1 p2 h_2) (kwX1_X1_isThere E ⟨Nat.le_of_ble_eq_true rfl, Nat.le_of_ble_eq_true rfl⟩) 0 1 rfl rfl rfl hw rfl hl.1 rfl (Nat.le_of_ble_eq_true rfl) dX1_thereOf_3 ⟨Nat.le_of_ble_eq_true rfl, Nat.le_of_ble_eq_true rfl⟩ (fun H locs hw => ?_)
  refine lv_if_eq (tgt := 13) hx hb dX1_thereOf_6 (by decide) (fun c_3 => ?_) (fun c_3 => ?_)
  · replace hF := fx_tt c_3 hF
    refine lv_iconst (v := (0 : Int32)) hx hb dX1_thereOf_13 (by decide) ?_
    obtain rfl := Option.some.inj hF
    exact hret _ _ _ _ _ rfl rfl hw dX1_thereOf_14
  · replace hF := fx_ff c_3 hF
    refine lv_iconst (v := (1 : Int32)) hx hb dX1_thereOf_9 (by decide) ?_
    refine lv_goto (tgt := 14) hx hb dX1_thereOf_10 (by decide) ?_
    obtain rfl := Option.some.inj hF
    exact hret _ _ _ _ _ rfl rfl hw dX1_thereOf_14
/-! read(II)I -/
def FX7_read (N : Sx) (p1 : Int32) (p2 : Int32) : Option (Int32 × Sx) :=
  fx_gd (fx_in p1 8) (fx_gd (fx_in p1 8) (fx_lt (px_A N 3 (upd (gx_A N 3) p1.toNatClampNeg ((gx_A N 3 p1.toNatClampNeg) + p2))) (fun N_3 => some (p2, N_3))))
set_option maxHeartbeats 4000000 in
set_option maxRecDepth 100000 in
theorem mX7_read (l : Launch) (g : Gx) (A : Nat → Prop) (Rn : Nat → Nat) (X : va_W) (N : Sx) (p1 : Int32) (p2 : Int32) {o : Int32 × Sx} (hF : FX7_read N p1 p2 = some o) :
    cx_i l yX7_read cX7_read 3 .int rmX7_read [.ref (Rn 100), .int p1, .int p2] g A (stC g Rn N ++ X) o.1 (stC g Rn o.2 ++ X) 0 0 := by
  refine cx_i_of (by decide) (Nat.le_of_ble_eq_true rfl) ?_
  intro p e s m av below meth c Q E hret H hw ls hl
  have E : cx_E p m meth c cX7_read 3 s av RX7 g A := E
  have hx := E.1.1
  have hb := E.1.2.1
  have hl : lv_has ls 3 [(0, .ref (Rn 100)), (1, .int p1), (2, .int p2)] := hl
  generalize hlc : ([] : List Loc) = locs at hw ⊢
  clear hlc
  unfold FX7_read at hF
  refine lv_aload_n hx hb dX7_read_0 rfl (lv_at hl 0 rfl) ?_
  refine gY7_3 E hw dX7_read_1 ?_
  refine lv_iload_n hx hb dX7_read_4 rfl (lv_at hl 1 rfl) ?_
  refine lv_dup2_11 hx hb dX7_read_5 rfl rfl ?_
  replace hF := fx_gd_e hF
  obtain ⟨h_1, hF⟩ := hF
  refine raY7_3 E hw (fx_in_e h_1) dX7_read_6 ?_
  refine lv_iload_n hx hb dX7_read_7 rfl (lv_at hl 2 rfl) ?_
  refine lv_iadd hx hb dX7_read_8 ?_
  replace hF := fx_gd_e hF
  obtain ⟨h_2, hF⟩ := hF
  obtain ⟨N_3, eN_3⟩ : ∃ z : Sx, z = px_A N 3 (upd (gx_A N 3) p1.toNatClampNeg ((gx_A N 3 p1.toNatClampNeg) + p2)) := ⟨_, rfl⟩
  replace hF := fx_lt_e eN_3 hF
  refine rsY7_3 eN_3 E hw (fx_in_e h_2) dX7_read_9 (fun H locs hw => ?_)
  refine lv_iload_n hx hb dX7_read_10 rfl (lv_at hl 2 rfl) ?_
  obtain rfl := Option.some.inj hF
  exact hret _ _ _ _ _ rfl rfl hw dX7_read_11
/-! readOf(II)I -/
def FX1_readOf_s (S : Sx) (N : Sx) (p1 : Int32) (p2 : Int32) : Option (Int32 × Sx) :=
  fx_b1 (FX1_diskOf S p1 p2) (fun r_1 => fx_b1 (FX1_thereOf_s S N p1 p2) (fun r_3 => fx_b2 (FX7_read N r_1 r_3) (fun r_5 N_6 => some (r_5, N_6))))
set_option maxHeartbeats 4000000 in
set_option maxRecDepth 100000 in
theorem mX1_readOf_s (l : Launch) (g : Gx) (A : Nat → Prop) (Rs Rn : Nat → Nat) (im : Option Nat) (X : va_W) (S : Sx) (N : Sx) (p1 : Int32) (p2 : Int32) {o : Int32 × Sx} (hF : FX1_readOf_s S N p1 p2 = some o) :
    cx_i l yX1_readOf cX1_readOf 3 .int rmX1_readOf [.ref (Rs 100), .int p1, .int p2] g A (sC g Rs (some (Rn 100)) im S ++ (stC g Rn N ++ X)) o.1 (sC g Rs (some (Rn 100)) im S ++ (stC g Rn o.2 ++ X)) 0 0 := by
  refine cx_i_of (by decide) (Nat.le_of_ble_eq_true rfl) ?_
  intro p e s m av below meth c Q E hret H hw ls hl
  have E : cx_E p m meth c cX1_readOf 3 s av RX1 g A := E
  have hx := E.1.1
  have hb := E.1.2.1
  have hl : lv_has ls 3 [(0, .ref (Rs 100)), (1, .int p1), (2, .int p2)] := hl
  generalize hlc : ([] : List Loc) = locs at hw ⊢
  clear hlc
  unfold FX1_readOf_s at hF
  refine lv_aload_n hx hb dX1_readOf_0 rfl (lv_at hl 0 rfl) ?_
  refine gX1_19s E hw dX1_readOf_1 ?_
  refine lv_aload_n hx hb dX1_readOf_4 rfl (lv_at hl 0 rfl) ?_
  refine lv_iload_n hx hb dX1_readOf_5 rfl (lv_at hl 1 rfl) ?_
  refine lv_iload_n hx hb dX1_readOf_6 rfl (lv_at hl 2 rfl) ?_
  replace hF := fx_b1_e hF
  obtain ⟨r_1, h_2, hF⟩ := hF
  refine cx_cVi (r := r_1) (ws := sC g Rs (some (Rn 100)) im S ++ (stC g Rn N ++ X)) (ws' := sC g Rs (some (Rn 100)) im S ++ (stC g Rn N ++ X)) (As := [.int p1, .int p2]) (rest := [.ref (Rn 100)]) E (mX1_diskOf l g A Rs _ _ _ S p1 p2 h_2) (kwX1_X1_diskOf E ⟨Nat.le_of_ble_eq_true rfl, Nat.le_of_ble_eq_true rfl⟩) 0 1 rfl rfl rfl hw rfl hl.1 rfl (Nat.le_of_ble_eq_true rfl) dX1_readOf_7 ⟨Nat.le_of_ble_eq_true rfl, Nat.le_of_ble_eq_true rfl⟩ (fun H locs hw => ?_)
  refine lv_aload_n hx hb dX1_readOf_10 rfl (lv_at hl 0 rfl) ?_
  refine lv_iload_n hx hb dX1_readOf_11 rfl (lv_at hl 1 rfl) ?_
  refine lv_iload_n hx hb dX1_readOf_12 rfl (lv_at hl 2 rfl) ?_
  replace hF := fx_b1_e hF
  obtain ⟨r_3, h_4, hF⟩ := hF
  refine cx_cVi (r := r_3) (ws := sC g Rs (some (Rn 100)) im S ++ (stC g Rn N ++ X)) (ws' := sC g Rs (some (Rn 100)) im S ++ (stC g Rn N ++ X)) (As := [.int p1, .int p2]) (rest := [.int r_1, .ref (Rn 100)]) E (mX1_thereOf_s l g A Rs Rn _ _ S N p1 p2 h_4) (kwX1_X1_thereOf E ⟨Nat.le_of_ble_eq_true rfl, Nat.le_of_ble_eq_true rfl⟩) 0 1 rfl rfl rfl hw rfl hl.1 rfl (Nat.le_of_ble_eq_true rfl) dX1_readOf_13 ⟨Nat.le_of_ble_eq_true rfl, Nat.le_of_ble_eq_true rfl⟩ (fun H locs hw => ?_)
  replace hF := fx_b2_e hF
  obtain ⟨r_5, N_6, h_7, hF⟩ := hF
  have hw : cx_W g A s (stC g Rn N ++ (sC g Rs (some (Rn 100)) im S ++ X)) H locs := cx_W.perm hw (List.perm_append_comm_assoc _ _ _)
  refine cx_cVi (r := r_5) (ws := stC g Rn N ++ (sC g Rs (some (Rn 100)) im S ++ X)) (ws' := stC g Rn N_6 ++ (sC g Rs (some (Rn 100)) im S ++ X)) (As := [.int r_1, .int r_3]) (rest := []) E (mX7_read l g A Rn _ N r_1 r_3 h_7) (kwX1_X7_read E ⟨Nat.le_of_ble_eq_true rfl, Nat.le_of_ble_eq_true rfl⟩) 0 2 rfl rfl rfl hw rfl hl.1 rfl (Nat.le_of_ble_eq_true rfl) dX1_readOf_16 ⟨Nat.le_of_ble_eq_true rfl, Nat.le_of_ble_eq_true rfl⟩ (fun H locs hw => ?_)
  have hw : cx_W g A s (sC g Rs (some (Rn 100)) im S ++ (stC g Rn N_6 ++ X)) H locs := cx_W.perm hw (List.perm_append_comm_assoc _ _ _)
  obtain rfl := Option.some.inj hF
  exact hret _ _ _ _ _ rfl rfl hw dX1_readOf_19
/-! readOf(II)I -/
def FX1_readOf_n (S : Sx) (p1 : Int32) (p2 : Int32) : Option Int32 :=
  fx_b1 (FX1_diskOf S p1 p2) (fun r_1 => fx_b1 (FX1_thereOf_n S p1 p2) (fun r_3 => none))
set_option maxHeartbeats 4000000 in
set_option maxRecDepth 100000 in
theorem mX1_readOf_n (l : Launch) (g : Gx) (A : Nat → Prop) (Rs : Nat → Nat) (im : Option Nat) (X : va_W) (S : Sx) (p1 : Int32) (p2 : Int32) {o : Int32} (hF : FX1_readOf_n S p1 p2 = some o) :
    cx_i l yX1_readOf cX1_readOf 3 .int rmX1_readOf [.ref (Rs 100), .int p1, .int p2] g A (sC g Rs none im S ++ X) o (sC g Rs none im S ++ X) 0 0 := by
  refine cx_i_of (by decide) (Nat.le_of_ble_eq_true rfl) ?_
  intro p e s m av below meth c Q E hret H hw ls hl
  have E : cx_E p m meth c cX1_readOf 3 s av RX1 g A := E
  have hx := E.1.1
  have hb := E.1.2.1
  have hl : lv_has ls 3 [(0, .ref (Rs 100)), (1, .int p1), (2, .int p2)] := hl
  generalize hlc : ([] : List Loc) = locs at hw ⊢
  clear hlc
  unfold FX1_readOf_n at hF
  refine lv_aload_n hx hb dX1_readOf_0 rfl (lv_at hl 0 rfl) ?_
  refine gX1_19n E hw dX1_readOf_1 ?_
  refine lv_aload_n hx hb dX1_readOf_4 rfl (lv_at hl 0 rfl) ?_
  refine lv_iload_n hx hb dX1_readOf_5 rfl (lv_at hl 1 rfl) ?_
  refine lv_iload_n hx hb dX1_readOf_6 rfl (lv_at hl 2 rfl) ?_
  replace hF := fx_b1_e hF
  obtain ⟨r_1, h_2, hF⟩ := hF
  refine cx_cVi (r := r_1) (ws := sC g Rs none im S ++ X) (ws' := sC g Rs none im S ++ X) (As := [.int p1, .int p2]) (rest := [.null]) E (mX1_diskOf l g A Rs _ _ _ S p1 p2 h_2) (kwX1_X1_diskOf E ⟨Nat.le_of_ble_eq_true rfl, Nat.le_of_ble_eq_true rfl⟩) 0 1 rfl rfl rfl hw rfl hl.1 rfl (Nat.le_of_ble_eq_true rfl) dX1_readOf_7 ⟨Nat.le_of_ble_eq_true rfl, Nat.le_of_ble_eq_true rfl⟩ (fun H locs hw => ?_)
  refine lv_aload_n hx hb dX1_readOf_10 rfl (lv_at hl 0 rfl) ?_
  refine lv_iload_n hx hb dX1_readOf_11 rfl (lv_at hl 1 rfl) ?_
  refine lv_iload_n hx hb dX1_readOf_12 rfl (lv_at hl 2 rfl) ?_
  replace hF := fx_b1_e hF
  obtain ⟨r_3, h_4, hF⟩ := hF
  refine cx_cVi (r := r_3) (ws := sC g Rs none im S ++ X) (ws' := sC g Rs none im S ++ X) (As := [.int p1, .int p2]) (rest := [.int r_1, .null]) E (mX1_thereOf_n l g A Rs _ _ S p1 p2 h_4) (kwX1_X1_thereOf E ⟨Nat.le_of_ble_eq_true rfl, Nat.le_of_ble_eq_true rfl⟩) 0 1 rfl rfl rfl hw rfl hl.1 rfl (Nat.le_of_ble_eq_true rfl) dX1_readOf_13 ⟨Nat.le_of_ble_eq_true rfl, Nat.le_of_ble_eq_true rfl⟩ (fun H locs hw => ?_)
  exact fx_no hF
/-! written(II)I -/
def FX7_written (N : Sx) (p1 : Int32) (p2 : Int32) : Option (Int32 × Sx) :=
  fx_gd (fx_in p1 8) (fx_gd (fx_in p1 8) (fx_lt (px_A N 4 (upd (gx_A N 4) p1.toNatClampNeg ((gx_A N 4 p1.toNatClampNeg) + p2))) (fun N_3 => some (p2, N_3))))
set_option maxHeartbeats 4000000 in
set_option maxRecDepth 100000 in
theorem mX7_written (l : Launch) (g : Gx) (A : Nat → Prop) (Rn : Nat → Nat) (X : va_W) (N : Sx) (p1 : Int32) (p2 : Int32) {o : Int32 × Sx} (hF : FX7_written N p1 p2 = some o) :
    cx_i l yX7_written cX7_written 3 .int rmX7_written [.ref (Rn 100), .int p1, .int p2] g A (stC g Rn N ++ X) o.1 (stC g Rn o.2 ++ X) 0 0 := by
  refine cx_i_of (by decide) (Nat.le_of_ble_eq_true rfl) ?_
  intro p e s m av below meth c Q E hret H hw ls hl
  have E : cx_E p m meth c cX7_written 3 s av RX7 g A := E
  have hx := E.1.1
  have hb := E.1.2.1
  have hl : lv_has ls 3 [(0, .ref (Rn 100)), (1, .int p1), (2, .int p2)] := hl
  generalize hlc : ([] : List Loc) = locs at hw ⊢
  clear hlc
  unfold FX7_written at hF
  refine lv_aload_n hx hb dX7_written_0 rfl (lv_at hl 0 rfl) ?_
  refine gY7_4 E hw dX7_written_1 ?_
  refine lv_iload_n hx hb dX7_written_4 rfl (lv_at hl 1 rfl) ?_
  refine lv_dup2_11 hx hb dX7_written_5 rfl rfl ?_
  replace hF := fx_gd_e hF
  obtain ⟨h_1, hF⟩ := hF
  refine raY7_4 E hw (fx_in_e h_1) dX7_written_6 ?_
  refine lv_iload_n hx hb dX7_written_7 rfl (lv_at hl 2 rfl) ?_
  refine lv_iadd hx hb dX7_written_8 ?_
  replace hF := fx_gd_e hF
  obtain ⟨h_2, hF⟩ := hF
  obtain ⟨N_3, eN_3⟩ : ∃ z : Sx, z = px_A N 4 (upd (gx_A N 4) p1.toNatClampNeg ((gx_A N 4 p1.toNatClampNeg) + p2)) := ⟨_, rfl⟩
  replace hF := fx_lt_e eN_3 hF
  refine rsY7_4 eN_3 E hw (fx_in_e h_2) dX7_written_9 (fun H locs hw => ?_)
  refine lv_iload_n hx hb dX7_written_10 rfl (lv_at hl 2 rfl) ?_
  obtain rfl := Option.some.inj hF
  exact hret _ _ _ _ _ rfl rfl hw dX7_written_11
/-! writeOf(II)I -/
def FX1_writeOf_s (S : Sx) (N : Sx) (p1 : Int32) (p2 : Int32) : Option (Int32 × Sx) :=
  fx_b1 (FX1_diskOf S p1 p2) (fun r_1 => fx_b1 (FX1_thereOf_s S N p1 p2) (fun r_3 => fx_b2 (FX7_written N r_1 r_3) (fun r_5 N_6 => some (r_5, N_6))))
set_option maxHeartbeats 4000000 in
set_option maxRecDepth 100000 in
theorem mX1_writeOf_s (l : Launch) (g : Gx) (A : Nat → Prop) (Rs Rn : Nat → Nat) (im : Option Nat) (X : va_W) (S : Sx) (N : Sx) (p1 : Int32) (p2 : Int32) {o : Int32 × Sx} (hF : FX1_writeOf_s S N p1 p2 = some o) :
    cx_i l yX1_writeOf cX1_writeOf 3 .int rmX1_writeOf [.ref (Rs 100), .int p1, .int p2] g A (sC g Rs (some (Rn 100)) im S ++ (stC g Rn N ++ X)) o.1 (sC g Rs (some (Rn 100)) im S ++ (stC g Rn o.2 ++ X)) 0 0 := by
  refine cx_i_of (by decide) (Nat.le_of_ble_eq_true rfl) ?_
  intro p e s m av below meth c Q E hret H hw ls hl
  have E : cx_E p m meth c cX1_writeOf 3 s av RX1 g A := E
  have hx := E.1.1
  have hb := E.1.2.1
  have hl : lv_has ls 3 [(0, .ref (Rs 100)), (1, .int p1), (2, .int p2)] := hl
  generalize hlc : ([] : List Loc) = locs at hw ⊢
  clear hlc
  unfold FX1_writeOf_s at hF
  refine lv_aload_n hx hb dX1_writeOf_0 rfl (lv_at hl 0 rfl) ?_
  refine gX1_19s E hw dX1_writeOf_1 ?_
  refine lv_aload_n hx hb dX1_writeOf_4 rfl (lv_at hl 0 rfl) ?_
  refine lv_iload_n hx hb dX1_writeOf_5 rfl (lv_at hl 1 rfl) ?_
  refine lv_iload_n hx hb dX1_writeOf_6 rfl (lv_at hl 2 rfl) ?_
  replace hF := fx_b1_e hF
  obtain ⟨r_1, h_2, hF⟩ := hF
  refine cx_cVi (r := r_1) (ws := sC g Rs (some (Rn 100)) im S ++ (stC g Rn N ++ X)) (ws' := sC g Rs (some (Rn 100)) im S ++ (stC g Rn N ++ X)) (As := [.int p1, .int p2]) (rest := [.ref (Rn 100)]) E (mX1_diskOf l g A Rs _ _ _ S p1 p2 h_2) (kwX1_X1_diskOf E ⟨Nat.le_of_ble_eq_true rfl, Nat.le_of_ble_eq_true rfl⟩) 0 1 rfl rfl rfl hw rfl hl.1 rfl (Nat.le_of_ble_eq_true rfl) dX1_writeOf_7 ⟨Nat.le_of_ble_eq_true rfl, Nat.le_of_ble_eq_true rfl⟩ (fun H locs hw => ?_)
  refine lv_aload_n hx hb dX1_writeOf_10 rfl (lv_at hl 0 rfl) ?_
  refine lv_iload_n hx hb dX1_writeOf_11 rfl (lv_at hl 1 rfl) ?_
  refine lv_iload_n hx hb dX1_writeOf_12 rfl (lv_at hl 2 rfl) ?_
  replace hF := fx_b1_e hF
  obtain ⟨r_3, h_4, hF⟩ := hF
  refine cx_cVi (r := r_3) (ws := sC g Rs (some (Rn 100)) im S ++ (stC g Rn N ++ X)) (ws' := sC g Rs (some (Rn 100)) im S ++ (stC g Rn N ++ X)) (As := [.int p1, .int p2]) (rest := [.int r_1, .ref (Rn 100)]) E (mX1_thereOf_s l g A Rs Rn _ _ S N p1 p2 h_4) (kwX1_X1_thereOf E ⟨Nat.le_of_ble_eq_true rfl, Nat.le_of_ble_eq_true rfl⟩) 0 1 rfl rfl rfl hw rfl hl.1 rfl (Nat.le_of_ble_eq_true rfl) dX1_writeOf_13 ⟨Nat.le_of_ble_eq_true rfl, Nat.le_of_ble_eq_true rfl⟩ (fun H locs hw => ?_)
  replace hF := fx_b2_e hF
  obtain ⟨r_5, N_6, h_7, hF⟩ := hF
  have hw : cx_W g A s (stC g Rn N ++ (sC g Rs (some (Rn 100)) im S ++ X)) H locs := cx_W.perm hw (List.perm_append_comm_assoc _ _ _)
  refine cx_cVi (r := r_5) (ws := stC g Rn N ++ (sC g Rs (some (Rn 100)) im S ++ X)) (ws' := stC g Rn N_6 ++ (sC g Rs (some (Rn 100)) im S ++ X)) (As := [.int r_1, .int r_3]) (rest := []) E (mX7_written l g A Rn _ N r_1 r_3 h_7) (kwX1_X7_written E ⟨Nat.le_of_ble_eq_true rfl, Nat.le_of_ble_eq_true rfl⟩) 0 2 rfl rfl rfl hw rfl hl.1 rfl (Nat.le_of_ble_eq_true rfl) dX1_writeOf_16 ⟨Nat.le_of_ble_eq_true rfl, Nat.le_of_ble_eq_true rfl⟩ (fun H locs hw => ?_)
  have hw : cx_W g A s (sC g Rs (some (Rn 100)) im S ++ (stC g Rn N_6 ++ X)) H locs := cx_W.perm hw (List.perm_append_comm_assoc _ _ _)
  obtain rfl := Option.some.inj hF
  exact hret _ _ _ _ _ rfl rfl hw dX1_writeOf_19
/-! writeOf(II)I -/
def FX1_writeOf_n (S : Sx) (p1 : Int32) (p2 : Int32) : Option Int32 :=
  fx_b1 (FX1_diskOf S p1 p2) (fun r_1 => fx_b1 (FX1_thereOf_n S p1 p2) (fun r_3 => none))
set_option maxHeartbeats 4000000 in
set_option maxRecDepth 100000 in
theorem mX1_writeOf_n (l : Launch) (g : Gx) (A : Nat → Prop) (Rs : Nat → Nat) (im : Option Nat) (X : va_W) (S : Sx) (p1 : Int32) (p2 : Int32) {o : Int32} (hF : FX1_writeOf_n S p1 p2 = some o) :
    cx_i l yX1_writeOf cX1_writeOf 3 .int rmX1_writeOf [.ref (Rs 100), .int p1, .int p2] g A (sC g Rs none im S ++ X) o (sC g Rs none im S ++ X) 0 0 := by
  refine cx_i_of (by decide) (Nat.le_of_ble_eq_true rfl) ?_
  intro p e s m av below meth c Q E hret H hw ls hl
  have E : cx_E p m meth c cX1_writeOf 3 s av RX1 g A := E
  have hx := E.1.1
  have hb := E.1.2.1
  have hl : lv_has ls 3 [(0, .ref (Rs 100)), (1, .int p1), (2, .int p2)] := hl
  generalize hlc : ([] : List Loc) = locs at hw ⊢
  clear hlc
  unfold FX1_writeOf_n at hF
  refine lv_aload_n hx hb dX1_writeOf_0 rfl (lv_at hl 0 rfl) ?_
  refine gX1_19n E hw dX1_writeOf_1 ?_
  refine lv_aload_n hx hb dX1_writeOf_4 rfl (lv_at hl 0 rfl) ?_
  refine lv_iload_n hx hb dX1_writeOf_5 rfl (lv_at hl 1 rfl) ?_
  refine lv_iload_n hx hb dX1_writeOf_6 rfl (lv_at hl 2 rfl) ?_
  replace hF := fx_b1_e hF
  obtain ⟨r_1, h_2, hF⟩ := hF
  refine cx_cVi (r := r_1) (ws := sC g Rs none im S ++ X) (ws' := sC g Rs none im S ++ X) (As := [.int p1, .int p2]) (rest := [.null]) E (mX1_diskOf l g A Rs _ _ _ S p1 p2 h_2) (kwX1_X1_diskOf E ⟨Nat.le_of_ble_eq_true rfl, Nat.le_of_ble_eq_true rfl⟩) 0 1 rfl rfl rfl hw rfl hl.1 rfl (Nat.le_of_ble_eq_true rfl) dX1_writeOf_7 ⟨Nat.le_of_ble_eq_true rfl, Nat.le_of_ble_eq_true rfl⟩ (fun H locs hw => ?_)
  refine lv_aload_n hx hb dX1_writeOf_10 rfl (lv_at hl 0 rfl) ?_
  refine lv_iload_n hx hb dX1_writeOf_11 rfl (lv_at hl 1 rfl) ?_
  refine lv_iload_n hx hb dX1_writeOf_12 rfl (lv_at hl 2 rfl) ?_
  replace hF := fx_b1_e hF
  obtain ⟨r_3, h_4, hF⟩ := hF
  refine cx_cVi (r := r_3) (ws := sC g Rs none im S ++ X) (ws' := sC g Rs none im S ++ X) (As := [.int p1, .int p2]) (rest := [.int r_1, .null]) E (mX1_thereOf_n l g A Rs _ _ S p1 p2 h_4) (kwX1_X1_thereOf E ⟨Nat.le_of_ble_eq_true rfl, Nat.le_of_ble_eq_true rfl⟩) 0 1 rfl rfl rfl hw rfl hl.1 rfl (Nat.le_of_ble_eq_true rfl) dX1_writeOf_13 ⟨Nat.le_of_ble_eq_true rfl, Nat.le_of_ble_eq_true rfl⟩ (fun H locs hw => ?_)
  exact fx_no hF
/-! reckonsSums(II)V -/
def JX1_reckonsSums_s_26 (S : Sx) (N_5 : Sx) (p1 : Int32) (r_1 : Int32) (p2 : Int32) : Option Sx :=
  fx_b1 (FX1_isThere_s S N_5 p1 (r_1 + (1 : Int32))) (fun r_6 => if r_6 = 0 then (some N_5) else (fx_b1 (FX1_weighedWithout S (0 : Int32)) (fun r_9 => fx_b1 (FX1_put_s S N_5 p1 (r_1 + (1 : Int32)) p2 r_9) (fun N_11 => some N_11))))
def FX1_reckonsSums_s (S : Sx) (N : Sx) (p1 : Int32) (p2 : Int32) : Option Sx :=
  fx_b1 (FX1_data S) (fun r_1 => fx_b1 (FX1_isThere_s S N p1 r_1) (fun r_3 => if r_3 = 0 then (JX1_reckonsSums_s_26 S N p1 r_1 p2) else (fx_b1 (FX1_sumWithout S (0 : Int32)) (fun r_14 => fx_b1 (FX1_put_s S N p1 r_1 p2 r_14) (fun N_16 => JX1_reckonsSums_s_26 S N_16 p1 r_1 p2)))))
set_option maxHeartbeats 4000000 in
set_option maxRecDepth 100000 in
theorem mX1_reckonsSums_s (l : Launch) (g : Gx) (A : Nat → Prop) (Rs Rn : Nat → Nat) (im : Option Nat) (X : va_W) (S : Sx) (N : Sx) (p1 : Int32) (p2 : Int32) {o : Sx} (hF : FX1_reckonsSums_s S N p1 p2 = some o) :
    cx_v l yX1_reckonsSums cX1_reckonsSums 4 rmX1_reckonsSums [.ref (Rs 100), .int p1, .int p2] g A (sC g Rs (some (Rn 100)) im S ++ (stC g Rn N ++ X)) (sC g Rs (some (Rn 100)) im S ++ (stC g Rn o ++ X)) 0 0 := by
  refine cx_v_of (by decide) (Nat.le_of_ble_eq_true rfl) ?_
  intro p e s m av below meth c Q E hret H hw ls hl
  have E : cx_E p m meth c cX1_reckonsSums 4 s av RX1 g A := E
  have hx := E.1.1
  have hb := E.1.2.1
  have hl : lv_has ls 4 [(0, .ref (Rs 100)), (1, .int p1), (2, .int p2)] := hl
  generalize hlc : ([] : List Loc) = locs at hw ⊢
  clear hlc
  unfold FX1_reckonsSums_s at hF
  refine lv_aload_n hx hb dX1_reckonsSums_0 rfl (lv_at hl 0 rfl) ?_
  replace hF := fx_b1_e hF
  obtain ⟨r_1, h_2, hF⟩ := hF
  refine cx_cVi (r := r_1) (ws := sC g Rs (some (Rn 100)) im S ++ (stC g Rn N ++ X)) (ws' := sC g Rs (some (Rn 100)) im S ++ (stC g Rn N ++ X)) (As := []) (rest := []) E (mX1_data l g A Rs _ _ _ S h_2) (kwX1_X1_data E ⟨Nat.le_of_ble_eq_true rfl, Nat.le_of_ble_eq_true rfl⟩) 0 1 rfl rfl rfl hw rfl hl.1 rfl (Nat.le_of_ble_eq_true rfl) dX1_reckonsSums_1 ⟨Nat.le_of_ble_eq_true rfl, Nat.le_of_ble_eq_true rfl⟩ (fun H locs hw => ?_)
  refine lv_istore_n hx hb dX1_reckonsSums_4 rfl hl (by decide) rfl (fun ls hl => ?_)
  have hl : lv_has ls 4 [(3, .int r_1), (0, .ref (Rs 100)), (1, .int p1), (2, .int p2)] := hl
  refine lv_aload_n hx hb dX1_reckonsSums_5 rfl (lv_at hl 1 rfl) ?_
  refine lv_iload_n hx hb dX1_reckonsSums_6 rfl (lv_at hl 2 rfl) ?_
  refine lv_iload_n hx hb dX1_reckonsSums_7 rfl (lv_at hl 0 rfl) ?_
  replace hF := fx_b1_e hF
  obtain ⟨r_3, h_4, hF⟩ := hF
  refine cx_cVi (r := r_3) (ws := sC g Rs (some (Rn 100)) im S ++ (stC g Rn N ++ X)) (ws' := sC g Rs (some (Rn 100)) im S ++ (stC g Rn N ++ X)) (As := [.int p1, .int r_1]) (rest := []) E (mX1_isThere_s l g A Rs Rn _ _ S N p1 r_1 h_4) (kwX1_X1_isThere E ⟨Nat.le_of_ble_eq_true rfl, Nat.le_of_ble_eq_true rfl⟩) 0 1 rfl rfl rfl hw rfl hl.1 rfl (Nat.le_of_ble_eq_true rfl) dX1_reckonsSums_8 ⟨Nat.le_of_ble_eq_true rfl, Nat.le_of_ble_eq_true rfl⟩ (fun H locs hw => ?_)
  have jn_26 : ∀ (N_5 : Sx), JX1_reckonsSums_s_26 S N_5 p1 r_1 p2 = some o → ∀ (H : Heap) (locs : List Loc) (ls : Array Slot), cx_W g A s (sC g Rs (some (Rn 100)) im S ++ (stC g Rn N_5 ++ X)) H locs → lv_has ls 4 [(0, .ref (Rs 100)), (1, .int p1), (2, .int p2), (3, .int r_1)] → W p l e rmX1_reckonsSums s m av below meth c H locs 0 0 Q (F0 m 26 ls []) := by
    intro N_5 hJ_26 H locs ls hw hl
    unfold JX1_reckonsSums_s_26 at hJ_26
    refine lv_aload_n hx hb dX1_reckonsSums_26 rfl (lv_at hl 0 rfl) ?_
    refine lv_iload_n hx hb dX1_reckonsSums_27 rfl (lv_at hl 1 rfl) ?_
    refine lv_iload_n hx hb dX1_reckonsSums_28 rfl (lv_at hl 3 rfl) ?_
    refine lv_iconst (v := (1 : Int32)) hx hb dX1_reckonsSums_29 (by decide) ?_
    refine lv_iadd hx hb dX1_reckonsSums_30 ?_
    replace hJ_26 := fx_b1_e hJ_26
    obtain ⟨r_6, h_7, hJ_26⟩ := hJ_26
    refine cx_cVi (r := r_6) (ws := sC g Rs (some (Rn 100)) im S ++ (stC g Rn N_5 ++ X)) (ws' := sC g Rs (some (Rn 100)) im S ++ (stC g Rn N_5 ++ X)) (As := [.int p1, .int (r_1 + (1 : Int32))]) (rest := []) E (mX1_isThere_s l g A Rs Rn _ _ S N_5 p1 (r_1 + (1 : Int32)) h_7) (kwX1_X1_isThere E ⟨Nat.le_of_ble_eq_true rfl, Nat.le_of_ble_eq_true rfl⟩) 0 1 rfl rfl rfl hw rfl hl.1 rfl (Nat.le_of_ble_eq_true rfl) dX1_reckonsSums_31 ⟨Nat.le_of_ble_eq_true rfl, Nat.le_of_ble_eq_true rfl⟩ (fun H locs hw => ?_)
    refine lv_if_eq (tgt := 51) hx hb dX1_reckonsSums_34 (by decide) (fun c_8 => ?_) (fun c_8 => ?_)
    · replace hJ_26 := fx_tt c_8 hJ_26
      obtain rfl := Option.some.inj hJ_26
      exact hret _ _ _ _ hw dX1_reckonsSums_51
    · replace hJ_26 := fx_ff c_8 hJ_26
      refine lv_aload_n hx hb dX1_reckonsSums_37 rfl (lv_at hl 0 rfl) ?_
      refine lv_iload_n hx hb dX1_reckonsSums_38 rfl (lv_at hl 1 rfl) ?_
      refine lv_iload_n hx hb dX1_reckonsSums_39 rfl (lv_at hl 3 rfl) ?_
      refine lv_iconst (v := (1 : Int32)) hx hb dX1_reckonsSums_40 (by decide) ?_
      refine lv_iadd hx hb dX1_reckonsSums_41 ?_
      refine lv_iload_n hx hb dX1_reckonsSums_42 rfl (lv_at hl 2 rfl) ?_
      refine lv_aload_n hx hb dX1_reckonsSums_43 rfl (lv_at hl 0 rfl) ?_
      refine lv_iconst (v := (0 : Int32)) hx hb dX1_reckonsSums_44 (by decide) ?_
      replace hJ_26 := fx_b1_e hJ_26
      obtain ⟨r_9, h_10, hJ_26⟩ := hJ_26
      refine cx_cVi (r := r_9) (ws := sC g Rs (some (Rn 100)) im S ++ (stC g Rn N_5 ++ X)) (ws' := sC g Rs (some (Rn 100)) im S ++ (stC g Rn N_5 ++ X)) (As := [.int (0 : Int32)]) (rest := [.int p2, .int (r_1 + (1 : Int32)), .int p1, .ref (Rs 100)]) E (mX1_weighedWithout l g A Rs _ _ _ S (0 : Int32) h_10) (kwX1_X1_weighedWithout E ⟨Nat.le_of_ble_eq_true rfl, Nat.le_of_ble_eq_true rfl⟩) 0 1 rfl rfl rfl hw rfl hl.1 rfl (Nat.le_of_ble_eq_true rfl) dX1_reckonsSums_45 ⟨Nat.le_of_ble_eq_true rfl, Nat.le_of_ble_eq_true rfl⟩ (fun H locs hw => ?_)
      replace hJ_26 := fx_b1_e hJ_26
      obtain ⟨N_11, h_12, hJ_26⟩ := hJ_26
      refine cx_cVv (ws := sC g Rs (some (Rn 100)) im S ++ (stC g Rn N_5 ++ X)) (ws' := sC g Rs (some (Rn 100)) im S ++ (stC g Rn N_11 ++ X)) (As := [.int p1, .int (r_1 + (1 : Int32)), .int p2, .int r_9]) (rest := []) E (mX1_put_s l g A Rs Rn _ _ S N_5 p1 (r_1 + (1 : Int32)) p2 r_9 h_12) (kwX1_X1_put E ⟨Nat.le_of_ble_eq_true rfl, Nat.le_of_ble_eq_true rfl⟩) 0 1 rfl rfl rfl hw rfl hl.1 rfl (Nat.le_of_ble_eq_true rfl) dX1_reckonsSums_48 ⟨Nat.le_of_ble_eq_true rfl, Nat.le_of_ble_eq_true rfl⟩ (fun H locs hw => ?_)
      obtain rfl := Option.some.inj hJ_26
      exact hret _ _ _ _ hw dX1_reckonsSums_51
  refine lv_if_eq (tgt := 26) hx hb dX1_reckonsSums_11 (by decide) (fun c_13 => ?_) (fun c_13 => ?_)
  · replace hF := fx_tt c_13 hF
    exact jn_26 N hF _ _ _ hw (lv_sub hl [1, 2, 3, 0] rfl)
  · replace hF := fx_ff c_13 hF
    refine lv_aload_n hx hb dX1_reckonsSums_14 rfl (lv_at hl 1 rfl) ?_
    refine lv_iload_n hx hb dX1_reckonsSums_15 rfl (lv_at hl 2 rfl) ?_
    refine lv_iload_n hx hb dX1_reckonsSums_16 rfl (lv_at hl 0 rfl) ?_
    refine lv_iload_n hx hb dX1_reckonsSums_17 rfl (lv_at hl 3 rfl) ?_
    refine lv_aload_n hx hb dX1_reckonsSums_18 rfl (lv_at hl 1 rfl) ?_
    refine lv_iconst (v := (0 : Int32)) hx hb dX1_reckonsSums_19 (by decide) ?_
    replace hF := fx_b1_e hF
    obtain ⟨r_14, h_15, hF⟩ := hF
    refine cx_cVi (r := r_14) (ws := sC g Rs (some (Rn 100)) im S ++ (stC g Rn N ++ X)) (ws' := sC g Rs (some (Rn 100)) im S ++ (stC g Rn N ++ X)) (As := [.int (0 : Int32)]) (rest := [.int p2, .int r_1, .int p1, .ref (Rs 100)]) E (mX1_sumWithout l g A Rs _ _ _ S (0 : Int32) h_15) (kwX1_X1_sumWithout E ⟨Nat.le_of_ble_eq_true rfl, Nat.le_of_ble_eq_true rfl⟩) 0 1 rfl rfl rfl hw rfl hl.1 rfl (Nat.le_of_ble_eq_true rfl) dX1_reckonsSums_20 ⟨Nat.le_of_ble_eq_true rfl, Nat.le_of_ble_eq_true rfl⟩ (fun H locs hw => ?_)
    replace hF := fx_b1_e hF
    obtain ⟨N_16, h_17, hF⟩ := hF
    refine cx_cVv (ws := sC g Rs (some (Rn 100)) im S ++ (stC g Rn N ++ X)) (ws' := sC g Rs (some (Rn 100)) im S ++ (stC g Rn N_16 ++ X)) (As := [.int p1, .int r_1, .int p2, .int r_14]) (rest := []) E (mX1_put_s l g A Rs Rn _ _ S N p1 r_1 p2 r_14 h_17) (kwX1_X1_put E ⟨Nat.le_of_ble_eq_true rfl, Nat.le_of_ble_eq_true rfl⟩) 0 1 rfl rfl rfl hw rfl hl.1 rfl (Nat.le_of_ble_eq_true rfl) dX1_reckonsSums_23 ⟨Nat.le_of_ble_eq_true rfl, Nat.le_of_ble_eq_true rfl⟩ (fun H locs hw => ?_)
    exact jn_26 N_16 hF _ _ _ hw (lv_sub hl [1, 2, 3, 0] rfl)
/-! reckonsSums(II)V -/
def JX1_reckonsSums_n_26 (S : Sx) (p1 : Int32) (r_1 : Int32) (p2 : Int32) : Option Unit :=
  fx_b1 (FX1_isThere_n S p1 (r_1 + (1 : Int32))) (fun r_5 => if r_5 = 0 then (some ()) else (fx_b1 (FX1_weighedWithout S (0 : Int32)) (fun r_8 => fx_b1 (FX1_put_n S p1 (r_1 + (1 : Int32)) p2 r_8) (fun _ => some ()))))
def FX1_reckonsSums_n (S : Sx) (p1 : Int32) (p2 : Int32) : Option Unit :=
  fx_b1 (FX1_data S) (fun r_1 => fx_b1 (FX1_isThere_n S p1 r_1) (fun r_3 => if r_3 = 0 then (JX1_reckonsSums_n_26 S p1 r_1 p2) else (fx_b1 (FX1_sumWithout S (0 : Int32)) (fun r_12 => fx_b1 (FX1_put_n S p1 r_1 p2 r_12) (fun _ => JX1_reckonsSums_n_26 S p1 r_1 p2)))))
set_option maxHeartbeats 4000000 in
set_option maxRecDepth 100000 in
theorem mX1_reckonsSums_n (l : Launch) (g : Gx) (A : Nat → Prop) (Rs : Nat → Nat) (im : Option Nat) (X : va_W) (S : Sx) (p1 : Int32) (p2 : Int32) {o : Unit} (hF : FX1_reckonsSums_n S p1 p2 = some o) :
    cx_v l yX1_reckonsSums cX1_reckonsSums 4 rmX1_reckonsSums [.ref (Rs 100), .int p1, .int p2] g A (sC g Rs none im S ++ X) (sC g Rs none im S ++ X) 0 0 := by
  refine cx_v_of (by decide) (Nat.le_of_ble_eq_true rfl) ?_
  intro p e s m av below meth c Q E hret H hw ls hl
  have E : cx_E p m meth c cX1_reckonsSums 4 s av RX1 g A := E
  have hx := E.1.1
  have hb := E.1.2.1
  have hl : lv_has ls 4 [(0, .ref (Rs 100)), (1, .int p1), (2, .int p2)] := hl
  generalize hlc : ([] : List Loc) = locs at hw ⊢
  clear hlc
  unfold FX1_reckonsSums_n at hF
  refine lv_aload_n hx hb dX1_reckonsSums_0 rfl (lv_at hl 0 rfl) ?_
  replace hF := fx_b1_e hF
  obtain ⟨r_1, h_2, hF⟩ := hF
  refine cx_cVi (r := r_1) (ws := sC g Rs none im S ++ X) (ws' := sC g Rs none im S ++ X) (As := []) (rest := []) E (mX1_data l g A Rs _ _ _ S h_2) (kwX1_X1_data E ⟨Nat.le_of_ble_eq_true rfl, Nat.le_of_ble_eq_true rfl⟩) 0 1 rfl rfl rfl hw rfl hl.1 rfl (Nat.le_of_ble_eq_true rfl) dX1_reckonsSums_1 ⟨Nat.le_of_ble_eq_true rfl, Nat.le_of_ble_eq_true rfl⟩ (fun H locs hw => ?_)
  refine lv_istore_n hx hb dX1_reckonsSums_4 rfl hl (by decide) rfl (fun ls hl => ?_)
  have hl : lv_has ls 4 [(3, .int r_1), (0, .ref (Rs 100)), (1, .int p1), (2, .int p2)] := hl
  refine lv_aload_n hx hb dX1_reckonsSums_5 rfl (lv_at hl 1 rfl) ?_
  refine lv_iload_n hx hb dX1_reckonsSums_6 rfl (lv_at hl 2 rfl) ?_
  refine lv_iload_n hx hb dX1_reckonsSums_7 rfl (lv_at hl 0 rfl) ?_
  replace hF := fx_b1_e hF
  obtain ⟨r_3, h_4, hF⟩ := hF
  refine cx_cVi (r := r_3) (ws := sC g Rs none im S ++ X) (ws' := sC g Rs none im S ++ X) (As := [.int p1, .int r_1]) (rest := []) E (mX1_isThere_n l g A Rs _ _ S p1 r_1 h_4) (kwX1_X1_isThere E ⟨Nat.le_of_ble_eq_true rfl, Nat.le_of_ble_eq_true rfl⟩) 0 1 rfl rfl rfl hw rfl hl.1 rfl (Nat.le_of_ble_eq_true rfl) dX1_reckonsSums_8 ⟨Nat.le_of_ble_eq_true rfl, Nat.le_of_ble_eq_true rfl⟩ (fun H locs hw => ?_)
  have jn_26 : JX1_reckonsSums_n_26 S p1 r_1 p2 = some o → ∀ (H : Heap) (locs : List Loc) (ls : Array Slot), cx_W g A s (sC g Rs none im S ++ X) H locs → lv_has ls 4 [(0, .ref (Rs 100)), (1, .int p1), (2, .int p2), (3, .int r_1)] → W p l e rmX1_reckonsSums s m av below meth c H locs 0 0 Q (F0 m 26 ls []) := by
    intro  hJ_26 H locs ls hw hl
    unfold JX1_reckonsSums_n_26 at hJ_26
    refine lv_aload_n hx hb dX1_reckonsSums_26 rfl (lv_at hl 0 rfl) ?_
    refine lv_iload_n hx hb dX1_reckonsSums_27 rfl (lv_at hl 1 rfl) ?_
    refine lv_iload_n hx hb dX1_reckonsSums_28 rfl (lv_at hl 3 rfl) ?_
    refine lv_iconst (v := (1 : Int32)) hx hb dX1_reckonsSums_29 (by decide) ?_
    refine lv_iadd hx hb dX1_reckonsSums_30 ?_
    replace hJ_26 := fx_b1_e hJ_26
    obtain ⟨r_5, h_6, hJ_26⟩ := hJ_26
    refine cx_cVi (r := r_5) (ws := sC g Rs none im S ++ X) (ws' := sC g Rs none im S ++ X) (As := [.int p1, .int (r_1 + (1 : Int32))]) (rest := []) E (mX1_isThere_n l g A Rs _ _ S p1 (r_1 + (1 : Int32)) h_6) (kwX1_X1_isThere E ⟨Nat.le_of_ble_eq_true rfl, Nat.le_of_ble_eq_true rfl⟩) 0 1 rfl rfl rfl hw rfl hl.1 rfl (Nat.le_of_ble_eq_true rfl) dX1_reckonsSums_31 ⟨Nat.le_of_ble_eq_true rfl, Nat.le_of_ble_eq_true rfl⟩ (fun H locs hw => ?_)
    refine lv_if_eq (tgt := 51) hx hb dX1_reckonsSums_34 (by decide) (fun c_7 => ?_) (fun c_7 => ?_)
    · replace hJ_26 := fx_tt c_7 hJ_26
      obtain rfl := Option.some.inj hJ_26
      exact hret _ _ _ _ hw dX1_reckonsSums_51
    · replace hJ_26 := fx_ff c_7 hJ_26
      refine lv_aload_n hx hb dX1_reckonsSums_37 rfl (lv_at hl 0 rfl) ?_
      refine lv_iload_n hx hb dX1_reckonsSums_38 rfl (lv_at hl 1 rfl) ?_
      refine lv_iload_n hx hb dX1_reckonsSums_39 rfl (lv_at hl 3 rfl) ?_
      refine lv_iconst (v := (1 : Int32)) hx hb dX1_reckonsSums_40 (by decide) ?_
      refine lv_iadd hx hb dX1_reckonsSums_41 ?_
      refine lv_iload_n hx hb dX1_reckonsSums_42 rfl (lv_at hl 2 rfl) ?_
      refine lv_aload_n hx hb dX1_reckonsSums_43 rfl (lv_at hl 0 rfl) ?_
      refine lv_iconst (v := (0 : Int32)) hx hb dX1_reckonsSums_44 (by decide) ?_
      replace hJ_26 := fx_b1_e hJ_26
      obtain ⟨r_8, h_9, hJ_26⟩ := hJ_26
      refine cx_cVi (r := r_8) (ws := sC g Rs none im S ++ X) (ws' := sC g Rs none im S ++ X) (As := [.int (0 : Int32)]) (rest := [.int p2, .int (r_1 + (1 : Int32)), .int p1, .ref (Rs 100)]) E (mX1_weighedWithout l g A Rs _ _ _ S (0 : Int32) h_9) (kwX1_X1_weighedWithout E ⟨Nat.le_of_ble_eq_true rfl, Nat.le_of_ble_eq_true rfl⟩) 0 1 rfl rfl rfl hw rfl hl.1 rfl (Nat.le_of_ble_eq_true rfl) dX1_reckonsSums_45 ⟨Nat.le_of_ble_eq_true rfl, Nat.le_of_ble_eq_true rfl⟩ (fun H locs hw => ?_)
      replace hJ_26 := fx_b1_e hJ_26
      obtain ⟨_, h_10, hJ_26⟩ := hJ_26
      refine cx_cVv (ws := sC g Rs none im S ++ X) (ws' := sC g Rs none im S ++ X) (As := [.int p1, .int (r_1 + (1 : Int32)), .int p2, .int r_8]) (rest := []) E (mX1_put_n l g A Rs _ _ S p1 (r_1 + (1 : Int32)) p2 r_8 h_10) (kwX1_X1_put E ⟨Nat.le_of_ble_eq_true rfl, Nat.le_of_ble_eq_true rfl⟩) 0 1 rfl rfl rfl hw rfl hl.1 rfl (Nat.le_of_ble_eq_true rfl) dX1_reckonsSums_48 ⟨Nat.le_of_ble_eq_true rfl, Nat.le_of_ble_eq_true rfl⟩ (fun H locs hw => ?_)
      obtain rfl := Option.some.inj hJ_26
      exact hret _ _ _ _ hw dX1_reckonsSums_51
  refine lv_if_eq (tgt := 26) hx hb dX1_reckonsSums_11 (by decide) (fun c_11 => ?_) (fun c_11 => ?_)
  · replace hF := fx_tt c_11 hF
    exact jn_26  hF _ _ _ hw (lv_sub hl [1, 2, 3, 0] rfl)
  · replace hF := fx_ff c_11 hF
    refine lv_aload_n hx hb dX1_reckonsSums_14 rfl (lv_at hl 1 rfl) ?_
    refine lv_iload_n hx hb dX1_reckonsSums_15 rfl (lv_at hl 2 rfl) ?_
    refine lv_iload_n hx hb dX1_reckonsSums_16 rfl (lv_at hl 0 rfl) ?_
    refine lv_iload_n hx hb dX1_reckonsSums_17 rfl (lv_at hl 3 rfl) ?_
    refine lv_aload_n hx hb dX1_reckonsSums_18 rfl (lv_at hl 1 rfl) ?_
    refine lv_iconst (v := (0 : Int32)) hx hb dX1_reckonsSums_19 (by decide) ?_
    replace hF := fx_b1_e hF
    obtain ⟨r_12, h_13, hF⟩ := hF
    refine cx_cVi (r := r_12) (ws := sC g Rs none im S ++ X) (ws' := sC g Rs none im S ++ X) (As := [.int (0 : Int32)]) (rest := [.int p2, .int r_1, .int p1, .ref (Rs 100)]) E (mX1_sumWithout l g A Rs _ _ _ S (0 : Int32) h_13) (kwX1_X1_sumWithout E ⟨Nat.le_of_ble_eq_true rfl, Nat.le_of_ble_eq_true rfl⟩) 0 1 rfl rfl rfl hw rfl hl.1 rfl (Nat.le_of_ble_eq_true rfl) dX1_reckonsSums_20 ⟨Nat.le_of_ble_eq_true rfl, Nat.le_of_ble_eq_true rfl⟩ (fun H locs hw => ?_)
    replace hF := fx_b1_e hF
    obtain ⟨_, h_14, hF⟩ := hF
    refine cx_cVv (ws := sC g Rs none im S ++ X) (ws' := sC g Rs none im S ++ X) (As := [.int p1, .int r_1, .int p2, .int r_12]) (rest := []) E (mX1_put_n l g A Rs _ _ S p1 r_1 p2 r_12 h_14) (kwX1_X1_put E ⟨Nat.le_of_ble_eq_true rfl, Nat.le_of_ble_eq_true rfl⟩) 0 1 rfl rfl rfl hw rfl hl.1 rfl (Nat.le_of_ble_eq_true rfl) dX1_reckonsSums_23 ⟨Nat.le_of_ble_eq_true rfl, Nat.le_of_ble_eq_true rfl⟩ (fun H locs hw => ?_)
    exact jn_26  hF _ _ _ hw (lv_sub hl [1, 2, 3, 0] rfl)
/-! losesNow(I)I -/
def JX1_losesNow_s_55 (S : Sx) (N_7 : Sx) : Option (Int32 × Sx) :=
  fx_b1 (FX1_lostMany_s S N_7) (fun r_8 => some (r_8, N_7))
def LX1_losesNow_s_27 (p1 : Int32) (q_ : Sx × Int32) : Option ((Sx × Int32) ⊕ (Sx)) :=
  fx_u2 q_ (fun N_10 x2_11 => fx_b1 (FX1_cellOf (p1 + (1 : Int32)) (0 : Int32) (0 : Int32)) (fun r_12 => if r_12 ≤ x2_11 then (some (.inr N_10)) else (fx_gd (fx_in x2_11 384) (fx_lt (px_A N_10 0 (upd (gx_A N_10 0) x2_11.toNatClampNeg (0 : Int32))) (fun N_16 => fx_lt (x2_11 + (1 : Int32)) (fun v_17 => some (.inl (N_16, v_17))))))))
def FX1_losesNow_s (S : Sx) (N : Sx) (p1 : Int32) : Option (Int32 × Sx) :=
  fx_gd (fx_in p1 8) (fx_lt (px_A N 1 (upd (gx_A N 1) p1.toNatClampNeg (1 : Int32))) (fun N_2 => fx_gd (fx_in p1 8) (fx_lt (px_A N_2 2 (upd (gx_A N_2 2) p1.toNatClampNeg (0 : Int32))) (fun N_4 => fx_b1 (FX1_cellOf p1 (0 : Int32) (0 : Int32)) (fun r_5 => fx_b1 (fx_lp (LX1_losesNow_s_27 p1) 2000 (N_4, r_5)) (fun N_18 => JX1_losesNow_s_55 S N_18))))))
set_option maxHeartbeats 4000000 in
set_option maxRecDepth 100000 in
theorem mX1_losesNow_s (l : Launch) (g : Gx) (A : Nat → Prop) (Rs Rn : Nat → Nat) (im : Option Nat) (X : va_W) (S : Sx) (N : Sx) (p1 : Int32) {o : Int32 × Sx} (hF : FX1_losesNow_s S N p1 = some o) :
    cx_i l yX1_losesNow cX1_losesNow 3 .int rmX1_losesNow [.ref (Rs 100), .int p1] g A (sC g Rs (some (Rn 100)) im S ++ (stC g Rn N ++ X)) o.1 (sC g Rs (some (Rn 100)) im S ++ (stC g Rn o.2 ++ X)) 0 0 := by
  refine cx_i_of (by decide) (Nat.le_of_ble_eq_true rfl) ?_
  intro p e s m av below meth c Q E hret H hw ls hl
  have E : cx_E p m meth c cX1_losesNow 3 s av RX1 g A := E
  have hx := E.1.1
  have hb := E.1.2.1
  have hl : lv_has ls 3 [(0, .ref (Rs 100)), (1, .int p1)] := hl
  generalize hlc : ([] : List Loc) = locs at hw ⊢
  clear hlc
  unfold FX1_losesNow_s at hF
  refine lv_aload_n hx hb dX1_losesNow_0 rfl (lv_at hl 0 rfl) ?_
  refine gX1_19s E hw dX1_losesNow_1 ?_
  refine gNX7_1 E hw dX1_losesNow_4 ?_
  refine lv_iload_n hx hb dX1_losesNow_7 rfl (lv_at hl 1 rfl) ?_
  refine lv_iconst (v := (1 : Int32)) hx hb dX1_losesNow_8 (by decide) ?_
  replace hF := fx_gd_e hF
  obtain ⟨h_1, hF⟩ := hF
  obtain ⟨N_2, eN_2⟩ : ∃ z : Sx, z = px_A N 1 (upd (gx_A N 1) p1.toNatClampNeg (1 : Int32)) := ⟨_, rfl⟩
  replace hF := fx_lt_e eN_2 hF
  refine rsX7_1 eN_2 E hw (fx_in_e h_1) dX1_losesNow_9 (fun H locs hw => ?_)
  refine lv_aload_n hx hb dX1_losesNow_10 rfl (lv_at hl 0 rfl) ?_
  refine gX1_19s E hw dX1_losesNow_11 ?_
  refine gNX7_2 E hw dX1_losesNow_14 ?_
  refine lv_iload_n hx hb dX1_losesNow_17 rfl (lv_at hl 1 rfl) ?_
  refine lv_iconst (v := (0 : Int32)) hx hb dX1_losesNow_18 (by decide) ?_
  replace hF := fx_gd_e hF
  obtain ⟨h_3, hF⟩ := hF
  obtain ⟨N_4, eN_4⟩ : ∃ z : Sx, z = px_A N_2 2 (upd (gx_A N_2 2) p1.toNatClampNeg (0 : Int32)) := ⟨_, rfl⟩
  replace hF := fx_lt_e eN_4 hF
  refine rsX7_2 eN_4 E hw (fx_in_e h_3) dX1_losesNow_19 (fun H locs hw => ?_)
  refine lv_iload_n hx hb dX1_losesNow_20 rfl (lv_at hl 1 rfl) ?_
  refine lv_iconst (v := (0 : Int32)) hx hb dX1_losesNow_21 (by decide) ?_
  refine lv_iconst (v := (0 : Int32)) hx hb dX1_losesNow_22 (by decide) ?_
  replace hF := fx_b1_e hF
  obtain ⟨r_5, h_6, hF⟩ := hF
  refine cx_cSi (r := r_5) (ws := sC g Rs (some (Rn 100)) im S ++ (stC g Rn N_4 ++ X)) (ws' := sC g Rs (some (Rn 100)) im S ++ (stC g Rn N_4 ++ X)) (As := [.int p1, .int (0 : Int32), .int (0 : Int32)]) (rest := []) E (mX1_cellOf l g A (sC g Rs (some (Rn 100)) im S ++ (stC g Rn N_4 ++ X)) p1 (0 : Int32) (0 : Int32) h_6) (kwX1_X1_cellOf E ⟨Nat.le_of_ble_eq_true rfl, Nat.le_of_ble_eq_true rfl⟩) hw rfl hl.1 rfl (Nat.le_of_ble_eq_true rfl) dX1_losesNow_23 ⟨Nat.le_of_ble_eq_true rfl, Nat.le_of_ble_eq_true rfl⟩ (fun H locs hw => ?_)
  refine lv_istore_n hx hb dX1_losesNow_26 rfl hl (by decide) rfl (fun ls hl => ?_)
  have hl : lv_has ls 3 [(2, .int r_5), (0, .ref (Rs 100)), (1, .int p1)] := hl
  have jn_55 : ∀ (N_7 : Sx), JX1_losesNow_s_55 S N_7 = some o → ∀ (H : Heap) (locs : List Loc) (ls : Array Slot), cx_W g A s (sC g Rs (some (Rn 100)) im S ++ (stC g Rn N_7 ++ X)) H locs → lv_has ls 3 [(0, .ref (Rs 100))] → W p l e rmX1_losesNow s m av below meth c H locs 0 0 Q (F0 m 55 ls []) := by
    intro N_7 hJ_55 H locs ls hw hl
    unfold JX1_losesNow_s_55 at hJ_55
    refine lv_aload_n hx hb dX1_losesNow_55 rfl (lv_at hl 0 rfl) ?_
    replace hJ_55 := fx_b1_e hJ_55
    obtain ⟨r_8, h_9, hJ_55⟩ := hJ_55
    refine cx_cVi (r := r_8) (ws := sC g Rs (some (Rn 100)) im S ++ (stC g Rn N_7 ++ X)) (ws' := sC g Rs (some (Rn 100)) im S ++ (stC g Rn N_7 ++ X)) (As := []) (rest := []) E (mX1_lostMany_s l g A Rs Rn _ _ S N_7 h_9) (kwX1_X1_lostMany E ⟨Nat.le_of_ble_eq_true rfl, Nat.le_of_ble_eq_true rfl⟩) 0 1 rfl rfl rfl hw rfl hl.1 rfl (Nat.le_of_ble_eq_true rfl) dX1_losesNow_56 ⟨Nat.le_of_ble_eq_true rfl, Nat.le_of_ble_eq_true rfl⟩ (fun H locs hw => ?_)
    obtain rfl := Option.some.inj hJ_55
    exact hret _ _ _ _ _ rfl rfl hw dX1_losesNow_59
  replace hF := fx_b1_e hF
  obtain ⟨ex_27, hL_27, hF⟩ := hF
  have key_27 : ∀ (n_27 : Nat) (N_10 : Sx) (x2_11 : Int32), fx_lp (LX1_losesNow_s_27 p1) n_27 (N_10, x2_11) = some ex_27 → ∀ (H : Heap) (locs : List Loc) (ls : Array Slot), cx_W g A s (sC g Rs (some (Rn 100)) im S ++ (stC g Rn N_10 ++ X)) H locs → lv_has ls 3 [(0, .ref (Rs 100)), (1, .int p1), (2, .int x2_11)] → W p l e rmX1_losesNow s m av below meth c H locs 0 0 Q (F0 m 27 ls []) := by
    intro n_27
    induction n_27 with
    | zero => intro N_10 x2_11 hL_27; exact fx_lp_0 hL_27
    | succ n_27 ih_27 =>
      intro N_10 x2_11 hL_27 H locs ls hw hl
      replace hL_27 := fx_lp_s hL_27
      obtain ⟨o_27, hB_27, hO_27⟩ := hL_27
      unfold LX1_losesNow_s_27 at hB_27
      replace hB_27 := fx_u2_e hB_27
      refine lv_iload_n hx hb dX1_losesNow_27 rfl (lv_at hl 2 rfl) ?_
      refine lv_iload_n hx hb dX1_losesNow_28 rfl (lv_at hl 1 rfl) ?_
      refine lv_iconst (v := (1 : Int32)) hx hb dX1_losesNow_29 (by decide) ?_
      refine lv_iadd hx hb dX1_losesNow_30 ?_
      refine lv_iconst (v := (0 : Int32)) hx hb dX1_losesNow_31 (by decide) ?_
      refine lv_iconst (v := (0 : Int32)) hx hb dX1_losesNow_32 (by decide) ?_
      replace hB_27 := fx_b1_e hB_27
      obtain ⟨r_12, h_13, hB_27⟩ := hB_27
      refine cx_cSi (r := r_12) (ws := sC g Rs (some (Rn 100)) im S ++ (stC g Rn N_10 ++ X)) (ws' := sC g Rs (some (Rn 100)) im S ++ (stC g Rn N_10 ++ X)) (As := [.int (p1 + (1 : Int32)), .int (0 : Int32), .int (0 : Int32)]) (rest := [.int x2_11]) E (mX1_cellOf l g A (sC g Rs (some (Rn 100)) im S ++ (stC g Rn N_10 ++ X)) (p1 + (1 : Int32)) (0 : Int32) (0 : Int32) h_13) (kwX1_X1_cellOf E ⟨Nat.le_of_ble_eq_true rfl, Nat.le_of_ble_eq_true rfl⟩) hw rfl hl.1 rfl (Nat.le_of_ble_eq_true rfl) dX1_losesNow_33 ⟨Nat.le_of_ble_eq_true rfl, Nat.le_of_ble_eq_true rfl⟩ (fun H locs hw => ?_)
      refine lv_icmp_ge (tgt := 55) hx hb dX1_losesNow_36 (by decide) (fun c_14 => ?_) (fun c_14 => ?_)
      · replace hB_27 := fx_tt c_14 hB_27
        obtain rfl := fx_ex hB_27 hO_27
        exact jn_55 N_10 hF _ _ _ hw (lv_sub hl [0] rfl)
      · replace hB_27 := fx_ff c_14 hB_27
        refine lv_aload_n hx hb dX1_losesNow_39 rfl (lv_at hl 0 rfl) ?_
        refine gX1_19s E hw dX1_losesNow_40 ?_
        refine gNX7_0 E hw dX1_losesNow_43 ?_
        refine lv_iload_n hx hb dX1_losesNow_46 rfl (lv_at hl 2 rfl) ?_
        refine lv_iconst (v := (0 : Int32)) hx hb dX1_losesNow_47 (by decide) ?_
        replace hB_27 := fx_gd_e hB_27
        obtain ⟨h_15, hB_27⟩ := hB_27
        obtain ⟨N_16, eN_16⟩ : ∃ z : Sx, z = px_A N_10 0 (upd (gx_A N_10 0) x2_11.toNatClampNeg (0 : Int32)) := ⟨_, rfl⟩
        replace hB_27 := fx_lt_e eN_16 hB_27
        refine rsX7_0 eN_16 E hw (fx_in_e h_15) dX1_losesNow_48 (fun H locs hw => ?_)
        obtain ⟨v_17, ev_17⟩ : ∃ z : Int32, z = x2_11 + (1 : Int32) := ⟨_, rfl⟩
        replace hB_27 := fx_lt_e ev_17 hB_27
        refine cx_iinc (z := (1 : Int32)) (v := v_17) hx hb dX1_losesNow_49 hl (k := 2) rfl (by decide) ev_17 (by decide) rfl (fun ls hl => ?_)
        have hl : lv_has ls 3 [(2, .int v_17), (0, .ref (Rs 100)), (1, .int p1)] := hl
        refine lv_goto (tgt := 27) hx hb dX1_losesNow_52 (by decide) ?_
        exact ih_27 N_16 v_17 (fx_bk hB_27 hO_27) _ _ _ hw (lv_sub hl [1, 2, 0] rfl)
  exact key_27 _ N_4 r_5 hL_27 _ _ _ hw (lv_sub hl [1, 2, 0] rfl)
/-! losesNow(I)I -/
def FX1_losesNow_n (S : Sx) (p1 : Int32) : Option Int32 :=
  none
set_option maxHeartbeats 4000000 in
set_option maxRecDepth 100000 in
theorem mX1_losesNow_n (l : Launch) (g : Gx) (A : Nat → Prop) (Rs : Nat → Nat) (im : Option Nat) (X : va_W) (S : Sx) (p1 : Int32) {o : Int32} (hF : FX1_losesNow_n S p1 = some o) :
    cx_i l yX1_losesNow cX1_losesNow 3 .int rmX1_losesNow [.ref (Rs 100), .int p1] g A (sC g Rs none im S ++ X) o (sC g Rs none im S ++ X) 0 0 := by
  refine cx_i_of (by decide) (Nat.le_of_ble_eq_true rfl) ?_
  intro p e s m av below meth c Q E hret H hw ls hl
  have E : cx_E p m meth c cX1_losesNow 3 s av RX1 g A := E
  have hx := E.1.1
  have hb := E.1.2.1
  have hl : lv_has ls 3 [(0, .ref (Rs 100)), (1, .int p1)] := hl
  generalize hlc : ([] : List Loc) = locs at hw ⊢
  clear hlc
  unfold FX1_losesNow_n at hF
  refine lv_aload_n hx hb dX1_losesNow_0 rfl (lv_at hl 0 rfl) ?_
  refine gX1_19n E hw dX1_losesNow_1 ?_
  exact fx_no hF
/-! replacesNow(I)I -/
def FX1_replacesNow_s (S : Sx) (N : Sx) (p1 : Int32) : Option (Int32 × Sx) :=
  fx_gd (fx_in p1 8) (fx_lt (px_A N 1 (upd (gx_A N 1) p1.toNatClampNeg (2 : Int32))) (fun N_2 => fx_gd (fx_in p1 8) (fx_lt (px_A N_2 2 (upd (gx_A N_2 2) p1.toNatClampNeg (0 : Int32))) (fun N_4 => fx_lt (px_I N_4 7 ((gx_I N_4 7) - (1 : Int32))) (fun N_5 => some ((gx_I N_5 7), N_5))))))
set_option maxHeartbeats 4000000 in
set_option maxRecDepth 100000 in
theorem mX1_replacesNow_s (l : Launch) (g : Gx) (A : Nat → Prop) (Rs Rn : Nat → Nat) (im : Option Nat) (X : va_W) (S : Sx) (N : Sx) (p1 : Int32) {o : Int32 × Sx} (hF : FX1_replacesNow_s S N p1 = some o) :
    cx_i l yX1_replacesNow cX1_replacesNow 2 .int rmX1_replacesNow [.ref (Rs 100), .int p1] g A (sC g Rs (some (Rn 100)) im S ++ (stC g Rn N ++ X)) o.1 (sC g Rs (some (Rn 100)) im S ++ (stC g Rn o.2 ++ X)) 0 0 := by
  refine cx_i_of (by decide) (Nat.le_of_ble_eq_true rfl) ?_
  intro p e s m av below meth c Q E hret H hw ls hl
  have E : cx_E p m meth c cX1_replacesNow 2 s av RX1 g A := E
  have hx := E.1.1
  have hb := E.1.2.1
  have hl : lv_has ls 2 [(0, .ref (Rs 100)), (1, .int p1)] := hl
  generalize hlc : ([] : List Loc) = locs at hw ⊢
  clear hlc
  unfold FX1_replacesNow_s at hF
  refine lv_aload_n hx hb dX1_replacesNow_0 rfl (lv_at hl 0 rfl) ?_
  refine gX1_19s E hw dX1_replacesNow_1 ?_
  refine gNX7_1 E hw dX1_replacesNow_4 ?_
  refine lv_iload_n hx hb dX1_replacesNow_7 rfl (lv_at hl 1 rfl) ?_
  refine lv_iconst (v := (2 : Int32)) hx hb dX1_replacesNow_8 (by decide) ?_
  replace hF := fx_gd_e hF
  obtain ⟨h_1, hF⟩ := hF
  obtain ⟨N_2, eN_2⟩ : ∃ z : Sx, z = px_A N 1 (upd (gx_A N 1) p1.toNatClampNeg (2 : Int32)) := ⟨_, rfl⟩
  replace hF := fx_lt_e eN_2 hF
  refine rsX7_1 eN_2 E hw (fx_in_e h_1) dX1_replacesNow_9 (fun H locs hw => ?_)
  refine lv_aload_n hx hb dX1_replacesNow_10 rfl (lv_at hl 0 rfl) ?_
  refine gX1_19s E hw dX1_replacesNow_11 ?_
  refine gNX7_2 E hw dX1_replacesNow_14 ?_
  refine lv_iload_n hx hb dX1_replacesNow_17 rfl (lv_at hl 1 rfl) ?_
  refine lv_iconst (v := (0 : Int32)) hx hb dX1_replacesNow_18 (by decide) ?_
  replace hF := fx_gd_e hF
  obtain ⟨h_3, hF⟩ := hF
  obtain ⟨N_4, eN_4⟩ : ∃ z : Sx, z = px_A N_2 2 (upd (gx_A N_2 2) p1.toNatClampNeg (0 : Int32)) := ⟨_, rfl⟩
  replace hF := fx_lt_e eN_4 hF
  refine rsX7_2 eN_4 E hw (fx_in_e h_3) dX1_replacesNow_19 (fun H locs hw => ?_)
  refine lv_aload_n hx hb dX1_replacesNow_20 rfl (lv_at hl 0 rfl) ?_
  refine gX1_19s E hw dX1_replacesNow_21 ?_
  refine lv_dup hx hb dX1_replacesNow_24 rfl ?_
  refine gNX7_7 E hw dX1_replacesNow_25 ?_
  refine lv_iconst (v := (1 : Int32)) hx hb dX1_replacesNow_28 (by decide) ?_
  refine lv_isub hx hb dX1_replacesNow_29 ?_
  obtain ⟨N_5, eN_5⟩ : ∃ z : Sx, z = px_I N_4 7 ((gx_I N_4 7) - (1 : Int32)) := ⟨_, rfl⟩
  replace hF := fx_lt_e eN_5 hF
  refine pNX7_7 eN_5 E hw dX1_replacesNow_30 (fun H locs hw => ?_)
  refine lv_aload_n hx hb dX1_replacesNow_33 rfl (lv_at hl 0 rfl) ?_
  refine gX1_19s E hw dX1_replacesNow_34 ?_
  refine gNX7_7 E hw dX1_replacesNow_37 ?_
  obtain rfl := Option.some.inj hF
  exact hret _ _ _ _ _ rfl rfl hw dX1_replacesNow_40
/-! replacesNow(I)I -/
def FX1_replacesNow_n (S : Sx) (p1 : Int32) : Option Int32 :=
  none
set_option maxHeartbeats 4000000 in
set_option maxRecDepth 100000 in
theorem mX1_replacesNow_n (l : Launch) (g : Gx) (A : Nat → Prop) (Rs : Nat → Nat) (im : Option Nat) (X : va_W) (S : Sx) (p1 : Int32) {o : Int32} (hF : FX1_replacesNow_n S p1 = some o) :
    cx_i l yX1_replacesNow cX1_replacesNow 2 .int rmX1_replacesNow [.ref (Rs 100), .int p1] g A (sC g Rs none im S ++ X) o (sC g Rs none im S ++ X) 0 0 := by
  refine cx_i_of (by decide) (Nat.le_of_ble_eq_true rfl) ?_
  intro p e s m av below meth c Q E hret H hw ls hl
  have E : cx_E p m meth c cX1_replacesNow 2 s av RX1 g A := E
  have hx := E.1.1
  have hb := E.1.2.1
  have hl : lv_has ls 2 [(0, .ref (Rs 100)), (1, .int p1)] := hl
  generalize hlc : ([] : List Loc) = locs at hw ⊢
  clear hlc
  unfold FX1_replacesNow_n at hF
  refine lv_aload_n hx hb dX1_replacesNow_0 rfl (lv_at hl 0 rfl) ?_
  refine gX1_19n E hw dX1_replacesNow_1 ?_
  exact fx_no hF
/-! partOf(II)I -/
def JX1_partOf_20 (x3_1 : Int32) : Option Int32 :=
  some x3_1
def JX1_partOf_28  : Option Int32 :=
  some (-1 : Int32)
def LX1_partOf_2 (S : Sx) (p2 : Int32) (p1 : Int32) (x3_2 : Int32) : Option ((Int32) ⊕ ((Int32) ⊕ (Unit))) :=
  fx_b1 (FX1_disks S) (fun r_3 => if r_3 ≤ x3_2 then (some (.inr (.inr ()))) else (fx_b1 (FX1_diskOf S p2 x3_2) (fun r_6 => if r_6 = p1 then (some (.inr (.inl x3_2))) else (fx_lt (x3_2 + (1 : Int32)) (fun v_9 => some (.inl v_9))))))
def FX1_partOf (S : Sx) (p1 : Int32) (p2 : Int32) : Option Int32 :=
  fx_b1 (fx_lp (LX1_partOf_2 S p2 p1) 2000 (0 : Int32)) (fun q_ => fx_sm q_ (fun y3_10 => JX1_partOf_20 y3_10) (fun _ => JX1_partOf_28))
set_option maxHeartbeats 4000000 in
set_option maxRecDepth 100000 in
theorem mX1_partOf (l : Launch) (g : Gx) (A : Nat → Prop) (Rs : Nat → Nat) (nw im : Option Nat) (X : va_W) (S : Sx) (p1 : Int32) (p2 : Int32) {o : Int32} (hF : FX1_partOf S p1 p2 = some o) :
    cx_i l yX1_partOf cX1_partOf 4 .int rmX1_partOf [.ref (Rs 100), .int p1, .int p2] g A (sC g Rs nw im S ++ X) o (sC g Rs nw im S ++ X) 0 0 := by
  refine cx_i_of (by decide) (Nat.le_of_ble_eq_true rfl) ?_
  intro p e s m av below meth c Q E hret H hw ls hl
  have E : cx_E p m meth c cX1_partOf 4 s av RX1 g A := E
  have hx := E.1.1
  have hb := E.1.2.1
  have hl : lv_has ls 4 [(0, .ref (Rs 100)), (1, .int p1), (2, .int p2)] := hl
  generalize hlc : ([] : List Loc) = locs at hw ⊢
  clear hlc
  unfold FX1_partOf at hF
  refine lv_iconst (v := (0 : Int32)) hx hb dX1_partOf_0 (by decide) ?_
  refine lv_istore_n hx hb dX1_partOf_1 rfl hl (by decide) rfl (fun ls hl => ?_)
  have hl : lv_has ls 4 [(3, .int (0 : Int32)), (0, .ref (Rs 100)), (1, .int p1), (2, .int p2)] := hl
  have jn_20 : ∀ (x3_1 : Int32), JX1_partOf_20 x3_1 = some o → ∀ (H : Heap) (locs : List Loc) (ls : Array Slot), cx_W g A s (sC g Rs nw im S ++ X) H locs → lv_has ls 4 [(3, .int x3_1)] → W p l e rmX1_partOf s m av below meth c H locs 0 0 Q (F0 m 20 ls []) := by
    intro x3_1 hJ_20 H locs ls hw hl
    unfold JX1_partOf_20 at hJ_20
    refine lv_iload_n hx hb dX1_partOf_20 rfl (lv_at hl 0 rfl) ?_
    obtain rfl := Option.some.inj hJ_20
    exact hret _ _ _ _ _ rfl rfl hw dX1_partOf_21
  have jn_28 : JX1_partOf_28 = some o → ∀ (H : Heap) (locs : List Loc) (ls : Array Slot), cx_W g A s (sC g Rs nw im S ++ X) H locs → lv_has ls 4 [] → W p l e rmX1_partOf s m av below meth c H locs 0 0 Q (F0 m 28 ls []) := by
    intro  hJ_28 H locs ls hw hl
    unfold JX1_partOf_28 at hJ_28
    refine lv_iconst (v := (-1 : Int32)) hx hb dX1_partOf_28 (by decide) ?_
    obtain rfl := Option.some.inj hJ_28
    exact hret _ _ _ _ _ rfl rfl hw dX1_partOf_29
  replace hF := fx_b1_e hF
  obtain ⟨ex_2, hL_2, hF⟩ := hF
  have key_2 : ∀ (n_2 : Nat) (x3_2 : Int32), fx_lp (LX1_partOf_2 S p2 p1) n_2 x3_2 = some ex_2 → ∀ (H : Heap) (locs : List Loc) (ls : Array Slot), cx_W g A s (sC g Rs nw im S ++ X) H locs → lv_has ls 4 [(0, .ref (Rs 100)), (1, .int p1), (2, .int p2), (3, .int x3_2)] → W p l e rmX1_partOf s m av below meth c H locs 0 0 Q (F0 m 2 ls []) := by
    intro n_2
    induction n_2 with
    | zero => intro x3_2 hL_2; exact fx_lp_0 hL_2
    | succ n_2 ih_2 =>
      intro x3_2 hL_2 H locs ls hw hl
      replace hL_2 := fx_lp_s hL_2
      obtain ⟨o_2, hB_2, hO_2⟩ := hL_2
      unfold LX1_partOf_2 at hB_2
      refine lv_iload_n hx hb dX1_partOf_2 rfl (lv_at hl 3 rfl) ?_
      refine lv_aload_n hx hb dX1_partOf_3 rfl (lv_at hl 0 rfl) ?_
      replace hB_2 := fx_b1_e hB_2
      obtain ⟨r_3, h_4, hB_2⟩ := hB_2
      refine cx_cVi (r := r_3) (ws := sC g Rs nw im S ++ X) (ws' := sC g Rs nw im S ++ X) (As := []) (rest := [.int x3_2]) E (mX1_disks l g A Rs _ _ _ S h_4) (kwX1_X1_disks E ⟨Nat.le_of_ble_eq_true rfl, Nat.le_of_ble_eq_true rfl⟩) 0 1 rfl rfl rfl hw rfl hl.1 rfl (Nat.le_of_ble_eq_true rfl) dX1_partOf_4 ⟨Nat.le_of_ble_eq_true rfl, Nat.le_of_ble_eq_true rfl⟩ (fun H locs hw => ?_)
      refine lv_icmp_ge (tgt := 28) hx hb dX1_partOf_7 (by decide) (fun c_5 => ?_) (fun c_5 => ?_)
      · replace hB_2 := fx_tt c_5 hB_2
        obtain rfl := fx_ex hB_2 hO_2
        replace hF := fx_sm_r hF
        exact jn_28  hF _ _ _ hw (lv_sub hl [] rfl)
      · replace hB_2 := fx_ff c_5 hB_2
        refine lv_aload_n hx hb dX1_partOf_10 rfl (lv_at hl 0 rfl) ?_
        refine lv_iload_n hx hb dX1_partOf_11 rfl (lv_at hl 2 rfl) ?_
        refine lv_iload_n hx hb dX1_partOf_12 rfl (lv_at hl 3 rfl) ?_
        replace hB_2 := fx_b1_e hB_2
        obtain ⟨r_6, h_7, hB_2⟩ := hB_2
        refine cx_cVi (r := r_6) (ws := sC g Rs nw im S ++ X) (ws' := sC g Rs nw im S ++ X) (As := [.int p2, .int x3_2]) (rest := []) E (mX1_diskOf l g A Rs _ _ _ S p2 x3_2 h_7) (kwX1_X1_diskOf E ⟨Nat.le_of_ble_eq_true rfl, Nat.le_of_ble_eq_true rfl⟩) 0 1 rfl rfl rfl hw rfl hl.1 rfl (Nat.le_of_ble_eq_true rfl) dX1_partOf_13 ⟨Nat.le_of_ble_eq_true rfl, Nat.le_of_ble_eq_true rfl⟩ (fun H locs hw => ?_)
        refine lv_iload_n hx hb dX1_partOf_16 rfl (lv_at hl 1 rfl) ?_
        refine lv_icmp_ne (tgt := 22) hx hb dX1_partOf_17 (by decide) (fun c_8 => ?_) (fun c_8 => ?_)
        · replace hB_2 := fx_ff c_8 hB_2
          obtain ⟨v_9, ev_9⟩ : ∃ z : Int32, z = x3_2 + (1 : Int32) := ⟨_, rfl⟩
          replace hB_2 := fx_lt_e ev_9 hB_2
          refine cx_iinc (z := (1 : Int32)) (v := v_9) hx hb dX1_partOf_22 hl (k := 3) rfl (by decide) ev_9 (by decide) rfl (fun ls hl => ?_)
          have hl : lv_has ls 4 [(3, .int v_9), (0, .ref (Rs 100)), (1, .int p1), (2, .int p2)] := hl
          refine lv_goto (tgt := 2) hx hb dX1_partOf_25 (by decide) ?_
          exact ih_2 v_9 (fx_bk hB_2 hO_2) _ _ _ hw (lv_sub hl [1, 2, 3, 0] rfl)
        · replace hB_2 := fx_tt c_8 hB_2
          obtain rfl := fx_ex hB_2 hO_2
          replace hF := fx_sm_l hF
          exact jn_20 x3_2 hF _ _ _ hw (lv_sub hl [3] rfl)
  exact key_2 _ (0 : Int32) hL_2 _ _ _ hw (lv_sub hl [1, 2, 3, 0] rfl)
/-! solvesStripe(I)V -/
def JX1_solvesStripe_s_112 (S_8 : Sx) (N_9 : Sx) (p1 : Int32) : Option (Sx × Sx) :=
  fx_b1 (FX1_chunk S_8) (fun r_10 => fx_b2 (FX7_written N_9 p1 r_10) (fun r_12 N_13 => fx_gd (fx_in p1 8) (fx_gd (fx_in p1 8) (fx_lt (px_A N_13 2 (upd (gx_A N_13 2) p1.toNatClampNeg ((gx_A N_13 2 p1.toNatClampNeg) + (1 : Int32)))) (fun N_17 => fx_gd (fx_in p1 8) (fx_b1 (FX1_stripes S_8) (fun r_19 => if r_19 ≤ (gx_A N_17 2 p1.toNatClampNeg) then (fx_gd (fx_in p1 8) (fx_lt (px_A N_17 1 (upd (gx_A N_17 1) p1.toNatClampNeg (0 : Int32))) (fun N_23 => fx_gd (fx_in p1 8) (fx_lt (px_A N_23 2 (upd (gx_A N_23 2) p1.toNatClampNeg (0 : Int32))) (fun N_25 => some (S_8, N_25)))))) else (some (S_8, N_17)))))))))
def LX1_solvesStripe_s_73 (v_2 : Int32) (r_3 : Int32) (r_5 : Int32) (q_ : Sx × Sx × Int32) : Option ((Sx × Sx × Int32) ⊕ (Sx × Sx)) :=
  fx_u3 q_ (fun S_26 N_27 x5_28 => fx_b1 (FX1_chunk S_26) (fun r_29 => if r_29 ≤ x5_28 then (some (.inr (S_26, N_27))) else (fx_b1 (FX1_solves_s S_26 N_27 v_2 x5_28 r_3) (fun S_32 => fx_gd (fx_in r_5 8) (fx_b1 (FX1_put_s S_32 N_27 v_2 r_5 x5_28 (gx_A S_32 27 r_5.toNatClampNeg)) (fun N_35 => fx_lt (x5_28 + (1 : Int32)) (fun v_37 => some (.inl (S_32, N_35, v_37)))))))))
def JX1_solvesStripe_s_70 (v_2 : Int32) (r_3 : Int32) (r_5 : Int32) (S : Sx) (N_7 : Sx) (p1 : Int32) : Option (Sx × Sx) :=
  fx_b1 (fx_lp (LX1_solvesStripe_s_73 v_2 r_3 r_5) 2000 (S, N_7, (0 : Int32))) (fun q_ => fx_u2 q_ (fun S_38 N_39 => JX1_solvesStripe_s_112 S_38 N_39 p1))
def JX1_solvesStripe_s_64 (x5_41 : Int32) (N_47 : Sx) : Option ((Sx × Int32) ⊕ (Sx)) :=
  fx_lt (x5_41 + (1 : Int32)) (fun v_48 => some (.inl (N_47, v_48)))
def LX1_solvesStripe_s_27 (S : Sx) (r_3 : Int32) (v_2 : Int32) (q_ : Sx × Int32) : Option ((Sx × Int32) ⊕ (Sx)) :=
  fx_u2 q_ (fun N_40 x5_41 => fx_b1 (FX1_disks S) (fun r_42 => if r_42 ≤ x5_41 then (some (.inr N_40)) else (fx_b1 (FX1_has r_3 x5_41) (fun r_45 => if r_45 = 0 then (fx_b1 (FX1_diskOf S v_2 x5_41) (fun r_50 => fx_b1 (FX1_chunk S) (fun r_52 => fx_b2 (FX7_read N_40 r_50 r_52) (fun r_54 N_55 => JX1_solvesStripe_s_64 x5_41 N_55)))) else (JX1_solvesStripe_s_64 x5_41 N_40)))))
def FX1_solvesStripe_s (S : Sx) (N : Sx) (p1 : Int32) : Option (Sx × Sx) :=
  fx_gd (fx_in p1 8) (fx_lt (gx_A N 2 p1.toNatClampNeg) (fun v_2 => fx_b1 (FX1_absent_s S N v_2) (fun r_3 => fx_b1 (FX1_partOf S p1 v_2) (fun r_5 => fx_b1 (fx_lp (LX1_solvesStripe_s_27 S r_3 v_2) 2000 (N, (0 : Int32))) (fun N_57 => JX1_solvesStripe_s_70 v_2 r_3 r_5 S N_57 p1)))))
set_option maxHeartbeats 4000000 in
set_option maxRecDepth 100000 in
theorem mX1_solvesStripe_s (l : Launch) (g : Gx) (A : Nat → Prop) (Rs Rn : Nat → Nat) (im : Option Nat) (X : va_W) (S : Sx) (N : Sx) (p1 : Int32) {o : Sx × Sx} (hF : FX1_solvesStripe_s S N p1 = some o) :
    cx_v l yX1_solvesStripe cX1_solvesStripe 6 rmX1_solvesStripe [.ref (Rs 100), .int p1] g A (sC g Rs (some (Rn 100)) im S ++ (stC g Rn N ++ X)) (sC g Rs (some (Rn 100)) im o.1 ++ (stC g Rn o.2 ++ X)) 0 0 := by
  refine cx_v_of (by decide) (Nat.le_of_ble_eq_true rfl) ?_
  intro p e s m av below meth c Q E hret H hw ls hl
  have E : cx_E p m meth c cX1_solvesStripe 6 s av RX1 g A := E
  have hx := E.1.1
  have hb := E.1.2.1
  have hl : lv_has ls 6 [(0, .ref (Rs 100)), (1, .int p1)] := hl
  generalize hlc : ([] : List Loc) = locs at hw ⊢
  clear hlc
  unfold FX1_solvesStripe_s at hF
  refine lv_aload_n hx hb dX1_solvesStripe_0 rfl (lv_at hl 0 rfl) ?_
  refine gX1_19s E hw dX1_solvesStripe_1 ?_
  refine gNX7_2 E hw dX1_solvesStripe_4 ?_
  refine lv_iload_n hx hb dX1_solvesStripe_7 rfl (lv_at hl 1 rfl) ?_
  replace hF := fx_gd_e hF
  obtain ⟨h_1, hF⟩ := hF
  refine raX7_2 E hw (fx_in_e h_1) dX1_solvesStripe_8 ?_
  refine lv_topi (fun v_2 ev_2 => ?_)
  replace hF := fx_lt_e ev_2 hF
  refine lv_istore_n hx hb dX1_solvesStripe_9 rfl hl (by decide) rfl (fun ls hl => ?_)
  have hl : lv_has ls 6 [(2, .int v_2), (0, .ref (Rs 100)), (1, .int p1)] := hl
  refine lv_aload_n hx hb dX1_solvesStripe_10 rfl (lv_at hl 1 rfl) ?_
  refine lv_iload_n hx hb dX1_solvesStripe_11 rfl (lv_at hl 0 rfl) ?_
  replace hF := fx_b1_e hF
  obtain ⟨r_3, h_4, hF⟩ := hF
  refine cx_cVi (r := r_3) (ws := sC g Rs (some (Rn 100)) im S ++ (stC g Rn N ++ X)) (ws' := sC g Rs (some (Rn 100)) im S ++ (stC g Rn N ++ X)) (As := [.int v_2]) (rest := []) E (mX1_absent_s l g A Rs Rn _ _ S N v_2 h_4) (kwX1_X1_absent E ⟨Nat.le_of_ble_eq_true rfl, Nat.le_of_ble_eq_true rfl⟩) 0 1 rfl rfl rfl hw rfl hl.1 rfl (Nat.le_of_ble_eq_true rfl) dX1_solvesStripe_12 ⟨Nat.le_of_ble_eq_true rfl, Nat.le_of_ble_eq_true rfl⟩ (fun H locs hw => ?_)
  refine lv_istore_n hx hb dX1_solvesStripe_15 rfl hl (by decide) rfl (fun ls hl => ?_)
  have hl : lv_has ls 6 [(3, .int r_3), (2, .int v_2), (0, .ref (Rs 100)), (1, .int p1)] := hl
  refine lv_aload_n hx hb dX1_solvesStripe_16 rfl (lv_at hl 2 rfl) ?_
  refine lv_iload_n hx hb dX1_solvesStripe_17 rfl (lv_at hl 3 rfl) ?_
  refine lv_iload_n hx hb dX1_solvesStripe_18 rfl (lv_at hl 1 rfl) ?_
  replace hF := fx_b1_e hF
  obtain ⟨r_5, h_6, hF⟩ := hF
  refine cx_cVi (r := r_5) (ws := sC g Rs (some (Rn 100)) im S ++ (stC g Rn N ++ X)) (ws' := sC g Rs (some (Rn 100)) im S ++ (stC g Rn N ++ X)) (As := [.int p1, .int v_2]) (rest := []) E (mX1_partOf l g A Rs _ _ _ S p1 v_2 h_6) (kwX1_X1_partOf E ⟨Nat.le_of_ble_eq_true rfl, Nat.le_of_ble_eq_true rfl⟩) 0 1 rfl rfl rfl hw rfl hl.1 rfl (Nat.le_of_ble_eq_true rfl) dX1_solvesStripe_19 ⟨Nat.le_of_ble_eq_true rfl, Nat.le_of_ble_eq_true rfl⟩ (fun H locs hw => ?_)
  refine lv_istore hx hb dX1_solvesStripe_22 hl (by decide) rfl (fun ls hl => ?_)
  have hl : lv_has ls 6 [(4, .int r_5), (3, .int r_3), (2, .int v_2), (0, .ref (Rs 100)), (1, .int p1)] := hl
  refine lv_iconst (v := (0 : Int32)) hx hb dX1_solvesStripe_24 (by decide) ?_
  refine lv_istore hx hb dX1_solvesStripe_25 hl (by decide) rfl (fun ls hl => ?_)
  have hl : lv_has ls 6 [(5, .int (0 : Int32)), (4, .int r_5), (3, .int r_3), (2, .int v_2), (0, .ref (Rs 100)), (1, .int p1)] := hl
  have jn_70 : ∀ (N_7 : Sx), JX1_solvesStripe_s_70 v_2 r_3 r_5 S N_7 p1 = some o → ∀ (H : Heap) (locs : List Loc) (ls : Array Slot), cx_W g A s (sC g Rs (some (Rn 100)) im S ++ (stC g Rn N_7 ++ X)) H locs → lv_has ls 6 [(0, .ref (Rs 100)), (1, .int p1), (2, .int v_2), (3, .int r_3), (4, .int r_5)] → W p l e rmX1_solvesStripe s m av below meth c H locs 0 0 Q (F0 m 70 ls []) := by
    intro N_7 hJ_70 H locs ls hw hl
    unfold JX1_solvesStripe_s_70 at hJ_70
    refine lv_iconst (v := (0 : Int32)) hx hb dX1_solvesStripe_70 (by decide) ?_
    refine lv_istore hx hb dX1_solvesStripe_71 hl (by decide) rfl (fun ls hl => ?_)
    have hl : lv_has ls 6 [(5, .int (0 : Int32)), (0, .ref (Rs 100)), (1, .int p1), (2, .int v_2), (3, .int r_3), (4, .int r_5)] := hl
    have jn_112 : ∀ (S_8 : Sx) (N_9 : Sx), JX1_solvesStripe_s_112 S_8 N_9 p1 = some o → ∀ (H : Heap) (locs : List Loc) (ls : Array Slot), cx_W g A s (sC g Rs (some (Rn 100)) im S_8 ++ (stC g Rn N_9 ++ X)) H locs → lv_has ls 6 [(0, .ref (Rs 100)), (1, .int p1)] → W p l e rmX1_solvesStripe s m av below meth c H locs 0 0 Q (F0 m 112 ls []) := by
      intro S_8 N_9 hJ_112 H locs ls hw hl
      unfold JX1_solvesStripe_s_112 at hJ_112
      refine lv_aload_n hx hb dX1_solvesStripe_112 rfl (lv_at hl 0 rfl) ?_
      refine gX1_19s E hw dX1_solvesStripe_113 ?_
      refine lv_iload_n hx hb dX1_solvesStripe_116 rfl (lv_at hl 1 rfl) ?_
      refine lv_aload_n hx hb dX1_solvesStripe_117 rfl (lv_at hl 0 rfl) ?_
      replace hJ_112 := fx_b1_e hJ_112
      obtain ⟨r_10, h_11, hJ_112⟩ := hJ_112
      refine cx_cVi (r := r_10) (ws := sC g Rs (some (Rn 100)) im S_8 ++ (stC g Rn N_9 ++ X)) (ws' := sC g Rs (some (Rn 100)) im S_8 ++ (stC g Rn N_9 ++ X)) (As := []) (rest := [.int p1, .ref (Rn 100)]) E (mX1_chunk l g A Rs _ _ _ S_8 h_11) (kwX1_X1_chunk E ⟨Nat.le_of_ble_eq_true rfl, Nat.le_of_ble_eq_true rfl⟩) 0 1 rfl rfl rfl hw rfl hl.1 rfl (Nat.le_of_ble_eq_true rfl) dX1_solvesStripe_118 ⟨Nat.le_of_ble_eq_true rfl, Nat.le_of_ble_eq_true rfl⟩ (fun H locs hw => ?_)
      replace hJ_112 := fx_b2_e hJ_112
      obtain ⟨r_12, N_13, h_14, hJ_112⟩ := hJ_112
      have hw : cx_W g A s (stC g Rn N_9 ++ (sC g Rs (some (Rn 100)) im S_8 ++ X)) H locs := cx_W.perm hw (List.perm_append_comm_assoc _ _ _)
      refine cx_cVi (r := r_12) (ws := stC g Rn N_9 ++ (sC g Rs (some (Rn 100)) im S_8 ++ X)) (ws' := stC g Rn N_13 ++ (sC g Rs (some (Rn 100)) im S_8 ++ X)) (As := [.int p1, .int r_10]) (rest := []) E (mX7_written l g A Rn _ N_9 p1 r_10 h_14) (kwX1_X7_written E ⟨Nat.le_of_ble_eq_true rfl, Nat.le_of_ble_eq_true rfl⟩) 0 2 rfl rfl rfl hw rfl hl.1 rfl (Nat.le_of_ble_eq_true rfl) dX1_solvesStripe_121 ⟨Nat.le_of_ble_eq_true rfl, Nat.le_of_ble_eq_true rfl⟩ (fun H locs hw => ?_)
      have hw : cx_W g A s (sC g Rs (some (Rn 100)) im S_8 ++ (stC g Rn N_13 ++ X)) H locs := cx_W.perm hw (List.perm_append_comm_assoc _ _ _)
      refine lv_pop hx hb dX1_solvesStripe_124 rfl ?_
      refine lv_aload_n hx hb dX1_solvesStripe_125 rfl (lv_at hl 0 rfl) ?_
      refine gX1_19s E hw dX1_solvesStripe_126 ?_
      refine gNX7_2 E hw dX1_solvesStripe_129 ?_
      refine lv_iload_n hx hb dX1_solvesStripe_132 rfl (lv_at hl 1 rfl) ?_
      refine lv_dup2_11 hx hb dX1_solvesStripe_133 rfl rfl ?_
      replace hJ_112 := fx_gd_e hJ_112
      obtain ⟨h_15, hJ_112⟩ := hJ_112
      refine raX7_2 E hw (fx_in_e h_15) dX1_solvesStripe_134 ?_
      refine lv_iconst (v := (1 : Int32)) hx hb dX1_solvesStripe_135 (by decide) ?_
      refine lv_iadd hx hb dX1_solvesStripe_136 ?_
      replace hJ_112 := fx_gd_e hJ_112
      obtain ⟨h_16, hJ_112⟩ := hJ_112
      obtain ⟨N_17, eN_17⟩ : ∃ z : Sx, z = px_A N_13 2 (upd (gx_A N_13 2) p1.toNatClampNeg ((gx_A N_13 2 p1.toNatClampNeg) + (1 : Int32))) := ⟨_, rfl⟩
      replace hJ_112 := fx_lt_e eN_17 hJ_112
      refine rsX7_2 eN_17 E hw (fx_in_e h_16) dX1_solvesStripe_137 (fun H locs hw => ?_)
      refine lv_aload_n hx hb dX1_solvesStripe_138 rfl (lv_at hl 0 rfl) ?_
      refine gX1_19s E hw dX1_solvesStripe_139 ?_
      refine gNX7_2 E hw dX1_solvesStripe_142 ?_
      refine lv_iload_n hx hb dX1_solvesStripe_145 rfl (lv_at hl 1 rfl) ?_
      replace hJ_112 := fx_gd_e hJ_112
      obtain ⟨h_18, hJ_112⟩ := hJ_112
      refine raX7_2 E hw (fx_in_e h_18) dX1_solvesStripe_146 ?_
      refine lv_aload_n hx hb dX1_solvesStripe_147 rfl (lv_at hl 0 rfl) ?_
      replace hJ_112 := fx_b1_e hJ_112
      obtain ⟨r_19, h_20, hJ_112⟩ := hJ_112
      refine cx_cVi (r := r_19) (ws := sC g Rs (some (Rn 100)) im S_8 ++ (stC g Rn N_17 ++ X)) (ws' := sC g Rs (some (Rn 100)) im S_8 ++ (stC g Rn N_17 ++ X)) (As := []) (rest := [.int (gx_A N_17 2 p1.toNatClampNeg)]) E (mX1_stripes l g A Rs _ _ _ S_8 h_20) (kwX1_X1_stripes E ⟨Nat.le_of_ble_eq_true rfl, Nat.le_of_ble_eq_true rfl⟩) 0 1 rfl rfl rfl hw rfl hl.1 rfl (Nat.le_of_ble_eq_true rfl) dX1_solvesStripe_148 ⟨Nat.le_of_ble_eq_true rfl, Nat.le_of_ble_eq_true rfl⟩ (fun H locs hw => ?_)
      refine lv_icmp_ge (tgt := 155) hx hb dX1_solvesStripe_151 (by decide) (fun c_21 => ?_) (fun c_21 => ?_)
      · replace hJ_112 := fx_tt c_21 hJ_112
        refine lv_aload_n hx hb dX1_solvesStripe_155 rfl (lv_at hl 0 rfl) ?_
        refine gX1_19s E hw dX1_solvesStripe_156 ?_
        refine gNX7_1 E hw dX1_solvesStripe_159 ?_
        refine lv_iload_n hx hb dX1_solvesStripe_162 rfl (lv_at hl 1 rfl) ?_
        refine lv_iconst (v := (0 : Int32)) hx hb dX1_solvesStripe_163 (by decide) ?_
        replace hJ_112 := fx_gd_e hJ_112
        obtain ⟨h_22, hJ_112⟩ := hJ_112
        obtain ⟨N_23, eN_23⟩ : ∃ z : Sx, z = px_A N_17 1 (upd (gx_A N_17 1) p1.toNatClampNeg (0 : Int32)) := ⟨_, rfl⟩
        replace hJ_112 := fx_lt_e eN_23 hJ_112
        refine rsX7_1 eN_23 E hw (fx_in_e h_22) dX1_solvesStripe_164 (fun H locs hw => ?_)
        refine lv_aload_n hx hb dX1_solvesStripe_165 rfl (lv_at hl 0 rfl) ?_
        refine gX1_19s E hw dX1_solvesStripe_166 ?_
        refine gNX7_2 E hw dX1_solvesStripe_169 ?_
        refine lv_iload_n hx hb dX1_solvesStripe_172 rfl (lv_at hl 1 rfl) ?_
        refine lv_iconst (v := (0 : Int32)) hx hb dX1_solvesStripe_173 (by decide) ?_
        replace hJ_112 := fx_gd_e hJ_112
        obtain ⟨h_24, hJ_112⟩ := hJ_112
        obtain ⟨N_25, eN_25⟩ : ∃ z : Sx, z = px_A N_23 2 (upd (gx_A N_23 2) p1.toNatClampNeg (0 : Int32)) := ⟨_, rfl⟩
        replace hJ_112 := fx_lt_e eN_25 hJ_112
        refine rsX7_2 eN_25 E hw (fx_in_e h_24) dX1_solvesStripe_174 (fun H locs hw => ?_)
        obtain rfl := Option.some.inj hJ_112
        exact hret _ _ _ _ hw dX1_solvesStripe_175
      · replace hJ_112 := fx_ff c_21 hJ_112
        obtain rfl := Option.some.inj hJ_112
        exact hret _ _ _ _ hw dX1_solvesStripe_154
    replace hJ_70 := fx_b1_e hJ_70
    obtain ⟨ex_73, hL_73, hJ_70⟩ := hJ_70
    have key_73 : ∀ (n_73 : Nat) (S_26 : Sx) (N_27 : Sx) (x5_28 : Int32), fx_lp (LX1_solvesStripe_s_73 v_2 r_3 r_5) n_73 (S_26, N_27, x5_28) = some ex_73 → ∀ (H : Heap) (locs : List Loc) (ls : Array Slot), cx_W g A s (sC g Rs (some (Rn 100)) im S_26 ++ (stC g Rn N_27 ++ X)) H locs → lv_has ls 6 [(0, .ref (Rs 100)), (1, .int p1), (2, .int v_2), (3, .int r_3), (4, .int r_5), (5, .int x5_28)] → W p l e rmX1_solvesStripe s m av below meth c H locs 0 0 Q (F0 m 73 ls []) := by
      intro n_73
      induction n_73 with
      | zero => intro S_26 N_27 x5_28 hL_73; exact fx_lp_0 hL_73
      | succ n_73 ih_73 =>
        intro S_26 N_27 x5_28 hL_73 H locs ls hw hl
        replace hL_73 := fx_lp_s hL_73
        obtain ⟨o_73, hB_73, hO_73⟩ := hL_73
        unfold LX1_solvesStripe_s_73 at hB_73
        replace hB_73 := fx_u3_e hB_73
        refine lv_iload hx hb dX1_solvesStripe_73 (lv_at hl 5 rfl) ?_
        refine lv_aload_n hx hb dX1_solvesStripe_75 rfl (lv_at hl 0 rfl) ?_
        replace hB_73 := fx_b1_e hB_73
        obtain ⟨r_29, h_30, hB_73⟩ := hB_73
        refine cx_cVi (r := r_29) (ws := sC g Rs (some (Rn 100)) im S_26 ++ (stC g Rn N_27 ++ X)) (ws' := sC g Rs (some (Rn 100)) im S_26 ++ (stC g Rn N_27 ++ X)) (As := []) (rest := [.int x5_28]) E (mX1_chunk l g A Rs _ _ _ S_26 h_30) (kwX1_X1_chunk E ⟨Nat.le_of_ble_eq_true rfl, Nat.le_of_ble_eq_true rfl⟩) 0 1 rfl rfl rfl hw rfl hl.1 rfl (Nat.le_of_ble_eq_true rfl) dX1_solvesStripe_76 ⟨Nat.le_of_ble_eq_true rfl, Nat.le_of_ble_eq_true rfl⟩ (fun H locs hw => ?_)
        refine lv_icmp_ge (tgt := 112) hx hb dX1_solvesStripe_79 (by decide) (fun c_31 => ?_) (fun c_31 => ?_)
        · replace hB_73 := fx_tt c_31 hB_73
          obtain rfl := fx_ex hB_73 hO_73
          replace hJ_70 := fx_u2_e hJ_70
          exact jn_112 S_26 N_27 hJ_70 _ _ _ hw (lv_sub hl [0, 1] rfl)
        · replace hB_73 := fx_ff c_31 hB_73
          refine lv_aload_n hx hb dX1_solvesStripe_82 rfl (lv_at hl 0 rfl) ?_
          refine lv_iload_n hx hb dX1_solvesStripe_83 rfl (lv_at hl 2 rfl) ?_
          refine lv_iload hx hb dX1_solvesStripe_84 (lv_at hl 5 rfl) ?_
          refine lv_iload_n hx hb dX1_solvesStripe_86 rfl (lv_at hl 3 rfl) ?_
          replace hB_73 := fx_b1_e hB_73
          obtain ⟨S_32, h_33, hB_73⟩ := hB_73
          refine cx_cVv (ws := sC g Rs (some (Rn 100)) im S_26 ++ (stC g Rn N_27 ++ X)) (ws' := sC g Rs (some (Rn 100)) im S_32 ++ (stC g Rn N_27 ++ X)) (As := [.int v_2, .int x5_28, .int r_3]) (rest := []) E (mX1_solves_s l g A Rs Rn _ _ S_26 N_27 v_2 x5_28 r_3 h_33) (kwX1_X1_solves E ⟨Nat.le_of_ble_eq_true rfl, Nat.le_of_ble_eq_true rfl⟩) 0 1 rfl rfl rfl hw rfl hl.1 rfl (Nat.le_of_ble_eq_true rfl) dX1_solvesStripe_87 ⟨Nat.le_of_ble_eq_true rfl, Nat.le_of_ble_eq_true rfl⟩ (fun H locs hw => ?_)
          refine lv_aload_n hx hb dX1_solvesStripe_90 rfl (lv_at hl 0 rfl) ?_
          refine lv_iload_n hx hb dX1_solvesStripe_91 rfl (lv_at hl 2 rfl) ?_
          refine lv_iload hx hb dX1_solvesStripe_92 (lv_at hl 4 rfl) ?_
          refine lv_iload hx hb dX1_solvesStripe_94 (lv_at hl 5 rfl) ?_
          refine lv_aload_n hx hb dX1_solvesStripe_96 rfl (lv_at hl 0 rfl) ?_
          refine gX1_27 E hw dX1_solvesStripe_97 ?_
          refine lv_iload hx hb dX1_solvesStripe_100 (lv_at hl 4 rfl) ?_
          replace hB_73 := fx_gd_e hB_73
          obtain ⟨h_34, hB_73⟩ := hB_73
          refine raX1_27 E hw (fx_in_e h_34) dX1_solvesStripe_102 ?_
          replace hB_73 := fx_b1_e hB_73
          obtain ⟨N_35, h_36, hB_73⟩ := hB_73
          refine cx_cVv (ws := sC g Rs (some (Rn 100)) im S_32 ++ (stC g Rn N_27 ++ X)) (ws' := sC g Rs (some (Rn 100)) im S_32 ++ (stC g Rn N_35 ++ X)) (As := [.int v_2, .int r_5, .int x5_28, .int (gx_A S_32 27 r_5.toNatClampNeg)]) (rest := []) E (mX1_put_s l g A Rs Rn _ _ S_32 N_27 v_2 r_5 x5_28 (gx_A S_32 27 r_5.toNatClampNeg) h_36) (kwX1_X1_put E ⟨Nat.le_of_ble_eq_true rfl, Nat.le_of_ble_eq_true rfl⟩) 0 1 rfl rfl rfl hw rfl hl.1 rfl (Nat.le_of_ble_eq_true rfl) dX1_solvesStripe_103 ⟨Nat.le_of_ble_eq_true rfl, Nat.le_of_ble_eq_true rfl⟩ (fun H locs hw => ?_)
          obtain ⟨v_37, ev_37⟩ : ∃ z : Int32, z = x5_28 + (1 : Int32) := ⟨_, rfl⟩
          replace hB_73 := fx_lt_e ev_37 hB_73
          refine cx_iinc (z := (1 : Int32)) (v := v_37) hx hb dX1_solvesStripe_106 hl (k := 5) rfl (by decide) ev_37 (by decide) rfl (fun ls hl => ?_)
          have hl : lv_has ls 6 [(5, .int v_37), (0, .ref (Rs 100)), (1, .int p1), (2, .int v_2), (3, .int r_3), (4, .int r_5)] := hl
          refine lv_goto (tgt := 73) hx hb dX1_solvesStripe_109 (by decide) ?_
          exact ih_73 S_32 N_35 v_37 (fx_bk hB_73 hO_73) _ _ _ hw (lv_sub hl [1, 2, 3, 4, 5, 0] rfl)
    exact key_73 _ S N_7 (0 : Int32) hL_73 _ _ _ hw (lv_sub hl [1, 2, 3, 4, 5, 0] rfl)
  replace hF := fx_b1_e hF
  obtain ⟨ex_27, hL_27, hF⟩ := hF
  have key_27 : ∀ (n_27 : Nat) (N_40 : Sx) (x5_41 : Int32), fx_lp (LX1_solvesStripe_s_27 S r_3 v_2) n_27 (N_40, x5_41) = some ex_27 → ∀ (H : Heap) (locs : List Loc) (ls : Array Slot), cx_W g A s (sC g Rs (some (Rn 100)) im S ++ (stC g Rn N_40 ++ X)) H locs → lv_has ls 6 [(0, .ref (Rs 100)), (1, .int p1), (2, .int v_2), (3, .int r_3), (4, .int r_5), (5, .int x5_41)] → W p l e rmX1_solvesStripe s m av below meth c H locs 0 0 Q (F0 m 27 ls []) := by
    intro n_27
    induction n_27 with
    | zero => intro N_40 x5_41 hL_27; exact fx_lp_0 hL_27
    | succ n_27 ih_27 =>
      intro N_40 x5_41 hL_27 H locs ls hw hl
      replace hL_27 := fx_lp_s hL_27
      obtain ⟨o_27, hB_27, hO_27⟩ := hL_27
      unfold LX1_solvesStripe_s_27 at hB_27
      replace hB_27 := fx_u2_e hB_27
      refine lv_iload hx hb dX1_solvesStripe_27 (lv_at hl 5 rfl) ?_
      refine lv_aload_n hx hb dX1_solvesStripe_29 rfl (lv_at hl 0 rfl) ?_
      replace hB_27 := fx_b1_e hB_27
      obtain ⟨r_42, h_43, hB_27⟩ := hB_27
      refine cx_cVi (r := r_42) (ws := sC g Rs (some (Rn 100)) im S ++ (stC g Rn N_40 ++ X)) (ws' := sC g Rs (some (Rn 100)) im S ++ (stC g Rn N_40 ++ X)) (As := []) (rest := [.int x5_41]) E (mX1_disks l g A Rs _ _ _ S h_43) (kwX1_X1_disks E ⟨Nat.le_of_ble_eq_true rfl, Nat.le_of_ble_eq_true rfl⟩) 0 1 rfl rfl rfl hw rfl hl.1 rfl (Nat.le_of_ble_eq_true rfl) dX1_solvesStripe_30 ⟨Nat.le_of_ble_eq_true rfl, Nat.le_of_ble_eq_true rfl⟩ (fun H locs hw => ?_)
      refine lv_icmp_ge (tgt := 70) hx hb dX1_solvesStripe_33 (by decide) (fun c_44 => ?_) (fun c_44 => ?_)
      · replace hB_27 := fx_tt c_44 hB_27
        obtain rfl := fx_ex hB_27 hO_27
        exact jn_70 N_40 hF _ _ _ hw (lv_sub hl [0, 1, 2, 3, 4] rfl)
      · replace hB_27 := fx_ff c_44 hB_27
        refine lv_iload_n hx hb dX1_solvesStripe_36 rfl (lv_at hl 3 rfl) ?_
        refine lv_iload hx hb dX1_solvesStripe_37 (lv_at hl 5 rfl) ?_
        replace hB_27 := fx_b1_e hB_27
        obtain ⟨r_45, h_46, hB_27⟩ := hB_27
        refine cx_cSi (r := r_45) (ws := sC g Rs (some (Rn 100)) im S ++ (stC g Rn N_40 ++ X)) (ws' := sC g Rs (some (Rn 100)) im S ++ (stC g Rn N_40 ++ X)) (As := [.int r_3, .int x5_41]) (rest := []) E (mX1_has l g A (sC g Rs (some (Rn 100)) im S ++ (stC g Rn N_40 ++ X)) r_3 x5_41 h_46) (kwX1_X1_has E ⟨Nat.le_of_ble_eq_true rfl, Nat.le_of_ble_eq_true rfl⟩) hw rfl hl.1 rfl (Nat.le_of_ble_eq_true rfl) dX1_solvesStripe_39 ⟨Nat.le_of_ble_eq_true rfl, Nat.le_of_ble_eq_true rfl⟩ (fun H locs hw => ?_)
        have jn_64 : ∀ (N_47 : Sx), JX1_solvesStripe_s_64 x5_41 N_47 = some o_27 → ∀ (H : Heap) (locs : List Loc) (ls : Array Slot), cx_W g A s (sC g Rs (some (Rn 100)) im S ++ (stC g Rn N_47 ++ X)) H locs → lv_has ls 6 [(0, .ref (Rs 100)), (1, .int p1), (2, .int v_2), (3, .int r_3), (4, .int r_5), (5, .int x5_41)] → W p l e rmX1_solvesStripe s m av below meth c H locs 0 0 Q (F0 m 64 ls []) := by
          intro N_47 hJ_64 H locs ls hw hl
          unfold JX1_solvesStripe_s_64 at hJ_64
          obtain ⟨v_48, ev_48⟩ : ∃ z : Int32, z = x5_41 + (1 : Int32) := ⟨_, rfl⟩
          replace hJ_64 := fx_lt_e ev_48 hJ_64
          refine cx_iinc (z := (1 : Int32)) (v := v_48) hx hb dX1_solvesStripe_64 hl (k := 5) rfl (by decide) ev_48 (by decide) rfl (fun ls hl => ?_)
          have hl : lv_has ls 6 [(5, .int v_48), (0, .ref (Rs 100)), (1, .int p1), (2, .int v_2), (3, .int r_3), (4, .int r_5)] := hl
          refine lv_goto (tgt := 27) hx hb dX1_solvesStripe_67 (by decide) ?_
          exact ih_27 N_47 v_48 (fx_bk hJ_64 hO_27) _ _ _ hw (lv_sub hl [1, 2, 3, 4, 5, 0] rfl)
        refine lv_if_ne (tgt := 64) hx hb dX1_solvesStripe_42 (by decide) (fun c_49 => ?_) (fun c_49 => ?_)
        · replace hB_27 := fx_ff c_49 hB_27
          exact jn_64 N_40 hB_27 _ _ _ hw hl
        · replace hB_27 := fx_tt c_49 hB_27
          refine lv_aload_n hx hb dX1_solvesStripe_45 rfl (lv_at hl 0 rfl) ?_
          refine gX1_19s E hw dX1_solvesStripe_46 ?_
          refine lv_aload_n hx hb dX1_solvesStripe_49 rfl (lv_at hl 0 rfl) ?_
          refine lv_iload_n hx hb dX1_solvesStripe_50 rfl (lv_at hl 2 rfl) ?_
          refine lv_iload hx hb dX1_solvesStripe_51 (lv_at hl 5 rfl) ?_
          replace hB_27 := fx_b1_e hB_27
          obtain ⟨r_50, h_51, hB_27⟩ := hB_27
          refine cx_cVi (r := r_50) (ws := sC g Rs (some (Rn 100)) im S ++ (stC g Rn N_40 ++ X)) (ws' := sC g Rs (some (Rn 100)) im S ++ (stC g Rn N_40 ++ X)) (As := [.int v_2, .int x5_41]) (rest := [.ref (Rn 100)]) E (mX1_diskOf l g A Rs _ _ _ S v_2 x5_41 h_51) (kwX1_X1_diskOf E ⟨Nat.le_of_ble_eq_true rfl, Nat.le_of_ble_eq_true rfl⟩) 0 1 rfl rfl rfl hw rfl hl.1 rfl (Nat.le_of_ble_eq_true rfl) dX1_solvesStripe_53 ⟨Nat.le_of_ble_eq_true rfl, Nat.le_of_ble_eq_true rfl⟩ (fun H locs hw => ?_)
          refine lv_aload_n hx hb dX1_solvesStripe_56 rfl (lv_at hl 0 rfl) ?_
          replace hB_27 := fx_b1_e hB_27
          obtain ⟨r_52, h_53, hB_27⟩ := hB_27
          refine cx_cVi (r := r_52) (ws := sC g Rs (some (Rn 100)) im S ++ (stC g Rn N_40 ++ X)) (ws' := sC g Rs (some (Rn 100)) im S ++ (stC g Rn N_40 ++ X)) (As := []) (rest := [.int r_50, .ref (Rn 100)]) E (mX1_chunk l g A Rs _ _ _ S h_53) (kwX1_X1_chunk E ⟨Nat.le_of_ble_eq_true rfl, Nat.le_of_ble_eq_true rfl⟩) 0 1 rfl rfl rfl hw rfl hl.1 rfl (Nat.le_of_ble_eq_true rfl) dX1_solvesStripe_57 ⟨Nat.le_of_ble_eq_true rfl, Nat.le_of_ble_eq_true rfl⟩ (fun H locs hw => ?_)
          replace hB_27 := fx_b2_e hB_27
          obtain ⟨r_54, N_55, h_56, hB_27⟩ := hB_27
          have hw : cx_W g A s (stC g Rn N_40 ++ (sC g Rs (some (Rn 100)) im S ++ X)) H locs := cx_W.perm hw (List.perm_append_comm_assoc _ _ _)
          refine cx_cVi (r := r_54) (ws := stC g Rn N_40 ++ (sC g Rs (some (Rn 100)) im S ++ X)) (ws' := stC g Rn N_55 ++ (sC g Rs (some (Rn 100)) im S ++ X)) (As := [.int r_50, .int r_52]) (rest := []) E (mX7_read l g A Rn _ N_40 r_50 r_52 h_56) (kwX1_X7_read E ⟨Nat.le_of_ble_eq_true rfl, Nat.le_of_ble_eq_true rfl⟩) 0 2 rfl rfl rfl hw rfl hl.1 rfl (Nat.le_of_ble_eq_true rfl) dX1_solvesStripe_60 ⟨Nat.le_of_ble_eq_true rfl, Nat.le_of_ble_eq_true rfl⟩ (fun H locs hw => ?_)
          have hw : cx_W g A s (sC g Rs (some (Rn 100)) im S ++ (stC g Rn N_55 ++ X)) H locs := cx_W.perm hw (List.perm_append_comm_assoc _ _ _)
          refine lv_pop hx hb dX1_solvesStripe_63 rfl ?_
          exact jn_64 N_55 hB_27 _ _ _ hw hl
  exact key_27 _ N (0 : Int32) hL_27 _ _ _ hw (lv_sub hl [4, 5, 3, 2, 1, 0] rfl)
/-! solvesStripe(I)V -/
def FX1_solvesStripe_n (S : Sx) (p1 : Int32) : Option Sx :=
  none
set_option maxHeartbeats 4000000 in
set_option maxRecDepth 100000 in
theorem mX1_solvesStripe_n (l : Launch) (g : Gx) (A : Nat → Prop) (Rs : Nat → Nat) (im : Option Nat) (X : va_W) (S : Sx) (p1 : Int32) {o : Sx} (hF : FX1_solvesStripe_n S p1 = some o) :
    cx_v l yX1_solvesStripe cX1_solvesStripe 6 rmX1_solvesStripe [.ref (Rs 100), .int p1] g A (sC g Rs none im S ++ X) (sC g Rs none im o ++ X) 0 0 := by
  refine cx_v_of (by decide) (Nat.le_of_ble_eq_true rfl) ?_
  intro p e s m av below meth c Q E hret H hw ls hl
  have E : cx_E p m meth c cX1_solvesStripe 6 s av RX1 g A := E
  have hx := E.1.1
  have hb := E.1.2.1
  have hl : lv_has ls 6 [(0, .ref (Rs 100)), (1, .int p1)] := hl
  generalize hlc : ([] : List Loc) = locs at hw ⊢
  clear hlc
  unfold FX1_solvesStripe_n at hF
  refine lv_aload_n hx hb dX1_solvesStripe_0 rfl (lv_at hl 0 rfl) ?_
  refine gX1_19n E hw dX1_solvesStripe_1 ?_
  exact fx_no hF
/-! doneOf(I)I -/
def FX1_doneOf_s (S : Sx) (N : Sx) (p1 : Int32) : Option Int32 :=
  fx_gd (fx_in p1 8) (if (gx_A N 1 p1.toNatClampNeg) = 0 then (fx_b1 (FX1_stripes S) (fun r_4 => some r_4)) else (fx_gd (fx_in p1 8) (some (gx_A N 2 p1.toNatClampNeg))))
set_option maxHeartbeats 4000000 in
set_option maxRecDepth 100000 in
theorem mX1_doneOf_s (l : Launch) (g : Gx) (A : Nat → Prop) (Rs Rn : Nat → Nat) (im : Option Nat) (X : va_W) (S : Sx) (N : Sx) (p1 : Int32) {o : Int32} (hF : FX1_doneOf_s S N p1 = some o) :
    cx_i l yX1_doneOf cX1_doneOf 2 .int rmX1_doneOf [.ref (Rs 100), .int p1] g A (sC g Rs (some (Rn 100)) im S ++ (stC g Rn N ++ X)) o (sC g Rs (some (Rn 100)) im S ++ (stC g Rn N ++ X)) 0 0 := by
  refine cx_i_of (by decide) (Nat.le_of_ble_eq_true rfl) ?_
  intro p e s m av below meth c Q E hret H hw ls hl
  have E : cx_E p m meth c cX1_doneOf 2 s av RX1 g A := E
  have hx := E.1.1
  have hb := E.1.2.1
  have hl : lv_has ls 2 [(0, .ref (Rs 100)), (1, .int p1)] := hl
  generalize hlc : ([] : List Loc) = locs at hw ⊢
  clear hlc
  unfold FX1_doneOf_s at hF
  refine lv_aload_n hx hb dX1_doneOf_0 rfl (lv_at hl 0 rfl) ?_
  refine gX1_19s E hw dX1_doneOf_1 ?_
  refine gNX7_1 E hw dX1_doneOf_4 ?_
  refine lv_iload_n hx hb dX1_doneOf_7 rfl (lv_at hl 1 rfl) ?_
  replace hF := fx_gd_e hF
  obtain ⟨h_1, hF⟩ := hF
  refine raX7_1 E hw (fx_in_e h_1) dX1_doneOf_8 ?_
  refine lv_if_ne (tgt := 19) hx hb dX1_doneOf_9 (by decide) (fun c_2 => ?_) (fun c_2 => ?_)
  · replace hF := fx_ff c_2 hF
    refine lv_aload_n hx hb dX1_doneOf_19 rfl (lv_at hl 0 rfl) ?_
    refine gX1_19s E hw dX1_doneOf_20 ?_
    refine gNX7_2 E hw dX1_doneOf_23 ?_
    refine lv_iload_n hx hb dX1_doneOf_26 rfl (lv_at hl 1 rfl) ?_
    replace hF := fx_gd_e hF
    obtain ⟨h_3, hF⟩ := hF
    refine raX7_2 E hw (fx_in_e h_3) dX1_doneOf_27 ?_
    obtain rfl := Option.some.inj hF
    exact hret _ _ _ _ _ rfl rfl hw dX1_doneOf_28
  · replace hF := fx_tt c_2 hF
    refine lv_aload_n hx hb dX1_doneOf_12 rfl (lv_at hl 0 rfl) ?_
    replace hF := fx_b1_e hF
    obtain ⟨r_4, h_5, hF⟩ := hF
    refine cx_cVi (r := r_4) (ws := sC g Rs (some (Rn 100)) im S ++ (stC g Rn N ++ X)) (ws' := sC g Rs (some (Rn 100)) im S ++ (stC g Rn N ++ X)) (As := []) (rest := []) E (mX1_stripes l g A Rs _ _ _ S h_5) (kwX1_X1_stripes E ⟨Nat.le_of_ble_eq_true rfl, Nat.le_of_ble_eq_true rfl⟩) 0 1 rfl rfl rfl hw rfl hl.1 rfl (Nat.le_of_ble_eq_true rfl) dX1_doneOf_13 ⟨Nat.le_of_ble_eq_true rfl, Nat.le_of_ble_eq_true rfl⟩ (fun H locs hw => ?_)
    refine lv_goto (tgt := 28) hx hb dX1_doneOf_16 (by decide) ?_
    obtain rfl := Option.some.inj hF
    exact hret _ _ _ _ _ rfl rfl hw dX1_doneOf_28
/-! doneOf(I)I -/
def FX1_doneOf_n (S : Sx) (p1 : Int32) : Option Int32 :=
  none
set_option maxHeartbeats 4000000 in
set_option maxRecDepth 100000 in
theorem mX1_doneOf_n (l : Launch) (g : Gx) (A : Nat → Prop) (Rs : Nat → Nat) (im : Option Nat) (X : va_W) (S : Sx) (p1 : Int32) {o : Int32} (hF : FX1_doneOf_n S p1 = some o) :
    cx_i l yX1_doneOf cX1_doneOf 2 .int rmX1_doneOf [.ref (Rs 100), .int p1] g A (sC g Rs none im S ++ X) o (sC g Rs none im S ++ X) 0 0 := by
  refine cx_i_of (by decide) (Nat.le_of_ble_eq_true rfl) ?_
  intro p e s m av below meth c Q E hret H hw ls hl
  have E : cx_E p m meth c cX1_doneOf 2 s av RX1 g A := E
  have hx := E.1.1
  have hb := E.1.2.1
  have hl : lv_has ls 2 [(0, .ref (Rs 100)), (1, .int p1)] := hl
  generalize hlc : ([] : List Loc) = locs at hw ⊢
  clear hlc
  unfold FX1_doneOf_n at hF
  refine lv_aload_n hx hb dX1_doneOf_0 rfl (lv_at hl 0 rfl) ?_
  refine gX1_19n E hw dX1_doneOf_1 ?_
  exact fx_no hF
/-! rebuildsNow(II)I -/
def JX1_rebuildsNow_s_31 (S_1 : Sx) (N_2 : Sx) (p1 : Int32) : Option (Int32 × Sx × Sx) :=
  fx_b1 (FX1_doneOf_s S_1 N_2 p1) (fun r_3 => some (r_3, S_1, N_2))
def LX1_rebuildsNow_s_2 (p2 : Int32) (p1 : Int32) (q_ : Sx × Sx × Int32) : Option ((Sx × Sx × Int32) ⊕ (Sx × Sx)) :=
  fx_u3 q_ (fun S_5 N_6 x3_7 => if p2 ≤ x3_7 then (some (.inr (S_5, N_6))) else (fx_gd (fx_in p1 8) (if (gx_A N_6 1 p1.toNatClampNeg) = (2 : Int32) then (fx_b2 (FX1_solvesStripe_s S_5 N_6 p1) (fun S_11 N_12 => fx_lt (x3_7 + (1 : Int32)) (fun v_14 => some (.inl (S_11, N_12, v_14))))) else (some (.inr (S_5, N_6))))))
def FX1_rebuildsNow_s (S : Sx) (N : Sx) (p1 : Int32) (p2 : Int32) : Option (Int32 × Sx × Sx) :=
  fx_b1 (fx_lp (LX1_rebuildsNow_s_2 p2 p1) 2000 (S, N, (0 : Int32))) (fun q_ => fx_u2 q_ (fun S_15 N_16 => JX1_rebuildsNow_s_31 S_15 N_16 p1))
set_option maxHeartbeats 4000000 in
set_option maxRecDepth 100000 in
theorem mX1_rebuildsNow_s (l : Launch) (g : Gx) (A : Nat → Prop) (Rs Rn : Nat → Nat) (im : Option Nat) (X : va_W) (S : Sx) (N : Sx) (p1 : Int32) (p2 : Int32) {o : Int32 × Sx × Sx} (hF : FX1_rebuildsNow_s S N p1 p2 = some o) :
    cx_i l yX1_rebuildsNow cX1_rebuildsNow 4 .int rmX1_rebuildsNow [.ref (Rs 100), .int p1, .int p2] g A (sC g Rs (some (Rn 100)) im S ++ (stC g Rn N ++ X)) o.1 (sC g Rs (some (Rn 100)) im o.2.1 ++ (stC g Rn o.2.2 ++ X)) 0 0 := by
  refine cx_i_of (by decide) (Nat.le_of_ble_eq_true rfl) ?_
  intro p e s m av below meth c Q E hret H hw ls hl
  have E : cx_E p m meth c cX1_rebuildsNow 4 s av RX1 g A := E
  have hx := E.1.1
  have hb := E.1.2.1
  have hl : lv_has ls 4 [(0, .ref (Rs 100)), (1, .int p1), (2, .int p2)] := hl
  generalize hlc : ([] : List Loc) = locs at hw ⊢
  clear hlc
  unfold FX1_rebuildsNow_s at hF
  refine lv_iconst (v := (0 : Int32)) hx hb dX1_rebuildsNow_0 (by decide) ?_
  refine lv_istore_n hx hb dX1_rebuildsNow_1 rfl hl (by decide) rfl (fun ls hl => ?_)
  have hl : lv_has ls 4 [(3, .int (0 : Int32)), (0, .ref (Rs 100)), (1, .int p1), (2, .int p2)] := hl
  have jn_31 : ∀ (S_1 : Sx) (N_2 : Sx), JX1_rebuildsNow_s_31 S_1 N_2 p1 = some o → ∀ (H : Heap) (locs : List Loc) (ls : Array Slot), cx_W g A s (sC g Rs (some (Rn 100)) im S_1 ++ (stC g Rn N_2 ++ X)) H locs → lv_has ls 4 [(0, .ref (Rs 100)), (1, .int p1)] → W p l e rmX1_rebuildsNow s m av below meth c H locs 0 0 Q (F0 m 31 ls []) := by
    intro S_1 N_2 hJ_31 H locs ls hw hl
    unfold JX1_rebuildsNow_s_31 at hJ_31
    refine lv_aload_n hx hb dX1_rebuildsNow_31 rfl (lv_at hl 0 rfl) ?_
    refine lv_iload_n hx hb dX1_rebuildsNow_32 rfl (lv_at hl 1 rfl) ?_
    replace hJ_31 := fx_b1_e hJ_31
    obtain ⟨r_3, h_4, hJ_31⟩ := hJ_31
    refine cx_cVi (r := r_3) (ws := sC g Rs (some (Rn 100)) im S_1 ++ (stC g Rn N_2 ++ X)) (ws' := sC g Rs (some (Rn 100)) im S_1 ++ (stC g Rn N_2 ++ X)) (As := [.int p1]) (rest := []) E (mX1_doneOf_s l g A Rs Rn _ _ S_1 N_2 p1 h_4) (kwX1_X1_doneOf E ⟨Nat.le_of_ble_eq_true rfl, Nat.le_of_ble_eq_true rfl⟩) 0 1 rfl rfl rfl hw rfl hl.1 rfl (Nat.le_of_ble_eq_true rfl) dX1_rebuildsNow_33 ⟨Nat.le_of_ble_eq_true rfl, Nat.le_of_ble_eq_true rfl⟩ (fun H locs hw => ?_)
    obtain rfl := Option.some.inj hJ_31
    exact hret _ _ _ _ _ rfl rfl hw dX1_rebuildsNow_36
  replace hF := fx_b1_e hF
  obtain ⟨ex_2, hL_2, hF⟩ := hF
  have key_2 : ∀ (n_2 : Nat) (S_5 : Sx) (N_6 : Sx) (x3_7 : Int32), fx_lp (LX1_rebuildsNow_s_2 p2 p1) n_2 (S_5, N_6, x3_7) = some ex_2 → ∀ (H : Heap) (locs : List Loc) (ls : Array Slot), cx_W g A s (sC g Rs (some (Rn 100)) im S_5 ++ (stC g Rn N_6 ++ X)) H locs → lv_has ls 4 [(0, .ref (Rs 100)), (1, .int p1), (2, .int p2), (3, .int x3_7)] → W p l e rmX1_rebuildsNow s m av below meth c H locs 0 0 Q (F0 m 2 ls []) := by
    intro n_2
    induction n_2 with
    | zero => intro S_5 N_6 x3_7 hL_2; exact fx_lp_0 hL_2
    | succ n_2 ih_2 =>
      intro S_5 N_6 x3_7 hL_2 H locs ls hw hl
      replace hL_2 := fx_lp_s hL_2
      obtain ⟨o_2, hB_2, hO_2⟩ := hL_2
      unfold LX1_rebuildsNow_s_2 at hB_2
      replace hB_2 := fx_u3_e hB_2
      refine lv_iload_n hx hb dX1_rebuildsNow_2 rfl (lv_at hl 3 rfl) ?_
      refine lv_iload_n hx hb dX1_rebuildsNow_3 rfl (lv_at hl 2 rfl) ?_
      refine lv_icmp_ge (tgt := 31) hx hb dX1_rebuildsNow_4 (by decide) (fun c_8 => ?_) (fun c_8 => ?_)
      · replace hB_2 := fx_tt c_8 hB_2
        obtain rfl := fx_ex hB_2 hO_2
        replace hF := fx_u2_e hF
        exact jn_31 S_5 N_6 hF _ _ _ hw (lv_sub hl [0, 1] rfl)
      · replace hB_2 := fx_ff c_8 hB_2
        refine lv_aload_n hx hb dX1_rebuildsNow_7 rfl (lv_at hl 0 rfl) ?_
        refine gX1_19s E hw dX1_rebuildsNow_8 ?_
        refine gNX7_1 E hw dX1_rebuildsNow_11 ?_
        refine lv_iload_n hx hb dX1_rebuildsNow_14 rfl (lv_at hl 1 rfl) ?_
        replace hB_2 := fx_gd_e hB_2
        obtain ⟨h_9, hB_2⟩ := hB_2
        refine raX7_1 E hw (fx_in_e h_9) dX1_rebuildsNow_15 ?_
        refine lv_iconst (v := (2 : Int32)) hx hb dX1_rebuildsNow_16 (by decide) ?_
        refine lv_icmp_ne (tgt := 31) hx hb dX1_rebuildsNow_17 (by decide) (fun c_10 => ?_) (fun c_10 => ?_)
        · replace hB_2 := fx_ff c_10 hB_2
          obtain rfl := fx_ex hB_2 hO_2
          replace hF := fx_u2_e hF
          exact jn_31 S_5 N_6 hF _ _ _ hw (lv_sub hl [0, 1] rfl)
        · replace hB_2 := fx_tt c_10 hB_2
          refine lv_aload_n hx hb dX1_rebuildsNow_20 rfl (lv_at hl 0 rfl) ?_
          refine lv_iload_n hx hb dX1_rebuildsNow_21 rfl (lv_at hl 1 rfl) ?_
          replace hB_2 := fx_b2_e hB_2
          obtain ⟨S_11, N_12, h_13, hB_2⟩ := hB_2
          refine cx_cVv (ws := sC g Rs (some (Rn 100)) im S_5 ++ (stC g Rn N_6 ++ X)) (ws' := sC g Rs (some (Rn 100)) im S_11 ++ (stC g Rn N_12 ++ X)) (As := [.int p1]) (rest := []) E (mX1_solvesStripe_s l g A Rs Rn _ _ S_5 N_6 p1 h_13) (kwX1_X1_solvesStripe E ⟨Nat.le_of_ble_eq_true rfl, Nat.le_of_ble_eq_true rfl⟩) 0 1 rfl rfl rfl hw rfl hl.1 rfl (Nat.le_of_ble_eq_true rfl) dX1_rebuildsNow_22 ⟨Nat.le_of_ble_eq_true rfl, Nat.le_of_ble_eq_true rfl⟩ (fun H locs hw => ?_)
          obtain ⟨v_14, ev_14⟩ : ∃ z : Int32, z = x3_7 + (1 : Int32) := ⟨_, rfl⟩
          replace hB_2 := fx_lt_e ev_14 hB_2
          refine cx_iinc (z := (1 : Int32)) (v := v_14) hx hb dX1_rebuildsNow_25 hl (k := 3) rfl (by decide) ev_14 (by decide) rfl (fun ls hl => ?_)
          have hl : lv_has ls 4 [(3, .int v_14), (0, .ref (Rs 100)), (1, .int p1), (2, .int p2)] := hl
          refine lv_goto (tgt := 2) hx hb dX1_rebuildsNow_28 (by decide) ?_
          exact ih_2 S_11 N_12 v_14 (fx_bk hB_2 hO_2) _ _ _ hw (lv_sub hl [1, 2, 3, 0] rfl)
  exact key_2 _ S N (0 : Int32) hL_2 _ _ _ hw (lv_sub hl [1, 2, 3, 0] rfl)
/-! rebuildsNow(II)I -/
def JX1_rebuildsNow_n_31 (S_1 : Sx) (p1 : Int32) : Option (Int32 × Sx) :=
  fx_b1 (FX1_doneOf_n S_1 p1) (fun r_2 => some (r_2, S_1))
def LX1_rebuildsNow_n_2 (p2 : Int32) (q_ : Sx × Int32) : Option ((Sx × Int32) ⊕ (Sx)) :=
  fx_u2 q_ (fun S_4 x3_5 => if p2 ≤ x3_5 then (some (.inr S_4)) else none)
def FX1_rebuildsNow_n (S : Sx) (p1 : Int32) (p2 : Int32) : Option (Int32 × Sx) :=
  fx_b1 (fx_lp (LX1_rebuildsNow_n_2 p2) 2000 (S, (0 : Int32))) (fun S_7 => JX1_rebuildsNow_n_31 S_7 p1)
set_option maxHeartbeats 4000000 in
set_option maxRecDepth 100000 in
theorem mX1_rebuildsNow_n (l : Launch) (g : Gx) (A : Nat → Prop) (Rs : Nat → Nat) (im : Option Nat) (X : va_W) (S : Sx) (p1 : Int32) (p2 : Int32) {o : Int32 × Sx} (hF : FX1_rebuildsNow_n S p1 p2 = some o) :
    cx_i l yX1_rebuildsNow cX1_rebuildsNow 4 .int rmX1_rebuildsNow [.ref (Rs 100), .int p1, .int p2] g A (sC g Rs none im S ++ X) o.1 (sC g Rs none im o.2 ++ X) 0 0 := by
  refine cx_i_of (by decide) (Nat.le_of_ble_eq_true rfl) ?_
  intro p e s m av below meth c Q E hret H hw ls hl
  have E : cx_E p m meth c cX1_rebuildsNow 4 s av RX1 g A := E
  have hx := E.1.1
  have hb := E.1.2.1
  have hl : lv_has ls 4 [(0, .ref (Rs 100)), (1, .int p1), (2, .int p2)] := hl
  generalize hlc : ([] : List Loc) = locs at hw ⊢
  clear hlc
  unfold FX1_rebuildsNow_n at hF
  refine lv_iconst (v := (0 : Int32)) hx hb dX1_rebuildsNow_0 (by decide) ?_
  refine lv_istore_n hx hb dX1_rebuildsNow_1 rfl hl (by decide) rfl (fun ls hl => ?_)
  have hl : lv_has ls 4 [(3, .int (0 : Int32)), (0, .ref (Rs 100)), (1, .int p1), (2, .int p2)] := hl
  have jn_31 : ∀ (S_1 : Sx), JX1_rebuildsNow_n_31 S_1 p1 = some o → ∀ (H : Heap) (locs : List Loc) (ls : Array Slot), cx_W g A s (sC g Rs none im S_1 ++ X) H locs → lv_has ls 4 [(0, .ref (Rs 100)), (1, .int p1)] → W p l e rmX1_rebuildsNow s m av below meth c H locs 0 0 Q (F0 m 31 ls []) := by
    intro S_1 hJ_31 H locs ls hw hl
    unfold JX1_rebuildsNow_n_31 at hJ_31
    refine lv_aload_n hx hb dX1_rebuildsNow_31 rfl (lv_at hl 0 rfl) ?_
    refine lv_iload_n hx hb dX1_rebuildsNow_32 rfl (lv_at hl 1 rfl) ?_
    replace hJ_31 := fx_b1_e hJ_31
    obtain ⟨r_2, h_3, hJ_31⟩ := hJ_31
    refine cx_cVi (r := r_2) (ws := sC g Rs none im S_1 ++ X) (ws' := sC g Rs none im S_1 ++ X) (As := [.int p1]) (rest := []) E (mX1_doneOf_n l g A Rs _ _ S_1 p1 h_3) (kwX1_X1_doneOf E ⟨Nat.le_of_ble_eq_true rfl, Nat.le_of_ble_eq_true rfl⟩) 0 1 rfl rfl rfl hw rfl hl.1 rfl (Nat.le_of_ble_eq_true rfl) dX1_rebuildsNow_33 ⟨Nat.le_of_ble_eq_true rfl, Nat.le_of_ble_eq_true rfl⟩ (fun H locs hw => ?_)
    obtain rfl := Option.some.inj hJ_31
    exact hret _ _ _ _ _ rfl rfl hw dX1_rebuildsNow_36
  replace hF := fx_b1_e hF
  obtain ⟨ex_2, hL_2, hF⟩ := hF
  have key_2 : ∀ (n_2 : Nat) (S_4 : Sx) (x3_5 : Int32), fx_lp (LX1_rebuildsNow_n_2 p2) n_2 (S_4, x3_5) = some ex_2 → ∀ (H : Heap) (locs : List Loc) (ls : Array Slot), cx_W g A s (sC g Rs none im S_4 ++ X) H locs → lv_has ls 4 [(0, .ref (Rs 100)), (1, .int p1), (2, .int p2), (3, .int x3_5)] → W p l e rmX1_rebuildsNow s m av below meth c H locs 0 0 Q (F0 m 2 ls []) := by
    intro n_2
    induction n_2 with
    | zero => intro S_4 x3_5 hL_2; exact fx_lp_0 hL_2
    | succ n_2 ih_2 =>
      intro S_4 x3_5 hL_2 H locs ls hw hl
      replace hL_2 := fx_lp_s hL_2
      obtain ⟨o_2, hB_2, hO_2⟩ := hL_2
      unfold LX1_rebuildsNow_n_2 at hB_2
      replace hB_2 := fx_u2_e hB_2
      refine lv_iload_n hx hb dX1_rebuildsNow_2 rfl (lv_at hl 3 rfl) ?_
      refine lv_iload_n hx hb dX1_rebuildsNow_3 rfl (lv_at hl 2 rfl) ?_
      refine lv_icmp_ge (tgt := 31) hx hb dX1_rebuildsNow_4 (by decide) (fun c_6 => ?_) (fun c_6 => ?_)
      · replace hB_2 := fx_tt c_6 hB_2
        obtain rfl := fx_ex hB_2 hO_2
        exact jn_31 S_4 hF _ _ _ hw (lv_sub hl [0, 1] rfl)
      · replace hB_2 := fx_ff c_6 hB_2
        refine lv_aload_n hx hb dX1_rebuildsNow_7 rfl (lv_at hl 0 rfl) ?_
        refine gX1_19n E hw dX1_rebuildsNow_8 ?_
        exact fx_no hB_2
  exact key_2 _ S (0 : Int32) hL_2 _ _ _ hw (lv_sub hl [1, 2, 3, 0] rfl)
/-! isClear(I)Z -/
def FX1_isClear_s (S : Sx) (N : Sx) (p1 : Int32) : Option Int32 :=
  fx_b1 (FX1_absent_s S N p1) (fun r_1 => if r_1 = 0 then (fx_b1 (FX1_has (gx_I N 6) p1) (fun r_4 => if r_4 = 0 then (some (1 : Int32)) else (some (0 : Int32)))) else (some (0 : Int32)))
set_option maxHeartbeats 4000000 in
set_option maxRecDepth 100000 in
theorem mX1_isClear_s (l : Launch) (g : Gx) (A : Nat → Prop) (Rs Rn : Nat → Nat) (im : Option Nat) (X : va_W) (S : Sx) (N : Sx) (p1 : Int32) {o : Int32} (hF : FX1_isClear_s S N p1 = some o) :
    cx_i l yX1_isClear cX1_isClear 2 .boolean rmX1_isClear [.ref (Rs 100), .int p1] g A (sC g Rs (some (Rn 100)) im S ++ (stC g Rn N ++ X)) o (sC g Rs (some (Rn 100)) im S ++ (stC g Rn N ++ X)) 0 0 := by
  refine cx_i_of (by decide) (Nat.le_of_ble_eq_true rfl) ?_
  intro p e s m av below meth c Q E hret H hw ls hl
  have E : cx_E p m meth c cX1_isClear 2 s av RX1 g A := E
  have hx := E.1.1
  have hb := E.1.2.1
  have hl : lv_has ls 2 [(0, .ref (Rs 100)), (1, .int p1)] := hl
  generalize hlc : ([] : List Loc) = locs at hw ⊢
  clear hlc
  unfold FX1_isClear_s at hF
  refine lv_aload_n hx hb dX1_isClear_0 rfl (lv_at hl 0 rfl) ?_
  refine lv_iload_n hx hb dX1_isClear_1 rfl (lv_at hl 1 rfl) ?_
  replace hF := fx_b1_e hF
  obtain ⟨r_1, h_2, hF⟩ := hF
  refine cx_cVi (r := r_1) (ws := sC g Rs (some (Rn 100)) im S ++ (stC g Rn N ++ X)) (ws' := sC g Rs (some (Rn 100)) im S ++ (stC g Rn N ++ X)) (As := [.int p1]) (rest := []) E (mX1_absent_s l g A Rs Rn _ _ S N p1 h_2) (kwX1_X1_absent E ⟨Nat.le_of_ble_eq_true rfl, Nat.le_of_ble_eq_true rfl⟩) 0 1 rfl rfl rfl hw rfl hl.1 rfl (Nat.le_of_ble_eq_true rfl) dX1_isClear_2 ⟨Nat.le_of_ble_eq_true rfl, Nat.le_of_ble_eq_true rfl⟩ (fun H locs hw => ?_)
  refine lv_if_ne (tgt := 26) hx hb dX1_isClear_5 (by decide) (fun c_3 => ?_) (fun c_3 => ?_)
  · replace hF := fx_ff c_3 hF
    refine lv_iconst (v := (0 : Int32)) hx hb dX1_isClear_26 (by decide) ?_
    obtain rfl := Option.some.inj hF
    exact hret _ _ _ _ _ rfl (by decide) hw dX1_isClear_27
  · replace hF := fx_tt c_3 hF
    refine lv_aload_n hx hb dX1_isClear_8 rfl (lv_at hl 0 rfl) ?_
    refine gX1_19s E hw dX1_isClear_9 ?_
    refine gNX7_6 E hw dX1_isClear_12 ?_
    refine lv_iload_n hx hb dX1_isClear_15 rfl (lv_at hl 1 rfl) ?_
    replace hF := fx_b1_e hF
    obtain ⟨r_4, h_5, hF⟩ := hF
    refine cx_cSi (r := r_4) (ws := sC g Rs (some (Rn 100)) im S ++ (stC g Rn N ++ X)) (ws' := sC g Rs (some (Rn 100)) im S ++ (stC g Rn N ++ X)) (As := [.int (gx_I N 6), .int p1]) (rest := []) E (mX1_has l g A (sC g Rs (some (Rn 100)) im S ++ (stC g Rn N ++ X)) (gx_I N 6) p1 h_5) (kwX1_X1_has E ⟨Nat.le_of_ble_eq_true rfl, Nat.le_of_ble_eq_true rfl⟩) hw rfl hl.1 rfl (Nat.le_of_ble_eq_true rfl) dX1_isClear_16 ⟨Nat.le_of_ble_eq_true rfl, Nat.le_of_ble_eq_true rfl⟩ (fun H locs hw => ?_)
    refine lv_if_ne (tgt := 26) hx hb dX1_isClear_19 (by decide) (fun c_6 => ?_) (fun c_6 => ?_)
    · replace hF := fx_ff c_6 hF
      refine lv_iconst (v := (0 : Int32)) hx hb dX1_isClear_26 (by decide) ?_
      obtain rfl := Option.some.inj hF
      exact hret _ _ _ _ _ rfl (by decide) hw dX1_isClear_27
    · replace hF := fx_tt c_6 hF
      refine lv_iconst (v := (1 : Int32)) hx hb dX1_isClear_22 (by decide) ?_
      refine lv_goto (tgt := 27) hx hb dX1_isClear_23 (by decide) ?_
      obtain rfl := Option.some.inj hF
      exact hret _ _ _ _ _ rfl (by decide) hw dX1_isClear_27
/-! isClear(I)Z -/
def FX1_isClear_n (S : Sx) (p1 : Int32) : Option Int32 :=
  fx_b1 (FX1_absent_n S p1) (fun r_1 => if r_1 = 0 then none else (some (0 : Int32)))
set_option maxHeartbeats 4000000 in
set_option maxRecDepth 100000 in
theorem mX1_isClear_n (l : Launch) (g : Gx) (A : Nat → Prop) (Rs : Nat → Nat) (im : Option Nat) (X : va_W) (S : Sx) (p1 : Int32) {o : Int32} (hF : FX1_isClear_n S p1 = some o) :
    cx_i l yX1_isClear cX1_isClear 2 .boolean rmX1_isClear [.ref (Rs 100), .int p1] g A (sC g Rs none im S ++ X) o (sC g Rs none im S ++ X) 0 0 := by
  refine cx_i_of (by decide) (Nat.le_of_ble_eq_true rfl) ?_
  intro p e s m av below meth c Q E hret H hw ls hl
  have E : cx_E p m meth c cX1_isClear 2 s av RX1 g A := E
  have hx := E.1.1
  have hb := E.1.2.1
  have hl : lv_has ls 2 [(0, .ref (Rs 100)), (1, .int p1)] := hl
  generalize hlc : ([] : List Loc) = locs at hw ⊢
  clear hlc
  unfold FX1_isClear_n at hF
  refine lv_aload_n hx hb dX1_isClear_0 rfl (lv_at hl 0 rfl) ?_
  refine lv_iload_n hx hb dX1_isClear_1 rfl (lv_at hl 1 rfl) ?_
  replace hF := fx_b1_e hF
  obtain ⟨r_1, h_2, hF⟩ := hF
  refine cx_cVi (r := r_1) (ws := sC g Rs none im S ++ X) (ws' := sC g Rs none im S ++ X) (As := [.int p1]) (rest := []) E (mX1_absent_n l g A Rs _ _ S p1 h_2) (kwX1_X1_absent E ⟨Nat.le_of_ble_eq_true rfl, Nat.le_of_ble_eq_true rfl⟩) 0 1 rfl rfl rfl hw rfl hl.1 rfl (Nat.le_of_ble_eq_true rfl) dX1_isClear_2 ⟨Nat.le_of_ble_eq_true rfl, Nat.le_of_ble_eq_true rfl⟩ (fun H locs hw => ?_)
  refine lv_if_ne (tgt := 26) hx hb dX1_isClear_5 (by decide) (fun c_3 => ?_) (fun c_3 => ?_)
  · replace hF := fx_ff c_3 hF
    refine lv_iconst (v := (0 : Int32)) hx hb dX1_isClear_26 (by decide) ?_
    obtain rfl := Option.some.inj hF
    exact hret _ _ _ _ _ rfl (by decide) hw dX1_isClear_27
  · replace hF := fx_tt c_3 hF
    refine lv_aload_n hx hb dX1_isClear_8 rfl (lv_at hl 0 rfl) ?_
    refine gX1_19n E hw dX1_isClear_9 ?_
    exact fx_no hF
/-! wrongPart(II)I -/
def FX1_wrongPart_s (S : Sx) (N : Sx) (p1 : Int32) (p2 : Int32) : Option (Int32 × Sx) :=
  fx_b1 (FX1_data S) (fun r_1 => fx_b1 (FX1_solves_s S N p1 p2 (0 : Int32)) (fun S_3 => fx_gd (fx_in r_1 8) (fx_b1 (FX1_sumWithout S_3 (0 : Int32)) (fun r_6 => fx_lt (px_I S_3 29 ((gx_A S_3 27 r_1.toNatClampNeg) ^^^ r_6)) (fun S_8 => fx_gd (fx_in (r_1 + (1 : Int32)) 8) (fx_b1 (FX1_weighedWithout S_8 (0 : Int32)) (fun r_10 => fx_lt (px_I S_8 30 ((gx_A S_8 27 (r_1 + (1 : Int32)).toNatClampNeg) ^^^ r_10)) (fun S_12 => if (gx_I S_12 29) = 0 then (if (gx_I S_12 30) = 0 then (some ((-1 : Int32), S_12)) else (some ((r_1 + (1 : Int32)), S_12))) else (if (gx_I S_12 30) = 0 then (some (r_1, S_12)) else (fx_b1 (FX3_over S_12 (gx_I S_12 30) (gx_I S_12 29)) (fun r_15 => fx_gd (fx_in r_15 256) (fx_lt (gx_A S_12 41 r_15.toNatClampNeg) (fun v_18 => if r_1 ≤ v_18 then (some ((-2 : Int32), S_12)) else (some (v_18, S_12)))))))))))))))
set_option maxHeartbeats 4000000 in
set_option maxRecDepth 100000 in
theorem mX1_wrongPart_s (l : Launch) (g : Gx) (A : Nat → Prop) (Rs Rn : Nat → Nat) (im : Option Nat) (X : va_W) (S : Sx) (N : Sx) (p1 : Int32) (p2 : Int32) {o : Int32 × Sx} (hF : FX1_wrongPart_s S N p1 p2 = some o) :
    cx_i l yX1_wrongPart cX1_wrongPart 5 .int rmX1_wrongPart [.ref (Rs 100), .int p1, .int p2] g A (sC g Rs (some (Rn 100)) im S ++ (stC g Rn N ++ X)) o.1 (sC g Rs (some (Rn 100)) im o.2 ++ (stC g Rn N ++ X)) 0 0 := by
  refine cx_i_of (by decide) (Nat.le_of_ble_eq_true rfl) ?_
  intro p e s m av below meth c Q E hret H hw ls hl
  have E : cx_E p m meth c cX1_wrongPart 5 s av RX1 g A := E
  have hx := E.1.1
  have hb := E.1.2.1
  have hl : lv_has ls 5 [(0, .ref (Rs 100)), (1, .int p1), (2, .int p2)] := hl
  generalize hlc : ([] : List Loc) = locs at hw ⊢
  clear hlc
  unfold FX1_wrongPart_s at hF
  refine lv_aload_n hx hb dX1_wrongPart_0 rfl (lv_at hl 0 rfl) ?_
  replace hF := fx_b1_e hF
  obtain ⟨r_1, h_2, hF⟩ := hF
  refine cx_cVi (r := r_1) (ws := sC g Rs (some (Rn 100)) im S ++ (stC g Rn N ++ X)) (ws' := sC g Rs (some (Rn 100)) im S ++ (stC g Rn N ++ X)) (As := []) (rest := []) E (mX1_data l g A Rs _ _ _ S h_2) (kwX1_X1_data E ⟨Nat.le_of_ble_eq_true rfl, Nat.le_of_ble_eq_true rfl⟩) 0 1 rfl rfl rfl hw rfl hl.1 rfl (Nat.le_of_ble_eq_true rfl) dX1_wrongPart_1 ⟨Nat.le_of_ble_eq_true rfl, Nat.le_of_ble_eq_true rfl⟩ (fun H locs hw => ?_)
  refine lv_istore_n hx hb dX1_wrongPart_4 rfl hl (by decide) rfl (fun ls hl => ?_)
  have hl : lv_has ls 5 [(3, .int r_1), (0, .ref (Rs 100)), (1, .int p1), (2, .int p2)] := hl
  refine lv_aload_n hx hb dX1_wrongPart_5 rfl (lv_at hl 1 rfl) ?_
  refine lv_iload_n hx hb dX1_wrongPart_6 rfl (lv_at hl 2 rfl) ?_
  refine lv_iload_n hx hb dX1_wrongPart_7 rfl (lv_at hl 3 rfl) ?_
  refine lv_iconst (v := (0 : Int32)) hx hb dX1_wrongPart_8 (by decide) ?_
  replace hF := fx_b1_e hF
  obtain ⟨S_3, h_4, hF⟩ := hF
  refine cx_cVv (ws := sC g Rs (some (Rn 100)) im S ++ (stC g Rn N ++ X)) (ws' := sC g Rs (some (Rn 100)) im S_3 ++ (stC g Rn N ++ X)) (As := [.int p1, .int p2, .int (0 : Int32)]) (rest := []) E (mX1_solves_s l g A Rs Rn _ _ S N p1 p2 (0 : Int32) h_4) (kwX1_X1_solves E ⟨Nat.le_of_ble_eq_true rfl, Nat.le_of_ble_eq_true rfl⟩) 0 1 rfl rfl rfl hw rfl hl.1 rfl (Nat.le_of_ble_eq_true rfl) dX1_wrongPart_9 ⟨Nat.le_of_ble_eq_true rfl, Nat.le_of_ble_eq_true rfl⟩ (fun H locs hw => ?_)
  refine lv_aload_n hx hb dX1_wrongPart_12 rfl (lv_at hl 1 rfl) ?_
  refine lv_aload_n hx hb dX1_wrongPart_13 rfl (lv_at hl 1 rfl) ?_
  refine gX1_27 E hw dX1_wrongPart_14 ?_
  refine lv_iload_n hx hb dX1_wrongPart_17 rfl (lv_at hl 0 rfl) ?_
  replace hF := fx_gd_e hF
  obtain ⟨h_5, hF⟩ := hF
  refine raX1_27 E hw (fx_in_e h_5) dX1_wrongPart_18 ?_
  refine lv_aload_n hx hb dX1_wrongPart_19 rfl (lv_at hl 1 rfl) ?_
  refine lv_iconst (v := (0 : Int32)) hx hb dX1_wrongPart_20 (by decide) ?_
  replace hF := fx_b1_e hF
  obtain ⟨r_6, h_7, hF⟩ := hF
  refine cx_cVi (r := r_6) (ws := sC g Rs (some (Rn 100)) im S_3 ++ (stC g Rn N ++ X)) (ws' := sC g Rs (some (Rn 100)) im S_3 ++ (stC g Rn N ++ X)) (As := [.int (0 : Int32)]) (rest := [.int (gx_A S_3 27 r_1.toNatClampNeg), .ref (Rs 100)]) E (mX1_sumWithout l g A Rs _ _ _ S_3 (0 : Int32) h_7) (kwX1_X1_sumWithout E ⟨Nat.le_of_ble_eq_true rfl, Nat.le_of_ble_eq_true rfl⟩) 0 1 rfl rfl rfl hw rfl hl.1 rfl (Nat.le_of_ble_eq_true rfl) dX1_wrongPart_21 ⟨Nat.le_of_ble_eq_true rfl, Nat.le_of_ble_eq_true rfl⟩ (fun H locs hw => ?_)
  refine lv_ixor hx hb dX1_wrongPart_24 ?_
  obtain ⟨S_8, eS_8⟩ : ∃ z : Sx, z = px_I S_3 29 ((gx_A S_3 27 r_1.toNatClampNeg) ^^^ r_6) := ⟨_, rfl⟩
  replace hF := fx_lt_e eS_8 hF
  refine pX1_29 eS_8 E hw dX1_wrongPart_25 (fun H locs hw => ?_)
  refine lv_aload_n hx hb dX1_wrongPart_28 rfl (lv_at hl 1 rfl) ?_
  refine lv_aload_n hx hb dX1_wrongPart_29 rfl (lv_at hl 1 rfl) ?_
  refine gX1_27 E hw dX1_wrongPart_30 ?_
  refine lv_iload_n hx hb dX1_wrongPart_33 rfl (lv_at hl 0 rfl) ?_
  refine lv_iconst (v := (1 : Int32)) hx hb dX1_wrongPart_34 (by decide) ?_
  refine lv_iadd hx hb dX1_wrongPart_35 ?_
  replace hF := fx_gd_e hF
  obtain ⟨h_9, hF⟩ := hF
  refine raX1_27 E hw (fx_in_e h_9) dX1_wrongPart_36 ?_
  refine lv_aload_n hx hb dX1_wrongPart_37 rfl (lv_at hl 1 rfl) ?_
  refine lv_iconst (v := (0 : Int32)) hx hb dX1_wrongPart_38 (by decide) ?_
  replace hF := fx_b1_e hF
  obtain ⟨r_10, h_11, hF⟩ := hF
  refine cx_cVi (r := r_10) (ws := sC g Rs (some (Rn 100)) im S_8 ++ (stC g Rn N ++ X)) (ws' := sC g Rs (some (Rn 100)) im S_8 ++ (stC g Rn N ++ X)) (As := [.int (0 : Int32)]) (rest := [.int (gx_A S_8 27 (r_1 + (1 : Int32)).toNatClampNeg), .ref (Rs 100)]) E (mX1_weighedWithout l g A Rs _ _ _ S_8 (0 : Int32) h_11) (kwX1_X1_weighedWithout E ⟨Nat.le_of_ble_eq_true rfl, Nat.le_of_ble_eq_true rfl⟩) 0 1 rfl rfl rfl hw rfl hl.1 rfl (Nat.le_of_ble_eq_true rfl) dX1_wrongPart_39 ⟨Nat.le_of_ble_eq_true rfl, Nat.le_of_ble_eq_true rfl⟩ (fun H locs hw => ?_)
  refine lv_ixor hx hb dX1_wrongPart_42 ?_
  obtain ⟨S_12, eS_12⟩ : ∃ z : Sx, z = px_I S_8 30 ((gx_A S_8 27 (r_1 + (1 : Int32)).toNatClampNeg) ^^^ r_10) := ⟨_, rfl⟩
  replace hF := fx_lt_e eS_12 hF
  refine pX1_30 eS_12 E hw dX1_wrongPart_43 (fun H locs hw => ?_)
  refine lv_aload_n hx hb dX1_wrongPart_46 rfl (lv_at hl 1 rfl) ?_
  refine gX1_29 E hw dX1_wrongPart_47 ?_
  refine lv_if_ne (tgt := 68) hx hb dX1_wrongPart_50 (by decide) (fun c_13 => ?_) (fun c_13 => ?_)
  · replace hF := fx_ff c_13 hF
    refine lv_aload_n hx hb dX1_wrongPart_68 rfl (lv_at hl 1 rfl) ?_
    refine gX1_30 E hw dX1_wrongPart_69 ?_
    refine lv_if_ne (tgt := 77) hx hb dX1_wrongPart_72 (by decide) (fun c_14 => ?_) (fun c_14 => ?_)
    · replace hF := fx_ff c_14 hF
      refine lv_aload_n hx hb dX1_wrongPart_77 rfl (lv_at hl 1 rfl) ?_
      refine gX1_18 E hw dX1_wrongPart_78 ?_
      refine gNX3_1 E hw dX1_wrongPart_81 ?_
      refine lv_aload_n hx hb dX1_wrongPart_84 rfl (lv_at hl 1 rfl) ?_
      refine gX1_18 E hw dX1_wrongPart_85 ?_
      refine lv_aload_n hx hb dX1_wrongPart_88 rfl (lv_at hl 1 rfl) ?_
      refine gX1_30 E hw dX1_wrongPart_89 ?_
      refine lv_aload_n hx hb dX1_wrongPart_92 rfl (lv_at hl 1 rfl) ?_
      refine gX1_29 E hw dX1_wrongPart_93 ?_
      replace hF := fx_b1_e hF
      obtain ⟨r_15, h_16, hF⟩ := hF
      refine cx_cVi (r := r_15) (ws := sC g Rs (some (Rn 100)) im S_12 ++ (stC g Rn N ++ X)) (ws' := sC g Rs (some (Rn 100)) im S_12 ++ (stC g Rn N ++ X)) (As := [.int (gx_I S_12 30), .int (gx_I S_12 29)]) (rest := [.ref (Rs 41)]) E (mX3_over l g A Rs _ _ _ S_12 (gx_I S_12 30) (gx_I S_12 29) h_16) (kwX1_X3_over E ⟨Nat.le_of_ble_eq_true rfl, Nat.le_of_ble_eq_true rfl⟩) 16 3 rfl rfl rfl hw rfl hl.1 rfl (Nat.le_of_ble_eq_true rfl) dX1_wrongPart_96 ⟨Nat.le_of_ble_eq_true rfl, Nat.le_of_ble_eq_true rfl⟩ (fun H locs hw => ?_)
      replace hF := fx_gd_e hF
      obtain ⟨h_17, hF⟩ := hF
      refine raX1_41 E hw (fx_in_e h_17) dX1_wrongPart_99 ?_
      refine lv_topi (fun v_18 ev_18 => ?_)
      replace hF := fx_lt_e ev_18 hF
      refine lv_istore hx hb dX1_wrongPart_100 hl (by decide) rfl (fun ls hl => ?_)
      have hl : lv_has ls 5 [(4, .int v_18), (3, .int r_1), (0, .ref (Rs 100)), (1, .int p1), (2, .int p2)] := hl
      refine lv_iload hx hb dX1_wrongPart_102 (lv_at hl 0 rfl) ?_
      refine lv_iload_n hx hb dX1_wrongPart_104 rfl (lv_at hl 1 rfl) ?_
      refine lv_icmp_ge (tgt := 113) hx hb dX1_wrongPart_105 (by decide) (fun c_19 => ?_) (fun c_19 => ?_)
      · replace hF := fx_tt c_19 hF
        refine lv_bipush (v := (-2 : Int32)) hx hb dX1_wrongPart_113 (by decide) ?_
        obtain rfl := Option.some.inj hF
        exact hret _ _ _ _ _ rfl rfl hw dX1_wrongPart_115
      · replace hF := fx_ff c_19 hF
        refine lv_iload hx hb dX1_wrongPart_108 (lv_at hl 0 rfl) ?_
        refine lv_goto (tgt := 115) hx hb dX1_wrongPart_110 (by decide) ?_
        obtain rfl := Option.some.inj hF
        exact hret _ _ _ _ _ rfl rfl hw dX1_wrongPart_115
    · replace hF := fx_tt c_14 hF
      refine lv_iload_n hx hb dX1_wrongPart_75 rfl (lv_at hl 0 rfl) ?_
      obtain rfl := Option.some.inj hF
      exact hret _ _ _ _ _ rfl rfl hw dX1_wrongPart_76
  · replace hF := fx_tt c_13 hF
    refine lv_aload_n hx hb dX1_wrongPart_53 rfl (lv_at hl 1 rfl) ?_
    refine gX1_30 E hw dX1_wrongPart_54 ?_
    refine lv_if_ne (tgt := 64) hx hb dX1_wrongPart_57 (by decide) (fun c_20 => ?_) (fun c_20 => ?_)
    · replace hF := fx_ff c_20 hF
      refine lv_iload_n hx hb dX1_wrongPart_64 rfl (lv_at hl 0 rfl) ?_
      refine lv_iconst (v := (1 : Int32)) hx hb dX1_wrongPart_65 (by decide) ?_
      refine lv_iadd hx hb dX1_wrongPart_66 ?_
      obtain rfl := Option.some.inj hF
      exact hret _ _ _ _ _ rfl rfl hw dX1_wrongPart_67
    · replace hF := fx_tt c_20 hF
      refine lv_iconst (v := (-1 : Int32)) hx hb dX1_wrongPart_60 (by decide) ?_
      refine lv_goto (tgt := 67) hx hb dX1_wrongPart_61 (by decide) ?_
      obtain rfl := Option.some.inj hF
      exact hret _ _ _ _ _ rfl rfl hw dX1_wrongPart_67
/-! wrongPart(II)I -/
def FX1_wrongPart_n (S : Sx) (p1 : Int32) (p2 : Int32) : Option (Int32 × Sx) :=
  fx_b1 (FX1_data S) (fun r_1 => fx_b1 (FX1_solves_n S p1 p2 (0 : Int32)) (fun S_3 => fx_gd (fx_in r_1 8) (fx_b1 (FX1_sumWithout S_3 (0 : Int32)) (fun r_6 => fx_lt (px_I S_3 29 ((gx_A S_3 27 r_1.toNatClampNeg) ^^^ r_6)) (fun S_8 => fx_gd (fx_in (r_1 + (1 : Int32)) 8) (fx_b1 (FX1_weighedWithout S_8 (0 : Int32)) (fun r_10 => fx_lt (px_I S_8 30 ((gx_A S_8 27 (r_1 + (1 : Int32)).toNatClampNeg) ^^^ r_10)) (fun S_12 => if (gx_I S_12 29) = 0 then (if (gx_I S_12 30) = 0 then (some ((-1 : Int32), S_12)) else (some ((r_1 + (1 : Int32)), S_12))) else (if (gx_I S_12 30) = 0 then (some (r_1, S_12)) else (fx_b1 (FX3_over S_12 (gx_I S_12 30) (gx_I S_12 29)) (fun r_15 => fx_gd (fx_in r_15 256) (fx_lt (gx_A S_12 41 r_15.toNatClampNeg) (fun v_18 => if r_1 ≤ v_18 then (some ((-2 : Int32), S_12)) else (some (v_18, S_12)))))))))))))))
set_option maxHeartbeats 4000000 in
set_option maxRecDepth 100000 in
theorem mX1_wrongPart_n (l : Launch) (g : Gx) (A : Nat → Prop) (Rs : Nat → Nat) (im : Option Nat) (X : va_W) (S : Sx) (p1 : Int32) (p2 : Int32) {o : Int32 × Sx} (hF : FX1_wrongPart_n S p1 p2 = some o) :
    cx_i l yX1_wrongPart cX1_wrongPart 5 .int rmX1_wrongPart [.ref (Rs 100), .int p1, .int p2] g A (sC g Rs none im S ++ X) o.1 (sC g Rs none im o.2 ++ X) 0 0 := by
  refine cx_i_of (by decide) (Nat.le_of_ble_eq_true rfl) ?_
  intro p e s m av below meth c Q E hret H hw ls hl
  have E : cx_E p m meth c cX1_wrongPart 5 s av RX1 g A := E
  have hx := E.1.1
  have hb := E.1.2.1
  have hl : lv_has ls 5 [(0, .ref (Rs 100)), (1, .int p1), (2, .int p2)] := hl
  generalize hlc : ([] : List Loc) = locs at hw ⊢
  clear hlc
  unfold FX1_wrongPart_n at hF
  refine lv_aload_n hx hb dX1_wrongPart_0 rfl (lv_at hl 0 rfl) ?_
  replace hF := fx_b1_e hF
  obtain ⟨r_1, h_2, hF⟩ := hF
  refine cx_cVi (r := r_1) (ws := sC g Rs none im S ++ X) (ws' := sC g Rs none im S ++ X) (As := []) (rest := []) E (mX1_data l g A Rs _ _ _ S h_2) (kwX1_X1_data E ⟨Nat.le_of_ble_eq_true rfl, Nat.le_of_ble_eq_true rfl⟩) 0 1 rfl rfl rfl hw rfl hl.1 rfl (Nat.le_of_ble_eq_true rfl) dX1_wrongPart_1 ⟨Nat.le_of_ble_eq_true rfl, Nat.le_of_ble_eq_true rfl⟩ (fun H locs hw => ?_)
  refine lv_istore_n hx hb dX1_wrongPart_4 rfl hl (by decide) rfl (fun ls hl => ?_)
  have hl : lv_has ls 5 [(3, .int r_1), (0, .ref (Rs 100)), (1, .int p1), (2, .int p2)] := hl
  refine lv_aload_n hx hb dX1_wrongPart_5 rfl (lv_at hl 1 rfl) ?_
  refine lv_iload_n hx hb dX1_wrongPart_6 rfl (lv_at hl 2 rfl) ?_
  refine lv_iload_n hx hb dX1_wrongPart_7 rfl (lv_at hl 3 rfl) ?_
  refine lv_iconst (v := (0 : Int32)) hx hb dX1_wrongPart_8 (by decide) ?_
  replace hF := fx_b1_e hF
  obtain ⟨S_3, h_4, hF⟩ := hF
  refine cx_cVv (ws := sC g Rs none im S ++ X) (ws' := sC g Rs none im S_3 ++ X) (As := [.int p1, .int p2, .int (0 : Int32)]) (rest := []) E (mX1_solves_n l g A Rs _ _ S p1 p2 (0 : Int32) h_4) (kwX1_X1_solves E ⟨Nat.le_of_ble_eq_true rfl, Nat.le_of_ble_eq_true rfl⟩) 0 1 rfl rfl rfl hw rfl hl.1 rfl (Nat.le_of_ble_eq_true rfl) dX1_wrongPart_9 ⟨Nat.le_of_ble_eq_true rfl, Nat.le_of_ble_eq_true rfl⟩ (fun H locs hw => ?_)
  refine lv_aload_n hx hb dX1_wrongPart_12 rfl (lv_at hl 1 rfl) ?_
  refine lv_aload_n hx hb dX1_wrongPart_13 rfl (lv_at hl 1 rfl) ?_
  refine gX1_27 E hw dX1_wrongPart_14 ?_
  refine lv_iload_n hx hb dX1_wrongPart_17 rfl (lv_at hl 0 rfl) ?_
  replace hF := fx_gd_e hF
  obtain ⟨h_5, hF⟩ := hF
  refine raX1_27 E hw (fx_in_e h_5) dX1_wrongPart_18 ?_
  refine lv_aload_n hx hb dX1_wrongPart_19 rfl (lv_at hl 1 rfl) ?_
  refine lv_iconst (v := (0 : Int32)) hx hb dX1_wrongPart_20 (by decide) ?_
  replace hF := fx_b1_e hF
  obtain ⟨r_6, h_7, hF⟩ := hF
  refine cx_cVi (r := r_6) (ws := sC g Rs none im S_3 ++ X) (ws' := sC g Rs none im S_3 ++ X) (As := [.int (0 : Int32)]) (rest := [.int (gx_A S_3 27 r_1.toNatClampNeg), .ref (Rs 100)]) E (mX1_sumWithout l g A Rs _ _ _ S_3 (0 : Int32) h_7) (kwX1_X1_sumWithout E ⟨Nat.le_of_ble_eq_true rfl, Nat.le_of_ble_eq_true rfl⟩) 0 1 rfl rfl rfl hw rfl hl.1 rfl (Nat.le_of_ble_eq_true rfl) dX1_wrongPart_21 ⟨Nat.le_of_ble_eq_true rfl, Nat.le_of_ble_eq_true rfl⟩ (fun H locs hw => ?_)
  refine lv_ixor hx hb dX1_wrongPart_24 ?_
  obtain ⟨S_8, eS_8⟩ : ∃ z : Sx, z = px_I S_3 29 ((gx_A S_3 27 r_1.toNatClampNeg) ^^^ r_6) := ⟨_, rfl⟩
  replace hF := fx_lt_e eS_8 hF
  refine pX1_29 eS_8 E hw dX1_wrongPart_25 (fun H locs hw => ?_)
  refine lv_aload_n hx hb dX1_wrongPart_28 rfl (lv_at hl 1 rfl) ?_
  refine lv_aload_n hx hb dX1_wrongPart_29 rfl (lv_at hl 1 rfl) ?_
  refine gX1_27 E hw dX1_wrongPart_30 ?_
  refine lv_iload_n hx hb dX1_wrongPart_33 rfl (lv_at hl 0 rfl) ?_
  refine lv_iconst (v := (1 : Int32)) hx hb dX1_wrongPart_34 (by decide) ?_
  refine lv_iadd hx hb dX1_wrongPart_35 ?_
  replace hF := fx_gd_e hF
  obtain ⟨h_9, hF⟩ := hF
  refine raX1_27 E hw (fx_in_e h_9) dX1_wrongPart_36 ?_
  refine lv_aload_n hx hb dX1_wrongPart_37 rfl (lv_at hl 1 rfl) ?_
  refine lv_iconst (v := (0 : Int32)) hx hb dX1_wrongPart_38 (by decide) ?_
  replace hF := fx_b1_e hF
  obtain ⟨r_10, h_11, hF⟩ := hF
  refine cx_cVi (r := r_10) (ws := sC g Rs none im S_8 ++ X) (ws' := sC g Rs none im S_8 ++ X) (As := [.int (0 : Int32)]) (rest := [.int (gx_A S_8 27 (r_1 + (1 : Int32)).toNatClampNeg), .ref (Rs 100)]) E (mX1_weighedWithout l g A Rs _ _ _ S_8 (0 : Int32) h_11) (kwX1_X1_weighedWithout E ⟨Nat.le_of_ble_eq_true rfl, Nat.le_of_ble_eq_true rfl⟩) 0 1 rfl rfl rfl hw rfl hl.1 rfl (Nat.le_of_ble_eq_true rfl) dX1_wrongPart_39 ⟨Nat.le_of_ble_eq_true rfl, Nat.le_of_ble_eq_true rfl⟩ (fun H locs hw => ?_)
  refine lv_ixor hx hb dX1_wrongPart_42 ?_
  obtain ⟨S_12, eS_12⟩ : ∃ z : Sx, z = px_I S_8 30 ((gx_A S_8 27 (r_1 + (1 : Int32)).toNatClampNeg) ^^^ r_10) := ⟨_, rfl⟩
  replace hF := fx_lt_e eS_12 hF
  refine pX1_30 eS_12 E hw dX1_wrongPart_43 (fun H locs hw => ?_)
  refine lv_aload_n hx hb dX1_wrongPart_46 rfl (lv_at hl 1 rfl) ?_
  refine gX1_29 E hw dX1_wrongPart_47 ?_
  refine lv_if_ne (tgt := 68) hx hb dX1_wrongPart_50 (by decide) (fun c_13 => ?_) (fun c_13 => ?_)
  · replace hF := fx_ff c_13 hF
    refine lv_aload_n hx hb dX1_wrongPart_68 rfl (lv_at hl 1 rfl) ?_
    refine gX1_30 E hw dX1_wrongPart_69 ?_
    refine lv_if_ne (tgt := 77) hx hb dX1_wrongPart_72 (by decide) (fun c_14 => ?_) (fun c_14 => ?_)
    · replace hF := fx_ff c_14 hF
      refine lv_aload_n hx hb dX1_wrongPart_77 rfl (lv_at hl 1 rfl) ?_
      refine gX1_18 E hw dX1_wrongPart_78 ?_
      refine gNX3_1 E hw dX1_wrongPart_81 ?_
      refine lv_aload_n hx hb dX1_wrongPart_84 rfl (lv_at hl 1 rfl) ?_
      refine gX1_18 E hw dX1_wrongPart_85 ?_
      refine lv_aload_n hx hb dX1_wrongPart_88 rfl (lv_at hl 1 rfl) ?_
      refine gX1_30 E hw dX1_wrongPart_89 ?_
      refine lv_aload_n hx hb dX1_wrongPart_92 rfl (lv_at hl 1 rfl) ?_
      refine gX1_29 E hw dX1_wrongPart_93 ?_
      replace hF := fx_b1_e hF
      obtain ⟨r_15, h_16, hF⟩ := hF
      refine cx_cVi (r := r_15) (ws := sC g Rs none im S_12 ++ X) (ws' := sC g Rs none im S_12 ++ X) (As := [.int (gx_I S_12 30), .int (gx_I S_12 29)]) (rest := [.ref (Rs 41)]) E (mX3_over l g A Rs _ _ _ S_12 (gx_I S_12 30) (gx_I S_12 29) h_16) (kwX1_X3_over E ⟨Nat.le_of_ble_eq_true rfl, Nat.le_of_ble_eq_true rfl⟩) 16 3 rfl rfl rfl hw rfl hl.1 rfl (Nat.le_of_ble_eq_true rfl) dX1_wrongPart_96 ⟨Nat.le_of_ble_eq_true rfl, Nat.le_of_ble_eq_true rfl⟩ (fun H locs hw => ?_)
      replace hF := fx_gd_e hF
      obtain ⟨h_17, hF⟩ := hF
      refine raX1_41 E hw (fx_in_e h_17) dX1_wrongPart_99 ?_
      refine lv_topi (fun v_18 ev_18 => ?_)
      replace hF := fx_lt_e ev_18 hF
      refine lv_istore hx hb dX1_wrongPart_100 hl (by decide) rfl (fun ls hl => ?_)
      have hl : lv_has ls 5 [(4, .int v_18), (3, .int r_1), (0, .ref (Rs 100)), (1, .int p1), (2, .int p2)] := hl
      refine lv_iload hx hb dX1_wrongPart_102 (lv_at hl 0 rfl) ?_
      refine lv_iload_n hx hb dX1_wrongPart_104 rfl (lv_at hl 1 rfl) ?_
      refine lv_icmp_ge (tgt := 113) hx hb dX1_wrongPart_105 (by decide) (fun c_19 => ?_) (fun c_19 => ?_)
      · replace hF := fx_tt c_19 hF
        refine lv_bipush (v := (-2 : Int32)) hx hb dX1_wrongPart_113 (by decide) ?_
        obtain rfl := Option.some.inj hF
        exact hret _ _ _ _ _ rfl rfl hw dX1_wrongPart_115
      · replace hF := fx_ff c_19 hF
        refine lv_iload hx hb dX1_wrongPart_108 (lv_at hl 0 rfl) ?_
        refine lv_goto (tgt := 115) hx hb dX1_wrongPart_110 (by decide) ?_
        obtain rfl := Option.some.inj hF
        exact hret _ _ _ _ _ rfl rfl hw dX1_wrongPart_115
    · replace hF := fx_tt c_14 hF
      refine lv_iload_n hx hb dX1_wrongPart_75 rfl (lv_at hl 0 rfl) ?_
      obtain rfl := Option.some.inj hF
      exact hret _ _ _ _ _ rfl rfl hw dX1_wrongPart_76
  · replace hF := fx_tt c_13 hF
    refine lv_aload_n hx hb dX1_wrongPart_53 rfl (lv_at hl 1 rfl) ?_
    refine gX1_30 E hw dX1_wrongPart_54 ?_
    refine lv_if_ne (tgt := 64) hx hb dX1_wrongPart_57 (by decide) (fun c_20 => ?_) (fun c_20 => ?_)
    · replace hF := fx_ff c_20 hF
      refine lv_iload_n hx hb dX1_wrongPart_64 rfl (lv_at hl 0 rfl) ?_
      refine lv_iconst (v := (1 : Int32)) hx hb dX1_wrongPart_65 (by decide) ?_
      refine lv_iadd hx hb dX1_wrongPart_66 ?_
      obtain rfl := Option.some.inj hF
      exact hret _ _ _ _ _ rfl rfl hw dX1_wrongPart_67
    · replace hF := fx_tt c_20 hF
      refine lv_iconst (v := (-1 : Int32)) hx hb dX1_wrongPart_60 (by decide) ?_
      refine lv_goto (tgt := 67) hx hb dX1_wrongPart_61 (by decide) ?_
      obtain rfl := Option.some.inj hF
      exact hret _ _ _ _ _ rfl rfl hw dX1_wrongPart_67
/-! mends(II)I -/
def JX1_mends_s_71 (S_2 : Sx) (N_4 : Sx) (t_11 : Int32) (t_12 : Int32) (t_13 : Int32) (t_14 : Int32) (t_15 : Int32) (r_6 : Int32) (p1 : Int32) (p2 : Int32) : Option (Int32 × Sx × Sx) :=
  fx_b1 (FX1_put_s S_2 N_4 t_11 t_12 t_13 (t_14 ^^^ t_15)) (fun N_16 => fx_b2 (FX7_written N_16 r_6 (1 : Int32)) (fun r_18 N_19 => fx_gd (fx_in r_6 8) (fx_gd (fx_in r_6 8) (fx_lt (px_A N_19 5 (upd (gx_A N_19 5) r_6.toNatClampNeg ((gx_A N_19 5 r_6.toNatClampNeg) + (1 : Int32)))) (fun N_23 => fx_lt (px_I N_23 11 r_6) (fun N_24 => fx_lt (px_I N_24 12 p1) (fun N_25 => fx_lt (px_I N_25 13 p2) (fun N_26 => some ((1 : Int32), S_2, N_26)))))))))
def JX1_mends_s_26 (r_1 : Int32) (S_2 : Sx) (p1 : Int32) (N_4 : Sx) (p2 : Int32) : Option (Int32 × Sx × Sx) :=
  if 0 ≤ r_1 then (fx_b1 (FX1_diskOf S_2 p1 r_1) (fun r_6 => fx_gd (fx_in r_1 8) (fx_b1 (FX1_data S_2) (fun r_9 => if r_1 = (r_9 + (1 : Int32)) then (JX1_mends_s_71 S_2 N_4 p1 r_1 p2 (gx_A S_2 27 r_1.toNatClampNeg) (gx_I S_2 30) r_6 p1 p2) else (JX1_mends_s_71 S_2 N_4 p1 r_1 p2 (gx_A S_2 27 r_1.toNatClampNeg) (gx_I S_2 29) r_6 p1 p2))))) else (some ((0 : Int32), S_2, N_4))
def FX1_mends_s (S : Sx) (N : Sx) (p1 : Int32) (p2 : Int32) : Option (Int32 × Sx × Sx) :=
  fx_b2 (FX1_wrongPart_s S N p1 p2) (fun r_1 S_2 => if r_1 = (-2 : Int32) then (fx_lt (px_I N 9 ((gx_I N 9) + (1 : Int32))) (fun N_29 => JX1_mends_s_26 r_1 S_2 p1 N_29 p2)) else (JX1_mends_s_26 r_1 S_2 p1 N p2))
set_option maxHeartbeats 4000000 in
set_option maxRecDepth 100000 in
theorem mX1_mends_s (l : Launch) (g : Gx) (A : Nat → Prop) (Rs Rn : Nat → Nat) (im : Option Nat) (X : va_W) (S : Sx) (N : Sx) (p1 : Int32) (p2 : Int32) {o : Int32 × Sx × Sx} (hF : FX1_mends_s S N p1 p2 = some o) :
    cx_i l yX1_mends cX1_mends 5 .int rmX1_mends [.ref (Rs 100), .int p1, .int p2] g A (sC g Rs (some (Rn 100)) im S ++ (stC g Rn N ++ X)) o.1 (sC g Rs (some (Rn 100)) im o.2.1 ++ (stC g Rn o.2.2 ++ X)) 0 0 := by
  refine cx_i_of (by decide) (Nat.le_of_ble_eq_true rfl) ?_
  intro p e s m av below meth c Q E hret H hw ls hl
  have E : cx_E p m meth c cX1_mends 5 s av RX1 g A := E
  have hx := E.1.1
  have hb := E.1.2.1
  have hl : lv_has ls 5 [(0, .ref (Rs 100)), (1, .int p1), (2, .int p2)] := hl
  generalize hlc : ([] : List Loc) = locs at hw ⊢
  clear hlc
  unfold FX1_mends_s at hF
  refine lv_aload_n hx hb dX1_mends_0 rfl (lv_at hl 0 rfl) ?_
  refine lv_iload_n hx hb dX1_mends_1 rfl (lv_at hl 1 rfl) ?_
  refine lv_iload_n hx hb dX1_mends_2 rfl (lv_at hl 2 rfl) ?_
  replace hF := fx_b2_e hF
  obtain ⟨r_1, S_2, h_3, hF⟩ := hF
  refine cx_cVi (r := r_1) (ws := sC g Rs (some (Rn 100)) im S ++ (stC g Rn N ++ X)) (ws' := sC g Rs (some (Rn 100)) im S_2 ++ (stC g Rn N ++ X)) (As := [.int p1, .int p2]) (rest := []) E (mX1_wrongPart_s l g A Rs Rn _ _ S N p1 p2 h_3) (kwX1_X1_wrongPart E ⟨Nat.le_of_ble_eq_true rfl, Nat.le_of_ble_eq_true rfl⟩) 0 1 rfl rfl rfl hw rfl hl.1 rfl (Nat.le_of_ble_eq_true rfl) dX1_mends_3 ⟨Nat.le_of_ble_eq_true rfl, Nat.le_of_ble_eq_true rfl⟩ (fun H locs hw => ?_)
  refine lv_istore_n hx hb dX1_mends_6 rfl hl (by decide) rfl (fun ls hl => ?_)
  have hl : lv_has ls 5 [(3, .int r_1), (0, .ref (Rs 100)), (1, .int p1), (2, .int p2)] := hl
  refine lv_iload_n hx hb dX1_mends_7 rfl (lv_at hl 0 rfl) ?_
  refine lv_bipush (v := (-2 : Int32)) hx hb dX1_mends_8 (by decide) ?_
  have jn_26 : ∀ (N_4 : Sx), JX1_mends_s_26 r_1 S_2 p1 N_4 p2 = some o → ∀ (H : Heap) (locs : List Loc) (ls : Array Slot), cx_W g A s (sC g Rs (some (Rn 100)) im S_2 ++ (stC g Rn N_4 ++ X)) H locs → lv_has ls 5 [(0, .ref (Rs 100)), (1, .int p1), (2, .int p2), (3, .int r_1)] → W p l e rmX1_mends s m av below meth c H locs 0 0 Q (F0 m 26 ls []) := by
    intro N_4 hJ_26 H locs ls hw hl
    unfold JX1_mends_s_26 at hJ_26
    refine lv_iload_n hx hb dX1_mends_26 rfl (lv_at hl 3 rfl) ?_
    refine lv_if_ge (tgt := 32) hx hb dX1_mends_27 (by decide) (fun c_5 => ?_) (fun c_5 => ?_)
    · replace hJ_26 := fx_tt c_5 hJ_26
      refine lv_aload_n hx hb dX1_mends_32 rfl (lv_at hl 0 rfl) ?_
      refine lv_iload_n hx hb dX1_mends_33 rfl (lv_at hl 1 rfl) ?_
      refine lv_iload_n hx hb dX1_mends_34 rfl (lv_at hl 3 rfl) ?_
      replace hJ_26 := fx_b1_e hJ_26
      obtain ⟨r_6, h_7, hJ_26⟩ := hJ_26
      refine cx_cVi (r := r_6) (ws := sC g Rs (some (Rn 100)) im S_2 ++ (stC g Rn N_4 ++ X)) (ws' := sC g Rs (some (Rn 100)) im S_2 ++ (stC g Rn N_4 ++ X)) (As := [.int p1, .int r_1]) (rest := []) E (mX1_diskOf l g A Rs _ _ _ S_2 p1 r_1 h_7) (kwX1_X1_diskOf E ⟨Nat.le_of_ble_eq_true rfl, Nat.le_of_ble_eq_true rfl⟩) 0 1 rfl rfl rfl hw rfl hl.1 rfl (Nat.le_of_ble_eq_true rfl) dX1_mends_35 ⟨Nat.le_of_ble_eq_true rfl, Nat.le_of_ble_eq_true rfl⟩ (fun H locs hw => ?_)
      refine lv_istore hx hb dX1_mends_38 hl (by decide) rfl (fun ls hl => ?_)
      have hl : lv_has ls 5 [(4, .int r_6), (0, .ref (Rs 100)), (1, .int p1), (2, .int p2), (3, .int r_1)] := hl
      refine lv_aload_n hx hb dX1_mends_40 rfl (lv_at hl 1 rfl) ?_
      refine lv_iload_n hx hb dX1_mends_41 rfl (lv_at hl 2 rfl) ?_
      refine lv_iload_n hx hb dX1_mends_42 rfl (lv_at hl 4 rfl) ?_
      refine lv_iload_n hx hb dX1_mends_43 rfl (lv_at hl 3 rfl) ?_
      refine lv_aload_n hx hb dX1_mends_44 rfl (lv_at hl 1 rfl) ?_
      refine gX1_27 E hw dX1_mends_45 ?_
      refine lv_iload_n hx hb dX1_mends_48 rfl (lv_at hl 4 rfl) ?_
      replace hJ_26 := fx_gd_e hJ_26
      obtain ⟨h_8, hJ_26⟩ := hJ_26
      refine raX1_27 E hw (fx_in_e h_8) dX1_mends_49 ?_
      refine lv_iload_n hx hb dX1_mends_50 rfl (lv_at hl 4 rfl) ?_
      refine lv_aload_n hx hb dX1_mends_51 rfl (lv_at hl 1 rfl) ?_
      replace hJ_26 := fx_b1_e hJ_26
      obtain ⟨r_9, h_10, hJ_26⟩ := hJ_26
      refine cx_cVi (r := r_9) (ws := sC g Rs (some (Rn 100)) im S_2 ++ (stC g Rn N_4 ++ X)) (ws' := sC g Rs (some (Rn 100)) im S_2 ++ (stC g Rn N_4 ++ X)) (As := []) (rest := [.int r_1, .int (gx_A S_2 27 r_1.toNatClampNeg), .int p2, .int r_1, .int p1, .ref (Rs 100)]) E (mX1_data l g A Rs _ _ _ S_2 h_10) (kwX1_X1_data E ⟨Nat.le_of_ble_eq_true rfl, Nat.le_of_ble_eq_true rfl⟩) 0 1 rfl rfl rfl hw rfl hl.1 rfl (Nat.le_of_ble_eq_true rfl) dX1_mends_52 ⟨Nat.le_of_ble_eq_true rfl, Nat.le_of_ble_eq_true rfl⟩ (fun H locs hw => ?_)
      refine lv_iconst (v := (1 : Int32)) hx hb dX1_mends_55 (by decide) ?_
      refine lv_iadd hx hb dX1_mends_56 ?_
      have jn_71 : ∀ (t_11 : Int32) (t_12 : Int32) (t_13 : Int32) (t_14 : Int32) (t_15 : Int32), JX1_mends_s_71 S_2 N_4 t_11 t_12 t_13 t_14 t_15 r_6 p1 p2 = some o → ∀ (H : Heap) (locs : List Loc) (ls : Array Slot), cx_W g A s (sC g Rs (some (Rn 100)) im S_2 ++ (stC g Rn N_4 ++ X)) H locs → lv_has ls 5 [(0, .ref (Rs 100)), (1, .int p1), (2, .int p2), (4, .int r_6)] → W p l e rmX1_mends s m av below meth c H locs 0 0 Q (F0 m 71 ls [.int t_15, .int t_14, .int t_13, .int t_12, .int t_11, .ref (Rs 100)]) := by
        intro t_11 t_12 t_13 t_14 t_15 hJ_71 H locs ls hw hl
        unfold JX1_mends_s_71 at hJ_71
        refine lv_ixor hx hb dX1_mends_71 ?_
        replace hJ_71 := fx_b1_e hJ_71
        obtain ⟨N_16, h_17, hJ_71⟩ := hJ_71
        refine cx_cVv (ws := sC g Rs (some (Rn 100)) im S_2 ++ (stC g Rn N_4 ++ X)) (ws' := sC g Rs (some (Rn 100)) im S_2 ++ (stC g Rn N_16 ++ X)) (As := [.int t_11, .int t_12, .int t_13, .int (t_14 ^^^ t_15)]) (rest := []) E (mX1_put_s l g A Rs Rn _ _ S_2 N_4 t_11 t_12 t_13 (t_14 ^^^ t_15) h_17) (kwX1_X1_put E ⟨Nat.le_of_ble_eq_true rfl, Nat.le_of_ble_eq_true rfl⟩) 0 1 rfl rfl rfl hw rfl hl.1 rfl (Nat.le_of_ble_eq_true rfl) dX1_mends_72 ⟨Nat.le_of_ble_eq_true rfl, Nat.le_of_ble_eq_true rfl⟩ (fun H locs hw => ?_)
        refine lv_aload_n hx hb dX1_mends_75 rfl (lv_at hl 0 rfl) ?_
        refine gX1_19s E hw dX1_mends_76 ?_
        refine lv_iload hx hb dX1_mends_79 (lv_at hl 3 rfl) ?_
        refine lv_iconst (v := (1 : Int32)) hx hb dX1_mends_81 (by decide) ?_
        replace hJ_71 := fx_b2_e hJ_71
        obtain ⟨r_18, N_19, h_20, hJ_71⟩ := hJ_71
        have hw : cx_W g A s (stC g Rn N_16 ++ (sC g Rs (some (Rn 100)) im S_2 ++ X)) H locs := cx_W.perm hw (List.perm_append_comm_assoc _ _ _)
        refine cx_cVi (r := r_18) (ws := stC g Rn N_16 ++ (sC g Rs (some (Rn 100)) im S_2 ++ X)) (ws' := stC g Rn N_19 ++ (sC g Rs (some (Rn 100)) im S_2 ++ X)) (As := [.int r_6, .int (1 : Int32)]) (rest := []) E (mX7_written l g A Rn _ N_16 r_6 (1 : Int32) h_20) (kwX1_X7_written E ⟨Nat.le_of_ble_eq_true rfl, Nat.le_of_ble_eq_true rfl⟩) 0 2 rfl rfl rfl hw rfl hl.1 rfl (Nat.le_of_ble_eq_true rfl) dX1_mends_82 ⟨Nat.le_of_ble_eq_true rfl, Nat.le_of_ble_eq_true rfl⟩ (fun H locs hw => ?_)
        have hw : cx_W g A s (sC g Rs (some (Rn 100)) im S_2 ++ (stC g Rn N_19 ++ X)) H locs := cx_W.perm hw (List.perm_append_comm_assoc _ _ _)
        refine lv_pop hx hb dX1_mends_85 rfl ?_
        refine lv_aload_n hx hb dX1_mends_86 rfl (lv_at hl 0 rfl) ?_
        refine gX1_19s E hw dX1_mends_87 ?_
        refine gNX7_5 E hw dX1_mends_90 ?_
        refine lv_iload hx hb dX1_mends_93 (lv_at hl 3 rfl) ?_
        refine lv_dup2_11 hx hb dX1_mends_95 rfl rfl ?_
        replace hJ_71 := fx_gd_e hJ_71
        obtain ⟨h_21, hJ_71⟩ := hJ_71
        refine raX7_5 E hw (fx_in_e h_21) dX1_mends_96 ?_
        refine lv_iconst (v := (1 : Int32)) hx hb dX1_mends_97 (by decide) ?_
        refine lv_iadd hx hb dX1_mends_98 ?_
        replace hJ_71 := fx_gd_e hJ_71
        obtain ⟨h_22, hJ_71⟩ := hJ_71
        obtain ⟨N_23, eN_23⟩ : ∃ z : Sx, z = px_A N_19 5 (upd (gx_A N_19 5) r_6.toNatClampNeg ((gx_A N_19 5 r_6.toNatClampNeg) + (1 : Int32))) := ⟨_, rfl⟩
        replace hJ_71 := fx_lt_e eN_23 hJ_71
        refine rsX7_5 eN_23 E hw (fx_in_e h_22) dX1_mends_99 (fun H locs hw => ?_)
        refine lv_aload_n hx hb dX1_mends_100 rfl (lv_at hl 0 rfl) ?_
        refine gX1_19s E hw dX1_mends_101 ?_
        refine lv_iload hx hb dX1_mends_104 (lv_at hl 3 rfl) ?_
        obtain ⟨N_24, eN_24⟩ : ∃ z : Sx, z = px_I N_23 11 r_6 := ⟨_, rfl⟩
        replace hJ_71 := fx_lt_e eN_24 hJ_71
        refine pNX7_11 eN_24 E hw dX1_mends_106 (fun H locs hw => ?_)
        refine lv_aload_n hx hb dX1_mends_109 rfl (lv_at hl 0 rfl) ?_
        refine gX1_19s E hw dX1_mends_110 ?_
        refine lv_iload_n hx hb dX1_mends_113 rfl (lv_at hl 1 rfl) ?_
        obtain ⟨N_25, eN_25⟩ : ∃ z : Sx, z = px_I N_24 12 p1 := ⟨_, rfl⟩
        replace hJ_71 := fx_lt_e eN_25 hJ_71
        refine pNX7_12 eN_25 E hw dX1_mends_114 (fun H locs hw => ?_)
        refine lv_aload_n hx hb dX1_mends_117 rfl (lv_at hl 0 rfl) ?_
        refine gX1_19s E hw dX1_mends_118 ?_
        refine lv_iload_n hx hb dX1_mends_121 rfl (lv_at hl 2 rfl) ?_
        obtain ⟨N_26, eN_26⟩ : ∃ z : Sx, z = px_I N_25 13 p2 := ⟨_, rfl⟩
        replace hJ_71 := fx_lt_e eN_26 hJ_71
        refine pNX7_13 eN_26 E hw dX1_mends_122 (fun H locs hw => ?_)
        refine lv_iconst (v := (1 : Int32)) hx hb dX1_mends_125 (by decide) ?_
        obtain rfl := Option.some.inj hJ_71
        exact hret _ _ _ _ _ rfl rfl hw dX1_mends_126
      refine lv_icmp_ne (tgt := 67) hx hb dX1_mends_57 (by decide) (fun c_27 => ?_) (fun c_27 => ?_)
      · replace hJ_26 := fx_ff c_27 hJ_26
        refine lv_aload_n hx hb dX1_mends_67 rfl (lv_at hl 1 rfl) ?_
        refine gX1_29 E hw dX1_mends_68 ?_
        exact jn_71 p1 r_1 p2 (gx_A S_2 27 r_1.toNatClampNeg) (gx_I S_2 29) hJ_26 _ _ _ hw (lv_sub hl [1, 2, 3, 0] rfl)
      · replace hJ_26 := fx_tt c_27 hJ_26
        refine lv_aload_n hx hb dX1_mends_60 rfl (lv_at hl 1 rfl) ?_
        refine gX1_30 E hw dX1_mends_61 ?_
        refine lv_goto (tgt := 71) hx hb dX1_mends_64 (by decide) ?_
        exact jn_71 p1 r_1 p2 (gx_A S_2 27 r_1.toNatClampNeg) (gx_I S_2 30) hJ_26 _ _ _ hw (lv_sub hl [1, 2, 3, 0] rfl)
    · replace hJ_26 := fx_ff c_5 hJ_26
      refine lv_iconst (v := (0 : Int32)) hx hb dX1_mends_30 (by decide) ?_
      obtain rfl := Option.some.inj hJ_26
      exact hret _ _ _ _ _ rfl rfl hw dX1_mends_31
  refine lv_icmp_ne (tgt := 26) hx hb dX1_mends_10 (by decide) (fun c_28 => ?_) (fun c_28 => ?_)
  · replace hF := fx_ff c_28 hF
    exact jn_26 N hF _ _ _ hw (lv_sub hl [1, 2, 3, 0] rfl)
  · replace hF := fx_tt c_28 hF
    refine lv_aload_n hx hb dX1_mends_13 rfl (lv_at hl 1 rfl) ?_
    refine gX1_19s E hw dX1_mends_14 ?_
    refine lv_dup hx hb dX1_mends_17 rfl ?_
    refine gNX7_9 E hw dX1_mends_18 ?_
    refine lv_iconst (v := (1 : Int32)) hx hb dX1_mends_21 (by decide) ?_
    refine lv_iadd hx hb dX1_mends_22 ?_
    obtain ⟨N_29, eN_29⟩ : ∃ z : Sx, z = px_I N 9 ((gx_I N 9) + (1 : Int32)) := ⟨_, rfl⟩
    replace hF := fx_lt_e eN_29 hF
    refine pNX7_9 eN_29 E hw dX1_mends_23 (fun H locs hw => ?_)
    exact jn_26 N_29 hF _ _ _ hw (lv_sub hl [1, 2, 3, 0] rfl)
/-! mends(II)I -/
def JX1_mends_n_71 (S_2 : Sx) (t_10 : Int32) (t_11 : Int32) (t_12 : Int32) (t_13 : Int32) (t_14 : Int32) : Option (Int32 × Sx) :=
  fx_b1 (FX1_put_n S_2 t_10 t_11 t_12 (t_13 ^^^ t_14)) (fun _ => none)
def JX1_mends_n_26 (r_1 : Int32) (S_2 : Sx) (p1 : Int32) (p2 : Int32) : Option (Int32 × Sx) :=
  if 0 ≤ r_1 then (fx_b1 (FX1_diskOf S_2 p1 r_1) (fun r_5 => fx_gd (fx_in r_1 8) (fx_b1 (FX1_data S_2) (fun r_8 => if r_1 = (r_8 + (1 : Int32)) then (JX1_mends_n_71 S_2 p1 r_1 p2 (gx_A S_2 27 r_1.toNatClampNeg) (gx_I S_2 30)) else (JX1_mends_n_71 S_2 p1 r_1 p2 (gx_A S_2 27 r_1.toNatClampNeg) (gx_I S_2 29)))))) else (some ((0 : Int32), S_2))
def FX1_mends_n (S : Sx) (p1 : Int32) (p2 : Int32) : Option (Int32 × Sx) :=
  fx_b2 (FX1_wrongPart_n S p1 p2) (fun r_1 S_2 => if r_1 = (-2 : Int32) then none else (JX1_mends_n_26 r_1 S_2 p1 p2))
set_option maxHeartbeats 4000000 in
set_option maxRecDepth 100000 in
theorem mX1_mends_n (l : Launch) (g : Gx) (A : Nat → Prop) (Rs : Nat → Nat) (im : Option Nat) (X : va_W) (S : Sx) (p1 : Int32) (p2 : Int32) {o : Int32 × Sx} (hF : FX1_mends_n S p1 p2 = some o) :
    cx_i l yX1_mends cX1_mends 5 .int rmX1_mends [.ref (Rs 100), .int p1, .int p2] g A (sC g Rs none im S ++ X) o.1 (sC g Rs none im o.2 ++ X) 0 0 := by
  refine cx_i_of (by decide) (Nat.le_of_ble_eq_true rfl) ?_
  intro p e s m av below meth c Q E hret H hw ls hl
  have E : cx_E p m meth c cX1_mends 5 s av RX1 g A := E
  have hx := E.1.1
  have hb := E.1.2.1
  have hl : lv_has ls 5 [(0, .ref (Rs 100)), (1, .int p1), (2, .int p2)] := hl
  generalize hlc : ([] : List Loc) = locs at hw ⊢
  clear hlc
  unfold FX1_mends_n at hF
  refine lv_aload_n hx hb dX1_mends_0 rfl (lv_at hl 0 rfl) ?_
  refine lv_iload_n hx hb dX1_mends_1 rfl (lv_at hl 1 rfl) ?_
  refine lv_iload_n hx hb dX1_mends_2 rfl (lv_at hl 2 rfl) ?_
  replace hF := fx_b2_e hF
  obtain ⟨r_1, S_2, h_3, hF⟩ := hF
  refine cx_cVi (r := r_1) (ws := sC g Rs none im S ++ X) (ws' := sC g Rs none im S_2 ++ X) (As := [.int p1, .int p2]) (rest := []) E (mX1_wrongPart_n l g A Rs _ _ S p1 p2 h_3) (kwX1_X1_wrongPart E ⟨Nat.le_of_ble_eq_true rfl, Nat.le_of_ble_eq_true rfl⟩) 0 1 rfl rfl rfl hw rfl hl.1 rfl (Nat.le_of_ble_eq_true rfl) dX1_mends_3 ⟨Nat.le_of_ble_eq_true rfl, Nat.le_of_ble_eq_true rfl⟩ (fun H locs hw => ?_)
  refine lv_istore_n hx hb dX1_mends_6 rfl hl (by decide) rfl (fun ls hl => ?_)
  have hl : lv_has ls 5 [(3, .int r_1), (0, .ref (Rs 100)), (1, .int p1), (2, .int p2)] := hl
  refine lv_iload_n hx hb dX1_mends_7 rfl (lv_at hl 0 rfl) ?_
  refine lv_bipush (v := (-2 : Int32)) hx hb dX1_mends_8 (by decide) ?_
  have jn_26 : JX1_mends_n_26 r_1 S_2 p1 p2 = some o → ∀ (H : Heap) (locs : List Loc) (ls : Array Slot), cx_W g A s (sC g Rs none im S_2 ++ X) H locs → lv_has ls 5 [(0, .ref (Rs 100)), (1, .int p1), (2, .int p2), (3, .int r_1)] → W p l e rmX1_mends s m av below meth c H locs 0 0 Q (F0 m 26 ls []) := by
    intro  hJ_26 H locs ls hw hl
    unfold JX1_mends_n_26 at hJ_26
    refine lv_iload_n hx hb dX1_mends_26 rfl (lv_at hl 3 rfl) ?_
    refine lv_if_ge (tgt := 32) hx hb dX1_mends_27 (by decide) (fun c_4 => ?_) (fun c_4 => ?_)
    · replace hJ_26 := fx_tt c_4 hJ_26
      refine lv_aload_n hx hb dX1_mends_32 rfl (lv_at hl 0 rfl) ?_
      refine lv_iload_n hx hb dX1_mends_33 rfl (lv_at hl 1 rfl) ?_
      refine lv_iload_n hx hb dX1_mends_34 rfl (lv_at hl 3 rfl) ?_
      replace hJ_26 := fx_b1_e hJ_26
      obtain ⟨r_5, h_6, hJ_26⟩ := hJ_26
      refine cx_cVi (r := r_5) (ws := sC g Rs none im S_2 ++ X) (ws' := sC g Rs none im S_2 ++ X) (As := [.int p1, .int r_1]) (rest := []) E (mX1_diskOf l g A Rs _ _ _ S_2 p1 r_1 h_6) (kwX1_X1_diskOf E ⟨Nat.le_of_ble_eq_true rfl, Nat.le_of_ble_eq_true rfl⟩) 0 1 rfl rfl rfl hw rfl hl.1 rfl (Nat.le_of_ble_eq_true rfl) dX1_mends_35 ⟨Nat.le_of_ble_eq_true rfl, Nat.le_of_ble_eq_true rfl⟩ (fun H locs hw => ?_)
      refine lv_istore hx hb dX1_mends_38 hl (by decide) rfl (fun ls hl => ?_)
      have hl : lv_has ls 5 [(4, .int r_5), (0, .ref (Rs 100)), (1, .int p1), (2, .int p2), (3, .int r_1)] := hl
      refine lv_aload_n hx hb dX1_mends_40 rfl (lv_at hl 1 rfl) ?_
      refine lv_iload_n hx hb dX1_mends_41 rfl (lv_at hl 2 rfl) ?_
      refine lv_iload_n hx hb dX1_mends_42 rfl (lv_at hl 4 rfl) ?_
      refine lv_iload_n hx hb dX1_mends_43 rfl (lv_at hl 3 rfl) ?_
      refine lv_aload_n hx hb dX1_mends_44 rfl (lv_at hl 1 rfl) ?_
      refine gX1_27 E hw dX1_mends_45 ?_
      refine lv_iload_n hx hb dX1_mends_48 rfl (lv_at hl 4 rfl) ?_
      replace hJ_26 := fx_gd_e hJ_26
      obtain ⟨h_7, hJ_26⟩ := hJ_26
      refine raX1_27 E hw (fx_in_e h_7) dX1_mends_49 ?_
      refine lv_iload_n hx hb dX1_mends_50 rfl (lv_at hl 4 rfl) ?_
      refine lv_aload_n hx hb dX1_mends_51 rfl (lv_at hl 1 rfl) ?_
      replace hJ_26 := fx_b1_e hJ_26
      obtain ⟨r_8, h_9, hJ_26⟩ := hJ_26
      refine cx_cVi (r := r_8) (ws := sC g Rs none im S_2 ++ X) (ws' := sC g Rs none im S_2 ++ X) (As := []) (rest := [.int r_1, .int (gx_A S_2 27 r_1.toNatClampNeg), .int p2, .int r_1, .int p1, .ref (Rs 100)]) E (mX1_data l g A Rs _ _ _ S_2 h_9) (kwX1_X1_data E ⟨Nat.le_of_ble_eq_true rfl, Nat.le_of_ble_eq_true rfl⟩) 0 1 rfl rfl rfl hw rfl hl.1 rfl (Nat.le_of_ble_eq_true rfl) dX1_mends_52 ⟨Nat.le_of_ble_eq_true rfl, Nat.le_of_ble_eq_true rfl⟩ (fun H locs hw => ?_)
      refine lv_iconst (v := (1 : Int32)) hx hb dX1_mends_55 (by decide) ?_
      refine lv_iadd hx hb dX1_mends_56 ?_
      have jn_71 : ∀ (t_10 : Int32) (t_11 : Int32) (t_12 : Int32) (t_13 : Int32) (t_14 : Int32), JX1_mends_n_71 S_2 t_10 t_11 t_12 t_13 t_14 = some o → ∀ (H : Heap) (locs : List Loc) (ls : Array Slot), cx_W g A s (sC g Rs none im S_2 ++ X) H locs → lv_has ls 5 [(0, .ref (Rs 100)), (1, .int p1), (2, .int p2), (4, .int r_5)] → W p l e rmX1_mends s m av below meth c H locs 0 0 Q (F0 m 71 ls [.int t_14, .int t_13, .int t_12, .int t_11, .int t_10, .ref (Rs 100)]) := by
        intro t_10 t_11 t_12 t_13 t_14 hJ_71 H locs ls hw hl
        unfold JX1_mends_n_71 at hJ_71
        refine lv_ixor hx hb dX1_mends_71 ?_
        replace hJ_71 := fx_b1_e hJ_71
        obtain ⟨_, h_15, hJ_71⟩ := hJ_71
        refine cx_cVv (ws := sC g Rs none im S_2 ++ X) (ws' := sC g Rs none im S_2 ++ X) (As := [.int t_10, .int t_11, .int t_12, .int (t_13 ^^^ t_14)]) (rest := []) E (mX1_put_n l g A Rs _ _ S_2 t_10 t_11 t_12 (t_13 ^^^ t_14) h_15) (kwX1_X1_put E ⟨Nat.le_of_ble_eq_true rfl, Nat.le_of_ble_eq_true rfl⟩) 0 1 rfl rfl rfl hw rfl hl.1 rfl (Nat.le_of_ble_eq_true rfl) dX1_mends_72 ⟨Nat.le_of_ble_eq_true rfl, Nat.le_of_ble_eq_true rfl⟩ (fun H locs hw => ?_)
        refine lv_aload_n hx hb dX1_mends_75 rfl (lv_at hl 0 rfl) ?_
        refine gX1_19n E hw dX1_mends_76 ?_
        refine lv_iload hx hb dX1_mends_79 (lv_at hl 3 rfl) ?_
        refine lv_iconst (v := (1 : Int32)) hx hb dX1_mends_81 (by decide) ?_
        exact fx_no hJ_71
      refine lv_icmp_ne (tgt := 67) hx hb dX1_mends_57 (by decide) (fun c_16 => ?_) (fun c_16 => ?_)
      · replace hJ_26 := fx_ff c_16 hJ_26
        refine lv_aload_n hx hb dX1_mends_67 rfl (lv_at hl 1 rfl) ?_
        refine gX1_29 E hw dX1_mends_68 ?_
        exact jn_71 p1 r_1 p2 (gx_A S_2 27 r_1.toNatClampNeg) (gx_I S_2 29) hJ_26 _ _ _ hw (lv_sub hl [1, 2, 3, 0] rfl)
      · replace hJ_26 := fx_tt c_16 hJ_26
        refine lv_aload_n hx hb dX1_mends_60 rfl (lv_at hl 1 rfl) ?_
        refine gX1_30 E hw dX1_mends_61 ?_
        refine lv_goto (tgt := 71) hx hb dX1_mends_64 (by decide) ?_
        exact jn_71 p1 r_1 p2 (gx_A S_2 27 r_1.toNatClampNeg) (gx_I S_2 30) hJ_26 _ _ _ hw (lv_sub hl [1, 2, 3, 0] rfl)
    · replace hJ_26 := fx_ff c_4 hJ_26
      refine lv_iconst (v := (0 : Int32)) hx hb dX1_mends_30 (by decide) ?_
      obtain rfl := Option.some.inj hJ_26
      exact hret _ _ _ _ _ rfl rfl hw dX1_mends_31
  refine lv_icmp_ne (tgt := 26) hx hb dX1_mends_10 (by decide) (fun c_17 => ?_) (fun c_17 => ?_)
  · replace hF := fx_ff c_17 hF
    exact jn_26  hF _ _ _ hw (lv_sub hl [1, 2, 3, 0] rfl)
  · replace hF := fx_tt c_17 hF
    refine lv_aload_n hx hb dX1_mends_13 rfl (lv_at hl 1 rfl) ?_
    refine gX1_19n E hw dX1_mends_14 ?_
    refine lv_dup hx hb dX1_mends_17 rfl ?_
    exact fx_no hF
/-! scrubsNow(I)I -/
def JX1_scrubsNow_s_126 (x2_1 : Int32) (S_2 : Sx) (N_3 : Sx) : Option (Int32 × Sx × Sx) :=
  some (x2_1, S_2, N_3)
def JX1_scrubsNow_s_120 (x3_7 : Int32) (S_17 : Sx) (N_18 : Sx) (x2_16 : Int32) : Option ((Sx × Sx × Int32 × Int32) ⊕ (Sx × Sx × Int32)) :=
  fx_lt (x3_7 + (1 : Int32)) (fun v_19 => some (.inl (S_17, N_18, x2_16, v_19)))
def LX1_scrubsNow_s_94 (v_9 : Int32) (q_ : Sx × Sx × Int32 × Int32) : Option ((Sx × Sx × Int32 × Int32) ⊕ (Sx × Sx × Int32)) :=
  fx_u4 q_ (fun S_22 N_23 x2_24 x5_25 => fx_b1 (FX1_chunk S_22) (fun r_26 => if r_26 ≤ x5_25 then (some (.inr (S_22, N_23, x2_24))) else (fx_b3 (FX1_mends_s S_22 N_23 v_9 x5_25) (fun r_29 S_30 N_31 => fx_lt (x2_24 + r_29) (fun v_33 => fx_lt (x5_25 + (1 : Int32)) (fun v_34 => some (.inl (S_30, N_31, v_33, v_34))))))))
def JX1_scrubsNow_s_91 (v_9 : Int32) (S_4 : Sx) (N_21 : Sx) (x2_6 : Int32) (x3_7 : Int32) : Option ((Sx × Sx × Int32 × Int32) ⊕ (Sx × Sx × Int32)) :=
  fx_b1 (fx_lp (LX1_scrubsNow_s_94 v_9) 2000 (S_4, N_21, x2_6, (0 : Int32))) (fun q_ => fx_u3 q_ (fun S_35 N_36 y2_37 => JX1_scrubsNow_s_120 x3_7 S_35 N_36 y2_37))
def LX1_scrubsNow_s_62 (S_4 : Sx) (q_ : Sx × Int32) : Option ((Sx × Int32) ⊕ (Sx)) :=
  fx_u2 q_ (fun N_38 x5_39 => fx_b1 (FX1_disks S_4) (fun r_40 => if r_40 ≤ x5_39 then (some (.inr N_38)) else (fx_b1 (FX1_chunk S_4) (fun r_43 => fx_b2 (FX7_read N_38 x5_39 r_43) (fun r_45 N_46 => fx_lt (x5_39 + (1 : Int32)) (fun v_48 => some (.inl (N_46, v_48))))))))
def LX1_scrubsNow_s_4 (p1 : Int32) (q_ : Sx × Sx × Int32 × Int32) : Option ((Sx × Sx × Int32 × Int32) ⊕ (Sx × Sx × Int32)) :=
  fx_u4 q_ (fun S_4 N_5 x2_6 x3_7 => if p1 ≤ x3_7 then (some (.inr (S_4, N_5, x2_6))) else (fx_lt (gx_I N_5 8) (fun v_9 => fx_b1 (FX1_stripes S_4) (fun r_10 => fx_gd (fx_nz r_10) (fx_lt (px_I N_5 8 ((v_9 + (1 : Int32)) - (v_9 + (1 : Int32)) / r_10 * r_10)) (fun N_13 => fx_b1 (FX1_isClear_s S_4 N_13 v_9) (fun r_14 => if r_14 = 0 then (fx_lt (px_I N_13 10 ((gx_I N_13 10) + (1 : Int32))) (fun N_50 => JX1_scrubsNow_s_120 x3_7 S_4 N_50 x2_6)) else (fx_b1 (fx_lp (LX1_scrubsNow_s_62 S_4) 2000 (N_13, (0 : Int32))) (fun N_49 => JX1_scrubsNow_s_91 v_9 S_4 N_49 x2_6 x3_7)))))))))
def FX1_scrubsNow_s (S : Sx) (N : Sx) (p1 : Int32) : Option (Int32 × Sx × Sx) :=
  fx_b1 (fx_lp (LX1_scrubsNow_s_4 p1) 2000 (S, N, (0 : Int32), (0 : Int32))) (fun q_ => fx_u3 q_ (fun S_51 N_52 y2_53 => JX1_scrubsNow_s_126 y2_53 S_51 N_52))
set_option maxHeartbeats 4000000 in
set_option maxRecDepth 100000 in
theorem mX1_scrubsNow_s (l : Launch) (g : Gx) (A : Nat → Prop) (Rs Rn : Nat → Nat) (im : Option Nat) (X : va_W) (S : Sx) (N : Sx) (p1 : Int32) {o : Int32 × Sx × Sx} (hF : FX1_scrubsNow_s S N p1 = some o) :
    cx_i l yX1_scrubsNow cX1_scrubsNow 6 .int rmX1_scrubsNow [.ref (Rs 100), .int p1] g A (sC g Rs (some (Rn 100)) im S ++ (stC g Rn N ++ X)) o.1 (sC g Rs (some (Rn 100)) im o.2.1 ++ (stC g Rn o.2.2 ++ X)) 0 0 := by
  refine cx_i_of (by decide) (Nat.le_of_ble_eq_true rfl) ?_
  intro p e s m av below meth c Q E hret H hw ls hl
  have E : cx_E p m meth c cX1_scrubsNow 6 s av RX1 g A := E
  have hx := E.1.1
  have hb := E.1.2.1
  have hl : lv_has ls 6 [(0, .ref (Rs 100)), (1, .int p1)] := hl
  generalize hlc : ([] : List Loc) = locs at hw ⊢
  clear hlc
  unfold FX1_scrubsNow_s at hF
  refine lv_iconst (v := (0 : Int32)) hx hb dX1_scrubsNow_0 (by decide) ?_
  refine lv_istore_n hx hb dX1_scrubsNow_1 rfl hl (by decide) rfl (fun ls hl => ?_)
  have hl : lv_has ls 6 [(2, .int (0 : Int32)), (0, .ref (Rs 100)), (1, .int p1)] := hl
  refine lv_iconst (v := (0 : Int32)) hx hb dX1_scrubsNow_2 (by decide) ?_
  refine lv_istore_n hx hb dX1_scrubsNow_3 rfl hl (by decide) rfl (fun ls hl => ?_)
  have hl : lv_has ls 6 [(3, .int (0 : Int32)), (2, .int (0 : Int32)), (0, .ref (Rs 100)), (1, .int p1)] := hl
  have jn_126 : ∀ (S_2 : Sx) (N_3 : Sx) (x2_1 : Int32), JX1_scrubsNow_s_126 x2_1 S_2 N_3 = some o → ∀ (H : Heap) (locs : List Loc) (ls : Array Slot), cx_W g A s (sC g Rs (some (Rn 100)) im S_2 ++ (stC g Rn N_3 ++ X)) H locs → lv_has ls 6 [(2, .int x2_1)] → W p l e rmX1_scrubsNow s m av below meth c H locs 0 0 Q (F0 m 126 ls []) := by
    intro S_2 N_3 x2_1 hJ_126 H locs ls hw hl
    unfold JX1_scrubsNow_s_126 at hJ_126
    refine lv_iload_n hx hb dX1_scrubsNow_126 rfl (lv_at hl 0 rfl) ?_
    obtain rfl := Option.some.inj hJ_126
    exact hret _ _ _ _ _ rfl rfl hw dX1_scrubsNow_127
  replace hF := fx_b1_e hF
  obtain ⟨ex_4, hL_4, hF⟩ := hF
  have key_4 : ∀ (n_4 : Nat) (S_4 : Sx) (N_5 : Sx) (x2_6 : Int32) (x3_7 : Int32), fx_lp (LX1_scrubsNow_s_4 p1) n_4 (S_4, N_5, x2_6, x3_7) = some ex_4 → ∀ (H : Heap) (locs : List Loc) (ls : Array Slot), cx_W g A s (sC g Rs (some (Rn 100)) im S_4 ++ (stC g Rn N_5 ++ X)) H locs → lv_has ls 6 [(0, .ref (Rs 100)), (1, .int p1), (2, .int x2_6), (3, .int x3_7)] → W p l e rmX1_scrubsNow s m av below meth c H locs 0 0 Q (F0 m 4 ls []) := by
    intro n_4
    induction n_4 with
    | zero => intro S_4 N_5 x2_6 x3_7 hL_4; exact fx_lp_0 hL_4
    | succ n_4 ih_4 =>
      intro S_4 N_5 x2_6 x3_7 hL_4 H locs ls hw hl
      replace hL_4 := fx_lp_s hL_4
      obtain ⟨o_4, hB_4, hO_4⟩ := hL_4
      unfold LX1_scrubsNow_s_4 at hB_4
      replace hB_4 := fx_u4_e hB_4
      refine lv_iload_n hx hb dX1_scrubsNow_4 rfl (lv_at hl 3 rfl) ?_
      refine lv_iload_n hx hb dX1_scrubsNow_5 rfl (lv_at hl 1 rfl) ?_
      refine lv_icmp_ge (tgt := 126) hx hb dX1_scrubsNow_6 (by decide) (fun c_8 => ?_) (fun c_8 => ?_)
      · replace hB_4 := fx_tt c_8 hB_4
        obtain rfl := fx_ex hB_4 hO_4
        replace hF := fx_u3_e hF
        exact jn_126 S_4 N_5 x2_6 hF _ _ _ hw (lv_sub hl [2] rfl)
      · replace hB_4 := fx_ff c_8 hB_4
        refine lv_aload_n hx hb dX1_scrubsNow_9 rfl (lv_at hl 0 rfl) ?_
        refine gX1_19s E hw dX1_scrubsNow_10 ?_
        refine gNX7_8 E hw dX1_scrubsNow_13 ?_
        refine lv_topi (fun v_9 ev_9 => ?_)
        replace hB_4 := fx_lt_e ev_9 hB_4
        refine lv_istore hx hb dX1_scrubsNow_16 hl (by decide) rfl (fun ls hl => ?_)
        have hl : lv_has ls 6 [(4, .int v_9), (0, .ref (Rs 100)), (1, .int p1), (2, .int x2_6), (3, .int x3_7)] := hl
        refine lv_aload_n hx hb dX1_scrubsNow_18 rfl (lv_at hl 1 rfl) ?_
        refine gX1_19s E hw dX1_scrubsNow_19 ?_
        refine lv_iload hx hb dX1_scrubsNow_22 (lv_at hl 0 rfl) ?_
        refine lv_iconst (v := (1 : Int32)) hx hb dX1_scrubsNow_24 (by decide) ?_
        refine lv_iadd hx hb dX1_scrubsNow_25 ?_
        refine lv_aload_n hx hb dX1_scrubsNow_26 rfl (lv_at hl 1 rfl) ?_
        replace hB_4 := fx_b1_e hB_4
        obtain ⟨r_10, h_11, hB_4⟩ := hB_4
        refine cx_cVi (r := r_10) (ws := sC g Rs (some (Rn 100)) im S_4 ++ (stC g Rn N_5 ++ X)) (ws' := sC g Rs (some (Rn 100)) im S_4 ++ (stC g Rn N_5 ++ X)) (As := []) (rest := [.int (v_9 + (1 : Int32)), .ref (Rn 100)]) E (mX1_stripes l g A Rs _ _ _ S_4 h_11) (kwX1_X1_stripes E ⟨Nat.le_of_ble_eq_true rfl, Nat.le_of_ble_eq_true rfl⟩) 0 1 rfl rfl rfl hw rfl hl.1 rfl (Nat.le_of_ble_eq_true rfl) dX1_scrubsNow_27 ⟨Nat.le_of_ble_eq_true rfl, Nat.le_of_ble_eq_true rfl⟩ (fun H locs hw => ?_)
        replace hB_4 := fx_gd_e hB_4
        obtain ⟨h_12, hB_4⟩ := hB_4
        refine lv_irem hx hb dX1_scrubsNow_30 (fx_nz_e h_12) ?_
        obtain ⟨N_13, eN_13⟩ : ∃ z : Sx, z = px_I N_5 8 ((v_9 + (1 : Int32)) - (v_9 + (1 : Int32)) / r_10 * r_10) := ⟨_, rfl⟩
        replace hB_4 := fx_lt_e eN_13 hB_4
        refine pNX7_8 eN_13 E hw dX1_scrubsNow_31 (fun H locs hw => ?_)
        refine lv_aload_n hx hb dX1_scrubsNow_34 rfl (lv_at hl 1 rfl) ?_
        refine lv_iload hx hb dX1_scrubsNow_35 (lv_at hl 0 rfl) ?_
        replace hB_4 := fx_b1_e hB_4
        obtain ⟨r_14, h_15, hB_4⟩ := hB_4
        refine cx_cVi (r := r_14) (ws := sC g Rs (some (Rn 100)) im S_4 ++ (stC g Rn N_13 ++ X)) (ws' := sC g Rs (some (Rn 100)) im S_4 ++ (stC g Rn N_13 ++ X)) (As := [.int v_9]) (rest := []) E (mX1_isClear_s l g A Rs Rn _ _ S_4 N_13 v_9 h_15) (kwX1_X1_isClear E ⟨Nat.le_of_ble_eq_true rfl, Nat.le_of_ble_eq_true rfl⟩) 0 1 rfl rfl rfl hw rfl hl.1 rfl (Nat.le_of_ble_eq_true rfl) dX1_scrubsNow_37 ⟨Nat.le_of_ble_eq_true rfl, Nat.le_of_ble_eq_true rfl⟩ (fun H locs hw => ?_)
        have jn_120 : ∀ (S_17 : Sx) (N_18 : Sx) (x2_16 : Int32), JX1_scrubsNow_s_120 x3_7 S_17 N_18 x2_16 = some o_4 → ∀ (H : Heap) (locs : List Loc) (ls : Array Slot), cx_W g A s (sC g Rs (some (Rn 100)) im S_17 ++ (stC g Rn N_18 ++ X)) H locs → lv_has ls 6 [(0, .ref (Rs 100)), (1, .int p1), (2, .int x2_16), (3, .int x3_7)] → W p l e rmX1_scrubsNow s m av below meth c H locs 0 0 Q (F0 m 120 ls []) := by
          intro S_17 N_18 x2_16 hJ_120 H locs ls hw hl
          unfold JX1_scrubsNow_s_120 at hJ_120
          obtain ⟨v_19, ev_19⟩ : ∃ z : Int32, z = x3_7 + (1 : Int32) := ⟨_, rfl⟩
          replace hJ_120 := fx_lt_e ev_19 hJ_120
          refine cx_iinc (z := (1 : Int32)) (v := v_19) hx hb dX1_scrubsNow_120 hl (k := 3) rfl (by decide) ev_19 (by decide) rfl (fun ls hl => ?_)
          have hl : lv_has ls 6 [(3, .int v_19), (0, .ref (Rs 100)), (1, .int p1), (2, .int x2_16)] := hl
          refine lv_goto (tgt := 4) hx hb dX1_scrubsNow_123 (by decide) ?_
          exact ih_4 S_17 N_18 x2_16 v_19 (fx_bk hJ_120 hO_4) _ _ _ hw (lv_sub hl [1, 2, 3, 0] rfl)
        refine lv_if_ne (tgt := 59) hx hb dX1_scrubsNow_40 (by decide) (fun c_20 => ?_) (fun c_20 => ?_)
        · replace hB_4 := fx_ff c_20 hB_4
          refine lv_iconst (v := (0 : Int32)) hx hb dX1_scrubsNow_59 (by decide) ?_
          refine lv_istore hx hb dX1_scrubsNow_60 hl (by decide) rfl (fun ls hl => ?_)
          have hl : lv_has ls 6 [(5, .int (0 : Int32)), (4, .int v_9), (0, .ref (Rs 100)), (1, .int p1), (2, .int x2_6), (3, .int x3_7)] := hl
          have jn_91 : ∀ (N_21 : Sx), JX1_scrubsNow_s_91 v_9 S_4 N_21 x2_6 x3_7 = some o_4 → ∀ (H : Heap) (locs : List Loc) (ls : Array Slot), cx_W g A s (sC g Rs (some (Rn 100)) im S_4 ++ (stC g Rn N_21 ++ X)) H locs → lv_has ls 6 [(0, .ref (Rs 100)), (1, .int p1), (2, .int x2_6), (3, .int x3_7), (4, .int v_9)] → W p l e rmX1_scrubsNow s m av below meth c H locs 0 0 Q (F0 m 91 ls []) := by
            intro N_21 hJ_91 H locs ls hw hl
            unfold JX1_scrubsNow_s_91 at hJ_91
            refine lv_iconst (v := (0 : Int32)) hx hb dX1_scrubsNow_91 (by decide) ?_
            refine lv_istore hx hb dX1_scrubsNow_92 hl (by decide) rfl (fun ls hl => ?_)
            have hl : lv_has ls 6 [(5, .int (0 : Int32)), (0, .ref (Rs 100)), (1, .int p1), (2, .int x2_6), (3, .int x3_7), (4, .int v_9)] := hl
            replace hJ_91 := fx_b1_e hJ_91
            obtain ⟨ex_94, hL_94, hJ_91⟩ := hJ_91
            have key_94 : ∀ (n_94 : Nat) (S_22 : Sx) (N_23 : Sx) (x2_24 : Int32) (x5_25 : Int32), fx_lp (LX1_scrubsNow_s_94 v_9) n_94 (S_22, N_23, x2_24, x5_25) = some ex_94 → ∀ (H : Heap) (locs : List Loc) (ls : Array Slot), cx_W g A s (sC g Rs (some (Rn 100)) im S_22 ++ (stC g Rn N_23 ++ X)) H locs → lv_has ls 6 [(0, .ref (Rs 100)), (1, .int p1), (2, .int x2_24), (3, .int x3_7), (4, .int v_9), (5, .int x5_25)] → W p l e rmX1_scrubsNow s m av below meth c H locs 0 0 Q (F0 m 94 ls []) := by
              intro n_94
              induction n_94 with
              | zero => intro S_22 N_23 x2_24 x5_25 hL_94; exact fx_lp_0 hL_94
              | succ n_94 ih_94 =>
                intro S_22 N_23 x2_24 x5_25 hL_94 H locs ls hw hl
                replace hL_94 := fx_lp_s hL_94
                obtain ⟨o_94, hB_94, hO_94⟩ := hL_94
                unfold LX1_scrubsNow_s_94 at hB_94
                replace hB_94 := fx_u4_e hB_94
                refine lv_iload hx hb dX1_scrubsNow_94 (lv_at hl 5 rfl) ?_
                refine lv_aload_n hx hb dX1_scrubsNow_96 rfl (lv_at hl 0 rfl) ?_
                replace hB_94 := fx_b1_e hB_94
                obtain ⟨r_26, h_27, hB_94⟩ := hB_94
                refine cx_cVi (r := r_26) (ws := sC g Rs (some (Rn 100)) im S_22 ++ (stC g Rn N_23 ++ X)) (ws' := sC g Rs (some (Rn 100)) im S_22 ++ (stC g Rn N_23 ++ X)) (As := []) (rest := [.int x5_25]) E (mX1_chunk l g A Rs _ _ _ S_22 h_27) (kwX1_X1_chunk E ⟨Nat.le_of_ble_eq_true rfl, Nat.le_of_ble_eq_true rfl⟩) 0 1 rfl rfl rfl hw rfl hl.1 rfl (Nat.le_of_ble_eq_true rfl) dX1_scrubsNow_97 ⟨Nat.le_of_ble_eq_true rfl, Nat.le_of_ble_eq_true rfl⟩ (fun H locs hw => ?_)
                refine lv_icmp_ge (tgt := 120) hx hb dX1_scrubsNow_100 (by decide) (fun c_28 => ?_) (fun c_28 => ?_)
                · replace hB_94 := fx_tt c_28 hB_94
                  obtain rfl := fx_ex hB_94 hO_94
                  replace hJ_91 := fx_u3_e hJ_91
                  exact jn_120 S_22 N_23 x2_24 hJ_91 _ _ _ hw (lv_sub hl [0, 1, 2, 3] rfl)
                · replace hB_94 := fx_ff c_28 hB_94
                  refine lv_iload_n hx hb dX1_scrubsNow_103 rfl (lv_at hl 2 rfl) ?_
                  refine lv_aload_n hx hb dX1_scrubsNow_104 rfl (lv_at hl 0 rfl) ?_
                  refine lv_iload hx hb dX1_scrubsNow_105 (lv_at hl 4 rfl) ?_
                  refine lv_iload hx hb dX1_scrubsNow_107 (lv_at hl 5 rfl) ?_
                  replace hB_94 := fx_b3_e hB_94
                  obtain ⟨r_29, S_30, N_31, h_32, hB_94⟩ := hB_94
                  refine cx_cVi (r := r_29) (ws := sC g Rs (some (Rn 100)) im S_22 ++ (stC g Rn N_23 ++ X)) (ws' := sC g Rs (some (Rn 100)) im S_30 ++ (stC g Rn N_31 ++ X)) (As := [.int v_9, .int x5_25]) (rest := [.int x2_24]) E (mX1_mends_s l g A Rs Rn _ _ S_22 N_23 v_9 x5_25 h_32) (kwX1_X1_mends E ⟨Nat.le_of_ble_eq_true rfl, Nat.le_of_ble_eq_true rfl⟩) 0 1 rfl rfl rfl hw rfl hl.1 rfl (Nat.le_of_ble_eq_true rfl) dX1_scrubsNow_109 ⟨Nat.le_of_ble_eq_true rfl, Nat.le_of_ble_eq_true rfl⟩ (fun H locs hw => ?_)
                  refine lv_iadd hx hb dX1_scrubsNow_112 ?_
                  refine lv_topi (fun v_33 ev_33 => ?_)
                  replace hB_94 := fx_lt_e ev_33 hB_94
                  refine lv_istore_n hx hb dX1_scrubsNow_113 rfl hl (by decide) rfl (fun ls hl => ?_)
                  have hl : lv_has ls 6 [(2, .int v_33), (0, .ref (Rs 100)), (1, .int p1), (3, .int x3_7), (4, .int v_9), (5, .int x5_25)] := hl
                  obtain ⟨v_34, ev_34⟩ : ∃ z : Int32, z = x5_25 + (1 : Int32) := ⟨_, rfl⟩
                  replace hB_94 := fx_lt_e ev_34 hB_94
                  refine cx_iinc (z := (1 : Int32)) (v := v_34) hx hb dX1_scrubsNow_114 hl (k := 5) rfl (by decide) ev_34 (by decide) rfl (fun ls hl => ?_)
                  have hl : lv_has ls 6 [(5, .int v_34), (2, .int v_33), (0, .ref (Rs 100)), (1, .int p1), (3, .int x3_7), (4, .int v_9)] := hl
                  refine lv_goto (tgt := 94) hx hb dX1_scrubsNow_117 (by decide) ?_
                  exact ih_94 S_30 N_31 v_33 v_34 (fx_bk hB_94 hO_94) _ _ _ hw (lv_sub hl [2, 3, 1, 4, 5, 0] rfl)
            exact key_94 _ S_4 N_21 x2_6 (0 : Int32) hL_94 _ _ _ hw (lv_sub hl [1, 2, 3, 4, 5, 0] rfl)
          replace hB_4 := fx_b1_e hB_4
          obtain ⟨ex_62, hL_62, hB_4⟩ := hB_4
          have key_62 : ∀ (n_62 : Nat) (N_38 : Sx) (x5_39 : Int32), fx_lp (LX1_scrubsNow_s_62 S_4) n_62 (N_38, x5_39) = some ex_62 → ∀ (H : Heap) (locs : List Loc) (ls : Array Slot), cx_W g A s (sC g Rs (some (Rn 100)) im S_4 ++ (stC g Rn N_38 ++ X)) H locs → lv_has ls 6 [(0, .ref (Rs 100)), (1, .int p1), (2, .int x2_6), (3, .int x3_7), (4, .int v_9), (5, .int x5_39)] → W p l e rmX1_scrubsNow s m av below meth c H locs 0 0 Q (F0 m 62 ls []) := by
            intro n_62
            induction n_62 with
            | zero => intro N_38 x5_39 hL_62; exact fx_lp_0 hL_62
            | succ n_62 ih_62 =>
              intro N_38 x5_39 hL_62 H locs ls hw hl
              replace hL_62 := fx_lp_s hL_62
              obtain ⟨o_62, hB_62, hO_62⟩ := hL_62
              unfold LX1_scrubsNow_s_62 at hB_62
              replace hB_62 := fx_u2_e hB_62
              refine lv_iload hx hb dX1_scrubsNow_62 (lv_at hl 5 rfl) ?_
              refine lv_aload_n hx hb dX1_scrubsNow_64 rfl (lv_at hl 0 rfl) ?_
              replace hB_62 := fx_b1_e hB_62
              obtain ⟨r_40, h_41, hB_62⟩ := hB_62
              refine cx_cVi (r := r_40) (ws := sC g Rs (some (Rn 100)) im S_4 ++ (stC g Rn N_38 ++ X)) (ws' := sC g Rs (some (Rn 100)) im S_4 ++ (stC g Rn N_38 ++ X)) (As := []) (rest := [.int x5_39]) E (mX1_disks l g A Rs _ _ _ S_4 h_41) (kwX1_X1_disks E ⟨Nat.le_of_ble_eq_true rfl, Nat.le_of_ble_eq_true rfl⟩) 0 1 rfl rfl rfl hw rfl hl.1 rfl (Nat.le_of_ble_eq_true rfl) dX1_scrubsNow_65 ⟨Nat.le_of_ble_eq_true rfl, Nat.le_of_ble_eq_true rfl⟩ (fun H locs hw => ?_)
              refine lv_icmp_ge (tgt := 91) hx hb dX1_scrubsNow_68 (by decide) (fun c_42 => ?_) (fun c_42 => ?_)
              · replace hB_62 := fx_tt c_42 hB_62
                obtain rfl := fx_ex hB_62 hO_62
                exact jn_91 N_38 hB_4 _ _ _ hw (lv_sub hl [0, 1, 2, 3, 4] rfl)
              · replace hB_62 := fx_ff c_42 hB_62
                refine lv_aload_n hx hb dX1_scrubsNow_71 rfl (lv_at hl 0 rfl) ?_
                refine gX1_19s E hw dX1_scrubsNow_72 ?_
                refine lv_iload hx hb dX1_scrubsNow_75 (lv_at hl 5 rfl) ?_
                refine lv_aload_n hx hb dX1_scrubsNow_77 rfl (lv_at hl 0 rfl) ?_
                replace hB_62 := fx_b1_e hB_62
                obtain ⟨r_43, h_44, hB_62⟩ := hB_62
                refine cx_cVi (r := r_43) (ws := sC g Rs (some (Rn 100)) im S_4 ++ (stC g Rn N_38 ++ X)) (ws' := sC g Rs (some (Rn 100)) im S_4 ++ (stC g Rn N_38 ++ X)) (As := []) (rest := [.int x5_39, .ref (Rn 100)]) E (mX1_chunk l g A Rs _ _ _ S_4 h_44) (kwX1_X1_chunk E ⟨Nat.le_of_ble_eq_true rfl, Nat.le_of_ble_eq_true rfl⟩) 0 1 rfl rfl rfl hw rfl hl.1 rfl (Nat.le_of_ble_eq_true rfl) dX1_scrubsNow_78 ⟨Nat.le_of_ble_eq_true rfl, Nat.le_of_ble_eq_true rfl⟩ (fun H locs hw => ?_)
                replace hB_62 := fx_b2_e hB_62
                obtain ⟨r_45, N_46, h_47, hB_62⟩ := hB_62
                have hw : cx_W g A s (stC g Rn N_38 ++ (sC g Rs (some (Rn 100)) im S_4 ++ X)) H locs := cx_W.perm hw (List.perm_append_comm_assoc _ _ _)
                refine cx_cVi (r := r_45) (ws := stC g Rn N_38 ++ (sC g Rs (some (Rn 100)) im S_4 ++ X)) (ws' := stC g Rn N_46 ++ (sC g Rs (some (Rn 100)) im S_4 ++ X)) (As := [.int x5_39, .int r_43]) (rest := []) E (mX7_read l g A Rn _ N_38 x5_39 r_43 h_47) (kwX1_X7_read E ⟨Nat.le_of_ble_eq_true rfl, Nat.le_of_ble_eq_true rfl⟩) 0 2 rfl rfl rfl hw rfl hl.1 rfl (Nat.le_of_ble_eq_true rfl) dX1_scrubsNow_81 ⟨Nat.le_of_ble_eq_true rfl, Nat.le_of_ble_eq_true rfl⟩ (fun H locs hw => ?_)
                have hw : cx_W g A s (sC g Rs (some (Rn 100)) im S_4 ++ (stC g Rn N_46 ++ X)) H locs := cx_W.perm hw (List.perm_append_comm_assoc _ _ _)
                refine lv_pop hx hb dX1_scrubsNow_84 rfl ?_
                obtain ⟨v_48, ev_48⟩ : ∃ z : Int32, z = x5_39 + (1 : Int32) := ⟨_, rfl⟩
                replace hB_62 := fx_lt_e ev_48 hB_62
                refine cx_iinc (z := (1 : Int32)) (v := v_48) hx hb dX1_scrubsNow_85 hl (k := 5) rfl (by decide) ev_48 (by decide) rfl (fun ls hl => ?_)
                have hl : lv_has ls 6 [(5, .int v_48), (0, .ref (Rs 100)), (1, .int p1), (2, .int x2_6), (3, .int x3_7), (4, .int v_9)] := hl
                refine lv_goto (tgt := 62) hx hb dX1_scrubsNow_88 (by decide) ?_
                exact ih_62 N_46 v_48 (fx_bk hB_62 hO_62) _ _ _ hw (lv_sub hl [1, 2, 3, 4, 5, 0] rfl)
          exact key_62 _ N_13 (0 : Int32) hL_62 _ _ _ hw (lv_sub hl [2, 3, 4, 5, 1, 0] rfl)
        · replace hB_4 := fx_tt c_20 hB_4
          refine lv_aload_n hx hb dX1_scrubsNow_43 rfl (lv_at hl 1 rfl) ?_
          refine gX1_19s E hw dX1_scrubsNow_44 ?_
          refine lv_dup hx hb dX1_scrubsNow_47 rfl ?_
          refine gNX7_10 E hw dX1_scrubsNow_48 ?_
          refine lv_iconst (v := (1 : Int32)) hx hb dX1_scrubsNow_51 (by decide) ?_
          refine lv_iadd hx hb dX1_scrubsNow_52 ?_
          obtain ⟨N_50, eN_50⟩ : ∃ z : Sx, z = px_I N_13 10 ((gx_I N_13 10) + (1 : Int32)) := ⟨_, rfl⟩
          replace hB_4 := fx_lt_e eN_50 hB_4
          refine pNX7_10 eN_50 E hw dX1_scrubsNow_53 (fun H locs hw => ?_)
          refine lv_goto (tgt := 120) hx hb dX1_scrubsNow_56 (by decide) ?_
          exact jn_120 S_4 N_50 x2_6 hB_4 _ _ _ hw (lv_sub hl [1, 2, 3, 4] rfl)
  exact key_4 _ S N (0 : Int32) (0 : Int32) hL_4 _ _ _ hw (lv_sub hl [2, 3, 1, 0] rfl)
/-! scrubsNow(I)I -/
def JX1_scrubsNow_n_126 (x2_1 : Int32) (S_2 : Sx) : Option (Int32 × Sx) :=
  some (x2_1, S_2)
def LX1_scrubsNow_n_4 (p1 : Int32) (q_ : Sx × Int32 × Int32) : Option ((Sx × Int32 × Int32) ⊕ (Sx × Int32)) :=
  fx_u3 q_ (fun S_3 x2_4 x3_5 => if p1 ≤ x3_5 then (some (.inr (S_3, x2_4))) else none)
def FX1_scrubsNow_n (S : Sx) (p1 : Int32) : Option (Int32 × Sx) :=
  fx_b1 (fx_lp (LX1_scrubsNow_n_4 p1) 2000 (S, (0 : Int32), (0 : Int32))) (fun q_ => fx_u2 q_ (fun S_7 y2_8 => JX1_scrubsNow_n_126 y2_8 S_7))
set_option maxHeartbeats 4000000 in
set_option maxRecDepth 100000 in
theorem mX1_scrubsNow_n (l : Launch) (g : Gx) (A : Nat → Prop) (Rs : Nat → Nat) (im : Option Nat) (X : va_W) (S : Sx) (p1 : Int32) {o : Int32 × Sx} (hF : FX1_scrubsNow_n S p1 = some o) :
    cx_i l yX1_scrubsNow cX1_scrubsNow 6 .int rmX1_scrubsNow [.ref (Rs 100), .int p1] g A (sC g Rs none im S ++ X) o.1 (sC g Rs none im o.2 ++ X) 0 0 := by
  refine cx_i_of (by decide) (Nat.le_of_ble_eq_true rfl) ?_
  intro p e s m av below meth c Q E hret H hw ls hl
  have E : cx_E p m meth c cX1_scrubsNow 6 s av RX1 g A := E
  have hx := E.1.1
  have hb := E.1.2.1
  have hl : lv_has ls 6 [(0, .ref (Rs 100)), (1, .int p1)] := hl
  generalize hlc : ([] : List Loc) = locs at hw ⊢
  clear hlc
  unfold FX1_scrubsNow_n at hF
  refine lv_iconst (v := (0 : Int32)) hx hb dX1_scrubsNow_0 (by decide) ?_
  refine lv_istore_n hx hb dX1_scrubsNow_1 rfl hl (by decide) rfl (fun ls hl => ?_)
  have hl : lv_has ls 6 [(2, .int (0 : Int32)), (0, .ref (Rs 100)), (1, .int p1)] := hl
  refine lv_iconst (v := (0 : Int32)) hx hb dX1_scrubsNow_2 (by decide) ?_
  refine lv_istore_n hx hb dX1_scrubsNow_3 rfl hl (by decide) rfl (fun ls hl => ?_)
  have hl : lv_has ls 6 [(3, .int (0 : Int32)), (2, .int (0 : Int32)), (0, .ref (Rs 100)), (1, .int p1)] := hl
  have jn_126 : ∀ (S_2 : Sx) (x2_1 : Int32), JX1_scrubsNow_n_126 x2_1 S_2 = some o → ∀ (H : Heap) (locs : List Loc) (ls : Array Slot), cx_W g A s (sC g Rs none im S_2 ++ X) H locs → lv_has ls 6 [(2, .int x2_1)] → W p l e rmX1_scrubsNow s m av below meth c H locs 0 0 Q (F0 m 126 ls []) := by
    intro S_2 x2_1 hJ_126 H locs ls hw hl
    unfold JX1_scrubsNow_n_126 at hJ_126
    refine lv_iload_n hx hb dX1_scrubsNow_126 rfl (lv_at hl 0 rfl) ?_
    obtain rfl := Option.some.inj hJ_126
    exact hret _ _ _ _ _ rfl rfl hw dX1_scrubsNow_127
  replace hF := fx_b1_e hF
  obtain ⟨ex_4, hL_4, hF⟩ := hF
  have key_4 : ∀ (n_4 : Nat) (S_3 : Sx) (x2_4 : Int32) (x3_5 : Int32), fx_lp (LX1_scrubsNow_n_4 p1) n_4 (S_3, x2_4, x3_5) = some ex_4 → ∀ (H : Heap) (locs : List Loc) (ls : Array Slot), cx_W g A s (sC g Rs none im S_3 ++ X) H locs → lv_has ls 6 [(0, .ref (Rs 100)), (1, .int p1), (2, .int x2_4), (3, .int x3_5)] → W p l e rmX1_scrubsNow s m av below meth c H locs 0 0 Q (F0 m 4 ls []) := by
    intro n_4
    induction n_4 with
    | zero => intro S_3 x2_4 x3_5 hL_4; exact fx_lp_0 hL_4
    | succ n_4 ih_4 =>
      intro S_3 x2_4 x3_5 hL_4 H locs ls hw hl
      replace hL_4 := fx_lp_s hL_4
      obtain ⟨o_4, hB_4, hO_4⟩ := hL_4
      unfold LX1_scrubsNow_n_4 at hB_4
      replace hB_4 := fx_u3_e hB_4
      refine lv_iload_n hx hb dX1_scrubsNow_4 rfl (lv_at hl 3 rfl) ?_
      refine lv_iload_n hx hb dX1_scrubsNow_5 rfl (lv_at hl 1 rfl) ?_
      refine lv_icmp_ge (tgt := 126) hx hb dX1_scrubsNow_6 (by decide) (fun c_6 => ?_) (fun c_6 => ?_)
      · replace hB_4 := fx_tt c_6 hB_4
        obtain rfl := fx_ex hB_4 hO_4
        replace hF := fx_u2_e hF
        exact jn_126 S_3 x2_4 hF _ _ _ hw (lv_sub hl [2] rfl)
      · replace hB_4 := fx_ff c_6 hB_4
        refine lv_aload_n hx hb dX1_scrubsNow_9 rfl (lv_at hl 0 rfl) ?_
        refine gX1_19n E hw dX1_scrubsNow_10 ?_
        exact fx_no hB_4
  exact key_4 _ S (0 : Int32) (0 : Int32) hL_4 _ _ _ hw (lv_sub hl [2, 3, 1, 0] rfl)
/-! tearsNow(III)I -/
def JX1_tearsNow_s_159 (N_12 : Sx) (S_1 : Sx) : Option (Int32 × Sx × Sx) :=
  fx_b1 (FJ10_bitCount (gx_I N_12 6)) (fun r_13 => some (r_13, S_1, N_12))
def JX1_tearsNow_s_135 (p3 : Int32) (N_11 : Sx) (S_1 : Sx) (r_7 : Int32) (v_6 : Int32) : Option (Int32 × Sx × Sx) :=
  if p3 ≤ (1 : Int32) then (JX1_tearsNow_s_159 N_11 S_1) else (fx_b2 (FX1_writeOf_s S_1 N_11 (gx_I S_1 24) r_7) (fun r_16 N_17 => fx_b1 (FX1_changesSums_s S_1 N_17 v_6 (1 : Int32) (0 : Int32)) (fun N_19 => JX1_tearsNow_s_159 N_19 S_1)))
def JX1_tearsNow_s_83 (N_9 : Sx) (S_1 : Sx) (p3 : Int32) (r_7 : Int32) (v_6 : Int32) (p2 : Int32) : Option (Int32 × Sx × Sx) :=
  fx_lt (px_I N_9 6 ((gx_I N_9 6) ||| ((1 : Int32) <<< ((gx_I S_1 24) &&& 31)))) (fun N_10 => if p3 ≤ 0 then (JX1_tearsNow_s_135 p3 N_10 S_1 r_7 v_6) else (fx_b2 (FX1_writeOf_s S_1 N_10 (gx_I S_1 24) (gx_I S_1 26)) (fun r_22 N_23 => fx_b1 (FX1_put_s S_1 N_23 (gx_I S_1 24) (gx_I S_1 26) (gx_I S_1 25) p2) (fun N_25 => JX1_tearsNow_s_135 p3 N_25 S_1 r_7 v_6))))
def JX1_tearsNow_s_77 (x6_28 : Int32) (N_30 : Sx) : Option ((Sx × Int32) ⊕ (Sx)) :=
  fx_lt (x6_28 + (1 : Int32)) (fun v_31 => some (.inl (N_30, v_31)))
def JX1_tearsNow_s_66 (S_1 : Sx) (N_27 : Sx) (x6_28 : Int32) : Option ((Sx × Int32) ⊕ (Sx)) :=
  fx_b2 (FX1_readOf_s S_1 N_27 (gx_I S_1 24) x6_28) (fun r_32 N_33 => JX1_tearsNow_s_77 x6_28 N_33)
def LX1_tearsNow_s_41 (r_7 : Int32) (S_1 : Sx) (q_ : Sx × Int32) : Option ((Sx × Int32) ⊕ (Sx)) :=
  fx_u2 q_ (fun N_27 x6_28 => if (r_7 + (2 : Int32)) ≤ x6_28 then (some (.inr N_27)) else (if r_7 ≤ x6_28 then (JX1_tearsNow_s_66 S_1 N_27 x6_28) else (if x6_28 = (gx_I S_1 26) then (JX1_tearsNow_s_66 S_1 N_27 x6_28) else (JX1_tearsNow_s_77 x6_28 N_27))))
def FX1_tearsNow_s (S : Sx) (N : Sx) (p1 : Int32) (p2 : Int32) (p3 : Int32) : Option (Int32 × Sx × Sx) :=
  fx_b1 (FX1_lays S p1) (fun S_1 => fx_b1 (FX1_cellOf (gx_I S_1 23) (gx_I S_1 24) (gx_I S_1 25)) (fun r_3 => fx_gd (fx_in r_3 384) (fx_lt (p2 ^^^ (gx_A N 0 r_3.toNatClampNeg)) (fun v_6 => fx_b1 (FX1_data S_1) (fun r_7 => fx_b1 (fx_lp (LX1_tearsNow_s_41 r_7 S_1) 2000 (N, (0 : Int32))) (fun N_37 => JX1_tearsNow_s_83 N_37 S_1 p3 r_7 v_6 p2))))))
set_option maxHeartbeats 4000000 in
set_option maxRecDepth 100000 in
theorem mX1_tearsNow_s (l : Launch) (g : Gx) (A : Nat → Prop) (Rs Rn : Nat → Nat) (im : Option Nat) (X : va_W) (S : Sx) (N : Sx) (p1 : Int32) (p2 : Int32) (p3 : Int32) {o : Int32 × Sx × Sx} (hF : FX1_tearsNow_s S N p1 p2 p3 = some o) :
    cx_i l yX1_tearsNow cX1_tearsNow 7 .int rmX1_tearsNow [.ref (Rs 100), .int p1, .int p2, .int p3] g A (sC g Rs (some (Rn 100)) im S ++ (stC g Rn N ++ X)) o.1 (sC g Rs (some (Rn 100)) im o.2.1 ++ (stC g Rn o.2.2 ++ X)) 0 0 := by
  refine cx_i_of (by decide) (Nat.le_of_ble_eq_true rfl) ?_
  intro p e s m av below meth c Q E hret H hw ls hl
  have E : cx_E p m meth c cX1_tearsNow 7 s av RX1 g A := E
  have hx := E.1.1
  have hb := E.1.2.1
  have hl : lv_has ls 7 [(0, .ref (Rs 100)), (1, .int p1), (2, .int p2), (3, .int p3)] := hl
  generalize hlc : ([] : List Loc) = locs at hw ⊢
  clear hlc
  unfold FX1_tearsNow_s at hF
  refine lv_aload_n hx hb dX1_tearsNow_0 rfl (lv_at hl 0 rfl) ?_
  refine lv_iload_n hx hb dX1_tearsNow_1 rfl (lv_at hl 1 rfl) ?_
  replace hF := fx_b1_e hF
  obtain ⟨S_1, h_2, hF⟩ := hF
  refine cx_cVv (ws := sC g Rs (some (Rn 100)) im S ++ (stC g Rn N ++ X)) (ws' := sC g Rs (some (Rn 100)) im S_1 ++ (stC g Rn N ++ X)) (As := [.int p1]) (rest := []) E (mX1_lays l g A Rs _ _ _ S p1 h_2) (kwX1_X1_lays E ⟨Nat.le_of_ble_eq_true rfl, Nat.le_of_ble_eq_true rfl⟩) 0 1 rfl rfl rfl hw rfl hl.1 rfl (Nat.le_of_ble_eq_true rfl) dX1_tearsNow_2 ⟨Nat.le_of_ble_eq_true rfl, Nat.le_of_ble_eq_true rfl⟩ (fun H locs hw => ?_)
  refine lv_iload_n hx hb dX1_tearsNow_5 rfl (lv_at hl 2 rfl) ?_
  refine lv_aload_n hx hb dX1_tearsNow_6 rfl (lv_at hl 0 rfl) ?_
  refine gX1_19s E hw dX1_tearsNow_7 ?_
  refine gNX7_0 E hw dX1_tearsNow_10 ?_
  refine lv_aload_n hx hb dX1_tearsNow_13 rfl (lv_at hl 0 rfl) ?_
  refine gX1_23 E hw dX1_tearsNow_14 ?_
  refine lv_aload_n hx hb dX1_tearsNow_17 rfl (lv_at hl 0 rfl) ?_
  refine gX1_24 E hw dX1_tearsNow_18 ?_
  refine lv_aload_n hx hb dX1_tearsNow_21 rfl (lv_at hl 0 rfl) ?_
  refine gX1_25 E hw dX1_tearsNow_22 ?_
  replace hF := fx_b1_e hF
  obtain ⟨r_3, h_4, hF⟩ := hF
  refine cx_cSi (r := r_3) (ws := sC g Rs (some (Rn 100)) im S_1 ++ (stC g Rn N ++ X)) (ws' := sC g Rs (some (Rn 100)) im S_1 ++ (stC g Rn N ++ X)) (As := [.int (gx_I S_1 23), .int (gx_I S_1 24), .int (gx_I S_1 25)]) (rest := [.ref (Rn 0), .int p2]) E (mX1_cellOf l g A (sC g Rs (some (Rn 100)) im S_1 ++ (stC g Rn N ++ X)) (gx_I S_1 23) (gx_I S_1 24) (gx_I S_1 25) h_4) (kwX1_X1_cellOf E ⟨Nat.le_of_ble_eq_true rfl, Nat.le_of_ble_eq_true rfl⟩) hw rfl hl.1 rfl (Nat.le_of_ble_eq_true rfl) dX1_tearsNow_25 ⟨Nat.le_of_ble_eq_true rfl, Nat.le_of_ble_eq_true rfl⟩ (fun H locs hw => ?_)
  replace hF := fx_gd_e hF
  obtain ⟨h_5, hF⟩ := hF
  refine raX7_0 E hw (fx_in_e h_5) dX1_tearsNow_28 ?_
  refine lv_ixor hx hb dX1_tearsNow_29 ?_
  refine lv_topi (fun v_6 ev_6 => ?_)
  replace hF := fx_lt_e ev_6 hF
  refine lv_istore hx hb dX1_tearsNow_30 hl (by decide) rfl (fun ls hl => ?_)
  have hl : lv_has ls 7 [(4, .int v_6), (0, .ref (Rs 100)), (1, .int p1), (2, .int p2), (3, .int p3)] := hl
  refine lv_aload_n hx hb dX1_tearsNow_32 rfl (lv_at hl 1 rfl) ?_
  replace hF := fx_b1_e hF
  obtain ⟨r_7, h_8, hF⟩ := hF
  refine cx_cVi (r := r_7) (ws := sC g Rs (some (Rn 100)) im S_1 ++ (stC g Rn N ++ X)) (ws' := sC g Rs (some (Rn 100)) im S_1 ++ (stC g Rn N ++ X)) (As := []) (rest := []) E (mX1_data l g A Rs _ _ _ S_1 h_8) (kwX1_X1_data E ⟨Nat.le_of_ble_eq_true rfl, Nat.le_of_ble_eq_true rfl⟩) 0 1 rfl rfl rfl hw rfl hl.1 rfl (Nat.le_of_ble_eq_true rfl) dX1_tearsNow_33 ⟨Nat.le_of_ble_eq_true rfl, Nat.le_of_ble_eq_true rfl⟩ (fun H locs hw => ?_)
  refine lv_istore hx hb dX1_tearsNow_36 hl (by decide) rfl (fun ls hl => ?_)
  have hl : lv_has ls 7 [(5, .int r_7), (4, .int v_6), (0, .ref (Rs 100)), (1, .int p1), (2, .int p2), (3, .int p3)] := hl
  refine lv_iconst (v := (0 : Int32)) hx hb dX1_tearsNow_38 (by decide) ?_
  refine lv_istore hx hb dX1_tearsNow_39 hl (by decide) rfl (fun ls hl => ?_)
  have hl : lv_has ls 7 [(6, .int (0 : Int32)), (5, .int r_7), (4, .int v_6), (0, .ref (Rs 100)), (1, .int p1), (2, .int p2), (3, .int p3)] := hl
  have jn_83 : ∀ (N_9 : Sx), JX1_tearsNow_s_83 N_9 S_1 p3 r_7 v_6 p2 = some o → ∀ (H : Heap) (locs : List Loc) (ls : Array Slot), cx_W g A s (sC g Rs (some (Rn 100)) im S_1 ++ (stC g Rn N_9 ++ X)) H locs → lv_has ls 7 [(0, .ref (Rs 100)), (2, .int p2), (3, .int p3), (4, .int v_6), (5, .int r_7)] → W p l e rmX1_tearsNow s m av below meth c H locs 0 0 Q (F0 m 83 ls []) := by
    intro N_9 hJ_83 H locs ls hw hl
    unfold JX1_tearsNow_s_83 at hJ_83
    refine lv_aload_n hx hb dX1_tearsNow_83 rfl (lv_at hl 0 rfl) ?_
    refine gX1_19s E hw dX1_tearsNow_84 ?_
    refine lv_dup hx hb dX1_tearsNow_87 rfl ?_
    refine gNX7_6 E hw dX1_tearsNow_88 ?_
    refine lv_iconst (v := (1 : Int32)) hx hb dX1_tearsNow_91 (by decide) ?_
    refine lv_aload_n hx hb dX1_tearsNow_92 rfl (lv_at hl 0 rfl) ?_
    refine gX1_24 E hw dX1_tearsNow_93 ?_
    refine lv_ishl hx hb dX1_tearsNow_96 ?_
    refine lv_ior hx hb dX1_tearsNow_97 ?_
    obtain ⟨N_10, eN_10⟩ : ∃ z : Sx, z = px_I N_9 6 ((gx_I N_9 6) ||| ((1 : Int32) <<< ((gx_I S_1 24) &&& 31))) := ⟨_, rfl⟩
    replace hJ_83 := fx_lt_e eN_10 hJ_83
    refine pNX7_6 eN_10 E hw dX1_tearsNow_98 (fun H locs hw => ?_)
    refine lv_iload_n hx hb dX1_tearsNow_101 rfl (lv_at hl 2 rfl) ?_
    have jn_135 : ∀ (N_11 : Sx), JX1_tearsNow_s_135 p3 N_11 S_1 r_7 v_6 = some o → ∀ (H : Heap) (locs : List Loc) (ls : Array Slot), cx_W g A s (sC g Rs (some (Rn 100)) im S_1 ++ (stC g Rn N_11 ++ X)) H locs → lv_has ls 7 [(0, .ref (Rs 100)), (3, .int p3), (4, .int v_6), (5, .int r_7)] → W p l e rmX1_tearsNow s m av below meth c H locs 0 0 Q (F0 m 135 ls []) := by
      intro N_11 hJ_135 H locs ls hw hl
      unfold JX1_tearsNow_s_135 at hJ_135
      refine lv_iload_n hx hb dX1_tearsNow_135 rfl (lv_at hl 1 rfl) ?_
      refine lv_iconst (v := (1 : Int32)) hx hb dX1_tearsNow_136 (by decide) ?_
      have jn_159 : ∀ (N_12 : Sx), JX1_tearsNow_s_159 N_12 S_1 = some o → ∀ (H : Heap) (locs : List Loc) (ls : Array Slot), cx_W g A s (sC g Rs (some (Rn 100)) im S_1 ++ (stC g Rn N_12 ++ X)) H locs → lv_has ls 7 [(0, .ref (Rs 100))] → W p l e rmX1_tearsNow s m av below meth c H locs 0 0 Q (F0 m 159 ls []) := by
        intro N_12 hJ_159 H locs ls hw hl
        unfold JX1_tearsNow_s_159 at hJ_159
        refine lv_aload_n hx hb dX1_tearsNow_159 rfl (lv_at hl 0 rfl) ?_
        refine gX1_19s E hw dX1_tearsNow_160 ?_
        refine gNX7_6 E hw dX1_tearsNow_163 ?_
        replace hJ_159 := fx_b1_e hJ_159
        obtain ⟨r_13, h_14, hJ_159⟩ := hJ_159
        refine cx_cSi (r := r_13) (ws := sC g Rs (some (Rn 100)) im S_1 ++ (stC g Rn N_12 ++ X)) (ws' := sC g Rs (some (Rn 100)) im S_1 ++ (stC g Rn N_12 ++ X)) (As := [.int (gx_I N_12 6)]) (rest := []) E (mJ10_bitCount l g A (sC g Rs (some (Rn 100)) im S_1 ++ (stC g Rn N_12 ++ X)) (gx_I N_12 6) h_14) (kwX1_J10_bitCount E ⟨Nat.le_of_ble_eq_true rfl, Nat.le_of_ble_eq_true rfl⟩) hw rfl hl.1 rfl (Nat.le_of_ble_eq_true rfl) dX1_tearsNow_166 ⟨Nat.le_of_ble_eq_true rfl, Nat.le_of_ble_eq_true rfl⟩ (fun H locs hw => ?_)
        obtain rfl := Option.some.inj hJ_159
        exact hret _ _ _ _ _ rfl rfl hw dX1_tearsNow_169
      refine lv_icmp_le (tgt := 159) hx hb dX1_tearsNow_137 (by decide) (fun c_15 => ?_) (fun c_15 => ?_)
      · replace hJ_135 := fx_tt c_15 hJ_135
        exact jn_159 N_11 hJ_135 _ _ _ hw (lv_sub hl [0] rfl)
      · replace hJ_135 := fx_ff c_15 hJ_135
        refine lv_aload_n hx hb dX1_tearsNow_140 rfl (lv_at hl 0 rfl) ?_
        refine lv_aload_n hx hb dX1_tearsNow_141 rfl (lv_at hl 0 rfl) ?_
        refine gX1_24 E hw dX1_tearsNow_142 ?_
        refine lv_iload hx hb dX1_tearsNow_145 (lv_at hl 3 rfl) ?_
        replace hJ_135 := fx_b2_e hJ_135
        obtain ⟨r_16, N_17, h_18, hJ_135⟩ := hJ_135
        refine cx_cVi (r := r_16) (ws := sC g Rs (some (Rn 100)) im S_1 ++ (stC g Rn N_11 ++ X)) (ws' := sC g Rs (some (Rn 100)) im S_1 ++ (stC g Rn N_17 ++ X)) (As := [.int (gx_I S_1 24), .int r_7]) (rest := []) E (mX1_writeOf_s l g A Rs Rn _ _ S_1 N_11 (gx_I S_1 24) r_7 h_18) (kwX1_X1_writeOf E ⟨Nat.le_of_ble_eq_true rfl, Nat.le_of_ble_eq_true rfl⟩) 0 1 rfl rfl rfl hw rfl hl.1 rfl (Nat.le_of_ble_eq_true rfl) dX1_tearsNow_147 ⟨Nat.le_of_ble_eq_true rfl, Nat.le_of_ble_eq_true rfl⟩ (fun H locs hw => ?_)
        refine lv_pop hx hb dX1_tearsNow_150 rfl ?_
        refine lv_aload_n hx hb dX1_tearsNow_151 rfl (lv_at hl 0 rfl) ?_
        refine lv_iload hx hb dX1_tearsNow_152 (lv_at hl 2 rfl) ?_
        refine lv_iconst (v := (1 : Int32)) hx hb dX1_tearsNow_154 (by decide) ?_
        refine lv_iconst (v := (0 : Int32)) hx hb dX1_tearsNow_155 (by decide) ?_
        replace hJ_135 := fx_b1_e hJ_135
        obtain ⟨N_19, h_20, hJ_135⟩ := hJ_135
        refine cx_cVv (ws := sC g Rs (some (Rn 100)) im S_1 ++ (stC g Rn N_17 ++ X)) (ws' := sC g Rs (some (Rn 100)) im S_1 ++ (stC g Rn N_19 ++ X)) (As := [.int v_6, .int (1 : Int32), .int (0 : Int32)]) (rest := []) E (mX1_changesSums_s l g A Rs Rn _ _ S_1 N_17 v_6 (1 : Int32) (0 : Int32) h_20) (kwX1_X1_changesSums E ⟨Nat.le_of_ble_eq_true rfl, Nat.le_of_ble_eq_true rfl⟩) 0 1 rfl rfl rfl hw rfl hl.1 rfl (Nat.le_of_ble_eq_true rfl) dX1_tearsNow_156 ⟨Nat.le_of_ble_eq_true rfl, Nat.le_of_ble_eq_true rfl⟩ (fun H locs hw => ?_)
        exact jn_159 N_19 hJ_135 _ _ _ hw (lv_sub hl [0] rfl)
    refine lv_if_le (tgt := 135) hx hb dX1_tearsNow_102 (by decide) (fun c_21 => ?_) (fun c_21 => ?_)
    · replace hJ_83 := fx_tt c_21 hJ_83
      exact jn_135 N_10 hJ_83 _ _ _ hw (lv_sub hl [0, 2, 3, 4] rfl)
    · replace hJ_83 := fx_ff c_21 hJ_83
      refine lv_aload_n hx hb dX1_tearsNow_105 rfl (lv_at hl 0 rfl) ?_
      refine lv_aload_n hx hb dX1_tearsNow_106 rfl (lv_at hl 0 rfl) ?_
      refine gX1_24 E hw dX1_tearsNow_107 ?_
      refine lv_aload_n hx hb dX1_tearsNow_110 rfl (lv_at hl 0 rfl) ?_
      refine gX1_26 E hw dX1_tearsNow_111 ?_
      replace hJ_83 := fx_b2_e hJ_83
      obtain ⟨r_22, N_23, h_24, hJ_83⟩ := hJ_83
      refine cx_cVi (r := r_22) (ws := sC g Rs (some (Rn 100)) im S_1 ++ (stC g Rn N_10 ++ X)) (ws' := sC g Rs (some (Rn 100)) im S_1 ++ (stC g Rn N_23 ++ X)) (As := [.int (gx_I S_1 24), .int (gx_I S_1 26)]) (rest := []) E (mX1_writeOf_s l g A Rs Rn _ _ S_1 N_10 (gx_I S_1 24) (gx_I S_1 26) h_24) (kwX1_X1_writeOf E ⟨Nat.le_of_ble_eq_true rfl, Nat.le_of_ble_eq_true rfl⟩) 0 1 rfl rfl rfl hw rfl hl.1 rfl (Nat.le_of_ble_eq_true rfl) dX1_tearsNow_114 ⟨Nat.le_of_ble_eq_true rfl, Nat.le_of_ble_eq_true rfl⟩ (fun H locs hw => ?_)
      refine lv_pop hx hb dX1_tearsNow_117 rfl ?_
      refine lv_aload_n hx hb dX1_tearsNow_118 rfl (lv_at hl 0 rfl) ?_
      refine lv_aload_n hx hb dX1_tearsNow_119 rfl (lv_at hl 0 rfl) ?_
      refine gX1_24 E hw dX1_tearsNow_120 ?_
      refine lv_aload_n hx hb dX1_tearsNow_123 rfl (lv_at hl 0 rfl) ?_
      refine gX1_26 E hw dX1_tearsNow_124 ?_
      refine lv_aload_n hx hb dX1_tearsNow_127 rfl (lv_at hl 0 rfl) ?_
      refine gX1_25 E hw dX1_tearsNow_128 ?_
      refine lv_iload_n hx hb dX1_tearsNow_131 rfl (lv_at hl 1 rfl) ?_
      replace hJ_83 := fx_b1_e hJ_83
      obtain ⟨N_25, h_26, hJ_83⟩ := hJ_83
      refine cx_cVv (ws := sC g Rs (some (Rn 100)) im S_1 ++ (stC g Rn N_23 ++ X)) (ws' := sC g Rs (some (Rn 100)) im S_1 ++ (stC g Rn N_25 ++ X)) (As := [.int (gx_I S_1 24), .int (gx_I S_1 26), .int (gx_I S_1 25), .int p2]) (rest := []) E (mX1_put_s l g A Rs Rn _ _ S_1 N_23 (gx_I S_1 24) (gx_I S_1 26) (gx_I S_1 25) p2 h_26) (kwX1_X1_put E ⟨Nat.le_of_ble_eq_true rfl, Nat.le_of_ble_eq_true rfl⟩) 0 1 rfl rfl rfl hw rfl hl.1 rfl (Nat.le_of_ble_eq_true rfl) dX1_tearsNow_132 ⟨Nat.le_of_ble_eq_true rfl, Nat.le_of_ble_eq_true rfl⟩ (fun H locs hw => ?_)
      exact jn_135 N_25 hJ_83 _ _ _ hw (lv_sub hl [0, 2, 3, 4] rfl)
  replace hF := fx_b1_e hF
  obtain ⟨ex_41, hL_41, hF⟩ := hF
  have key_41 : ∀ (n_41 : Nat) (N_27 : Sx) (x6_28 : Int32), fx_lp (LX1_tearsNow_s_41 r_7 S_1) n_41 (N_27, x6_28) = some ex_41 → ∀ (H : Heap) (locs : List Loc) (ls : Array Slot), cx_W g A s (sC g Rs (some (Rn 100)) im S_1 ++ (stC g Rn N_27 ++ X)) H locs → lv_has ls 7 [(0, .ref (Rs 100)), (2, .int p2), (3, .int p3), (4, .int v_6), (5, .int r_7), (6, .int x6_28)] → W p l e rmX1_tearsNow s m av below meth c H locs 0 0 Q (F0 m 41 ls []) := by
    intro n_41
    induction n_41 with
    | zero => intro N_27 x6_28 hL_41; exact fx_lp_0 hL_41
    | succ n_41 ih_41 =>
      intro N_27 x6_28 hL_41 H locs ls hw hl
      replace hL_41 := fx_lp_s hL_41
      obtain ⟨o_41, hB_41, hO_41⟩ := hL_41
      unfold LX1_tearsNow_s_41 at hB_41
      replace hB_41 := fx_u2_e hB_41
      refine lv_iload hx hb dX1_tearsNow_41 (lv_at hl 5 rfl) ?_
      refine lv_iload hx hb dX1_tearsNow_43 (lv_at hl 4 rfl) ?_
      refine lv_iconst (v := (2 : Int32)) hx hb dX1_tearsNow_45 (by decide) ?_
      refine lv_iadd hx hb dX1_tearsNow_46 ?_
      refine lv_icmp_ge (tgt := 83) hx hb dX1_tearsNow_47 (by decide) (fun c_29 => ?_) (fun c_29 => ?_)
      · replace hB_41 := fx_tt c_29 hB_41
        obtain rfl := fx_ex hB_41 hO_41
        exact jn_83 N_27 hF _ _ _ hw (lv_sub hl [0, 1, 2, 3, 4] rfl)
      · replace hB_41 := fx_ff c_29 hB_41
        refine lv_iload hx hb dX1_tearsNow_50 (lv_at hl 5 rfl) ?_
        refine lv_iload hx hb dX1_tearsNow_52 (lv_at hl 4 rfl) ?_
        have jn_77 : ∀ (N_30 : Sx), JX1_tearsNow_s_77 x6_28 N_30 = some o_41 → ∀ (H : Heap) (locs : List Loc) (ls : Array Slot), cx_W g A s (sC g Rs (some (Rn 100)) im S_1 ++ (stC g Rn N_30 ++ X)) H locs → lv_has ls 7 [(0, .ref (Rs 100)), (2, .int p2), (3, .int p3), (4, .int v_6), (5, .int r_7), (6, .int x6_28)] → W p l e rmX1_tearsNow s m av below meth c H locs 0 0 Q (F0 m 77 ls []) := by
          intro N_30 hJ_77 H locs ls hw hl
          unfold JX1_tearsNow_s_77 at hJ_77
          obtain ⟨v_31, ev_31⟩ : ∃ z : Int32, z = x6_28 + (1 : Int32) := ⟨_, rfl⟩
          replace hJ_77 := fx_lt_e ev_31 hJ_77
          refine cx_iinc (z := (1 : Int32)) (v := v_31) hx hb dX1_tearsNow_77 hl (k := 5) rfl (by decide) ev_31 (by decide) rfl (fun ls hl => ?_)
          have hl : lv_has ls 7 [(6, .int v_31), (0, .ref (Rs 100)), (2, .int p2), (3, .int p3), (4, .int v_6), (5, .int r_7)] := hl
          refine lv_goto (tgt := 41) hx hb dX1_tearsNow_80 (by decide) ?_
          exact ih_41 N_30 v_31 (fx_bk hJ_77 hO_41) _ _ _ hw (lv_sub hl [1, 2, 3, 4, 5, 0] rfl)
        have jn_66 : JX1_tearsNow_s_66 S_1 N_27 x6_28 = some o_41 → ∀ (H : Heap) (locs : List Loc) (ls : Array Slot), cx_W g A s (sC g Rs (some (Rn 100)) im S_1 ++ (stC g Rn N_27 ++ X)) H locs → lv_has ls 7 [(0, .ref (Rs 100)), (2, .int p2), (3, .int p3), (4, .int v_6), (5, .int r_7), (6, .int x6_28)] → W p l e rmX1_tearsNow s m av below meth c H locs 0 0 Q (F0 m 66 ls []) := by
          intro  hJ_66 H locs ls hw hl
          unfold JX1_tearsNow_s_66 at hJ_66
          refine lv_aload_n hx hb dX1_tearsNow_66 rfl (lv_at hl 0 rfl) ?_
          refine lv_aload_n hx hb dX1_tearsNow_67 rfl (lv_at hl 0 rfl) ?_
          refine gX1_24 E hw dX1_tearsNow_68 ?_
          refine lv_iload hx hb dX1_tearsNow_71 (lv_at hl 5 rfl) ?_
          replace hJ_66 := fx_b2_e hJ_66
          obtain ⟨r_32, N_33, h_34, hJ_66⟩ := hJ_66
          refine cx_cVi (r := r_32) (ws := sC g Rs (some (Rn 100)) im S_1 ++ (stC g Rn N_27 ++ X)) (ws' := sC g Rs (some (Rn 100)) im S_1 ++ (stC g Rn N_33 ++ X)) (As := [.int (gx_I S_1 24), .int x6_28]) (rest := []) E (mX1_readOf_s l g A Rs Rn _ _ S_1 N_27 (gx_I S_1 24) x6_28 h_34) (kwX1_X1_readOf E ⟨Nat.le_of_ble_eq_true rfl, Nat.le_of_ble_eq_true rfl⟩) 0 1 rfl rfl rfl hw rfl hl.1 rfl (Nat.le_of_ble_eq_true rfl) dX1_tearsNow_73 ⟨Nat.le_of_ble_eq_true rfl, Nat.le_of_ble_eq_true rfl⟩ (fun H locs hw => ?_)
          refine lv_pop hx hb dX1_tearsNow_76 rfl ?_
          exact jn_77 N_33 hJ_66 _ _ _ hw hl
        refine lv_icmp_ge (tgt := 66) hx hb dX1_tearsNow_54 (by decide) (fun c_35 => ?_) (fun c_35 => ?_)
        · replace hB_41 := fx_tt c_35 hB_41
          exact jn_66  hB_41 _ _ _ hw hl
        · replace hB_41 := fx_ff c_35 hB_41
          refine lv_iload hx hb dX1_tearsNow_57 (lv_at hl 5 rfl) ?_
          refine lv_aload_n hx hb dX1_tearsNow_59 rfl (lv_at hl 0 rfl) ?_
          refine gX1_26 E hw dX1_tearsNow_60 ?_
          refine lv_icmp_ne (tgt := 77) hx hb dX1_tearsNow_63 (by decide) (fun c_36 => ?_) (fun c_36 => ?_)
          · replace hB_41 := fx_ff c_36 hB_41
            exact jn_77 N_27 hB_41 _ _ _ hw hl
          · replace hB_41 := fx_tt c_36 hB_41
            exact jn_66  hB_41 _ _ _ hw hl
  exact key_41 _ N (0 : Int32) hL_41 _ _ _ hw (lv_sub hl [3, 5, 6, 2, 1, 0] rfl)
/-! tearsNow(III)I -/
def FX1_tearsNow_n (S : Sx) (p1 : Int32) (p2 : Int32) (p3 : Int32) : Option (Int32 × Sx) :=
  fx_b1 (FX1_lays S p1) (fun S_1 => none)
set_option maxHeartbeats 4000000 in
set_option maxRecDepth 100000 in
theorem mX1_tearsNow_n (l : Launch) (g : Gx) (A : Nat → Prop) (Rs : Nat → Nat) (im : Option Nat) (X : va_W) (S : Sx) (p1 : Int32) (p2 : Int32) (p3 : Int32) {o : Int32 × Sx} (hF : FX1_tearsNow_n S p1 p2 p3 = some o) :
    cx_i l yX1_tearsNow cX1_tearsNow 7 .int rmX1_tearsNow [.ref (Rs 100), .int p1, .int p2, .int p3] g A (sC g Rs none im S ++ X) o.1 (sC g Rs none im o.2 ++ X) 0 0 := by
  refine cx_i_of (by decide) (Nat.le_of_ble_eq_true rfl) ?_
  intro p e s m av below meth c Q E hret H hw ls hl
  have E : cx_E p m meth c cX1_tearsNow 7 s av RX1 g A := E
  have hx := E.1.1
  have hb := E.1.2.1
  have hl : lv_has ls 7 [(0, .ref (Rs 100)), (1, .int p1), (2, .int p2), (3, .int p3)] := hl
  generalize hlc : ([] : List Loc) = locs at hw ⊢
  clear hlc
  unfold FX1_tearsNow_n at hF
  refine lv_aload_n hx hb dX1_tearsNow_0 rfl (lv_at hl 0 rfl) ?_
  refine lv_iload_n hx hb dX1_tearsNow_1 rfl (lv_at hl 1 rfl) ?_
  replace hF := fx_b1_e hF
  obtain ⟨S_1, h_2, hF⟩ := hF
  refine cx_cVv (ws := sC g Rs none im S ++ X) (ws' := sC g Rs none im S_1 ++ X) (As := [.int p1]) (rest := []) E (mX1_lays l g A Rs _ _ _ S p1 h_2) (kwX1_X1_lays E ⟨Nat.le_of_ble_eq_true rfl, Nat.le_of_ble_eq_true rfl⟩) 0 1 rfl rfl rfl hw rfl hl.1 rfl (Nat.le_of_ble_eq_true rfl) dX1_tearsNow_2 ⟨Nat.le_of_ble_eq_true rfl, Nat.le_of_ble_eq_true rfl⟩ (fun H locs hw => ?_)
  refine lv_iload_n hx hb dX1_tearsNow_5 rfl (lv_at hl 2 rfl) ?_
  refine lv_aload_n hx hb dX1_tearsNow_6 rfl (lv_at hl 0 rfl) ?_
  refine gX1_19n E hw dX1_tearsNow_7 ?_
  exact fx_no hF
/-! cleansNow()I -/
def JX1_cleansNow_s_126 (N_4 : Sx) (r_1 : Int32) (S_3 : Sx) : Option (Int32 × Sx × Sx) :=
  fx_lt (px_I N_4 6 ((gx_I N_4 6) &&& (r_1 ^^^ (-1 : Int32)))) (fun N_5 => fx_b1 (FJ10_bitCount r_1) (fun r_6 => some (r_6, S_3, N_5)))
def JX1_cleansNow_s_120 (x2_10 : Int32) (S_16 : Sx) (N_17 : Sx) : Option ((Sx × Sx × Int32) ⊕ (Sx × Sx)) :=
  fx_lt (x2_10 + (1 : Int32)) (fun v_18 => some (.inl (S_16, N_17, v_18)))
def LX1_cleansNow_s_93 (x2_10 : Int32) (q_ : Sx × Sx × Int32) : Option ((Sx × Sx × Int32) ⊕ (Sx × Sx)) :=
  fx_u3 q_ (fun S_21 N_22 x3_23 => fx_b1 (FX1_chunk S_21) (fun r_24 => if r_24 ≤ x3_23 then (some (.inr (S_21, N_22))) else (fx_b1 (FX1_solves_s S_21 N_22 x2_10 x3_23 (0 : Int32)) (fun S_27 => fx_b1 (FX1_reckonsSums_s S_27 N_22 x2_10 x3_23) (fun N_29 => fx_lt (x3_23 + (1 : Int32)) (fun v_31 => some (.inl (S_27, N_29, v_31))))))))
def JX1_cleansNow_s_91 (x2_10 : Int32) (S_8 : Sx) (N_20 : Sx) : Option ((Sx × Sx × Int32) ⊕ (Sx × Sx)) :=
  fx_b1 (fx_lp (LX1_cleansNow_s_93 x2_10) 2000 (S_8, N_20, (0 : Int32))) (fun q_ => fx_u2 q_ (fun S_32 N_33 => JX1_cleansNow_s_120 x2_10 S_32 N_33))
def JX1_cleansNow_s_85 (x3_35 : Int32) (N_41 : Sx) : Option ((Sx × Int32) ⊕ (Sx)) :=
  fx_lt (x3_35 + (1 : Int32)) (fun v_42 => some (.inl (N_41, v_42)))
def LX1_cleansNow_s_28 (S_8 : Sx) (x2_10 : Int32) (q_ : Sx × Int32) : Option ((Sx × Int32) ⊕ (Sx)) :=
  fx_u2 q_ (fun N_34 x3_35 => fx_b1 (FX1_data S_8) (fun r_36 => if (r_36 + (2 : Int32)) ≤ x3_35 then (some (.inr N_34)) else (fx_b1 (FX1_data S_8) (fun r_39 => if r_39 ≤ x3_35 then (fx_b1 (FX1_diskOf S_8 x2_10 x3_35) (fun r_44 => fx_b1 (FX1_chunk S_8) (fun r_46 => fx_b2 (FX7_written N_34 r_44 r_46) (fun r_48 N_49 => JX1_cleansNow_s_85 x3_35 N_49)))) else (fx_b1 (FX1_diskOf S_8 x2_10 x3_35) (fun r_51 => fx_b1 (FX1_chunk S_8) (fun r_53 => fx_b2 (FX7_read N_34 r_51 r_53) (fun r_55 N_56 => JX1_cleansNow_s_85 x3_35 N_56))))))))
def LX1_cleansNow_s_7 (r_1 : Int32) (q_ : Sx × Sx × Int32) : Option ((Sx × Sx × Int32) ⊕ (Sx × Sx)) :=
  fx_u3 q_ (fun S_8 N_9 x2_10 => fx_b1 (FX1_stripes S_8) (fun r_11 => if r_11 ≤ x2_10 then (some (.inr (S_8, N_9))) else (fx_b1 (FX1_has r_1 x2_10) (fun r_14 => if r_14 = 0 then (JX1_cleansNow_s_120 x2_10 S_8 N_9) else (fx_b1 (fx_lp (LX1_cleansNow_s_28 S_8 x2_10) 2000 (N_9, (0 : Int32))) (fun N_58 => JX1_cleansNow_s_91 x2_10 S_8 N_58))))))
def FX1_cleansNow_s (S : Sx) (N : Sx) : Option (Int32 × Sx × Sx) :=
  fx_b1 (FX1_cleanable_s S N) (fun r_1 => fx_b1 (fx_lp (LX1_cleansNow_s_7 r_1) 2000 (S, N, (0 : Int32))) (fun q_ => fx_u2 q_ (fun S_59 N_60 => JX1_cleansNow_s_126 N_60 r_1 S_59)))
set_option maxHeartbeats 4000000 in
set_option maxRecDepth 100000 in
theorem mX1_cleansNow_s (l : Launch) (g : Gx) (A : Nat → Prop) (Rs Rn : Nat → Nat) (im : Option Nat) (X : va_W) (S : Sx) (N : Sx) {o : Int32 × Sx × Sx} (hF : FX1_cleansNow_s S N = some o) :
    cx_i l yX1_cleansNow cX1_cleansNow 4 .int rmX1_cleansNow [.ref (Rs 100)] g A (sC g Rs (some (Rn 100)) im S ++ (stC g Rn N ++ X)) o.1 (sC g Rs (some (Rn 100)) im o.2.1 ++ (stC g Rn o.2.2 ++ X)) 0 0 := by
  refine cx_i_of (by decide) (Nat.le_of_ble_eq_true rfl) ?_
  intro p e s m av below meth c Q E hret H hw ls hl
  have E : cx_E p m meth c cX1_cleansNow 4 s av RX1 g A := E
  have hx := E.1.1
  have hb := E.1.2.1
  have hl : lv_has ls 4 [(0, .ref (Rs 100))] := hl
  generalize hlc : ([] : List Loc) = locs at hw ⊢
  clear hlc
  unfold FX1_cleansNow_s at hF
  refine lv_aload_n hx hb dX1_cleansNow_0 rfl (lv_at hl 0 rfl) ?_
  replace hF := fx_b1_e hF
  obtain ⟨r_1, h_2, hF⟩ := hF
  refine cx_cVi (r := r_1) (ws := sC g Rs (some (Rn 100)) im S ++ (stC g Rn N ++ X)) (ws' := sC g Rs (some (Rn 100)) im S ++ (stC g Rn N ++ X)) (As := []) (rest := []) E (mX1_cleanable_s l g A Rs Rn _ _ S N h_2) (kwX1_X1_cleanable E ⟨Nat.le_of_ble_eq_true rfl, Nat.le_of_ble_eq_true rfl⟩) 0 1 rfl rfl rfl hw rfl hl.1 rfl (Nat.le_of_ble_eq_true rfl) dX1_cleansNow_1 ⟨Nat.le_of_ble_eq_true rfl, Nat.le_of_ble_eq_true rfl⟩ (fun H locs hw => ?_)
  refine lv_istore_n hx hb dX1_cleansNow_4 rfl hl (by decide) rfl (fun ls hl => ?_)
  have hl : lv_has ls 4 [(1, .int r_1), (0, .ref (Rs 100))] := hl
  refine lv_iconst (v := (0 : Int32)) hx hb dX1_cleansNow_5 (by decide) ?_
  refine lv_istore_n hx hb dX1_cleansNow_6 rfl hl (by decide) rfl (fun ls hl => ?_)
  have hl : lv_has ls 4 [(2, .int (0 : Int32)), (1, .int r_1), (0, .ref (Rs 100))] := hl
  have jn_126 : ∀ (S_3 : Sx) (N_4 : Sx), JX1_cleansNow_s_126 N_4 r_1 S_3 = some o → ∀ (H : Heap) (locs : List Loc) (ls : Array Slot), cx_W g A s (sC g Rs (some (Rn 100)) im S_3 ++ (stC g Rn N_4 ++ X)) H locs → lv_has ls 4 [(0, .ref (Rs 100)), (1, .int r_1)] → W p l e rmX1_cleansNow s m av below meth c H locs 0 0 Q (F0 m 126 ls []) := by
    intro S_3 N_4 hJ_126 H locs ls hw hl
    unfold JX1_cleansNow_s_126 at hJ_126
    refine lv_aload_n hx hb dX1_cleansNow_126 rfl (lv_at hl 0 rfl) ?_
    refine gX1_19s E hw dX1_cleansNow_127 ?_
    refine lv_dup hx hb dX1_cleansNow_130 rfl ?_
    refine gNX7_6 E hw dX1_cleansNow_131 ?_
    refine lv_iload_n hx hb dX1_cleansNow_134 rfl (lv_at hl 1 rfl) ?_
    refine lv_iconst (v := (-1 : Int32)) hx hb dX1_cleansNow_135 (by decide) ?_
    refine lv_ixor hx hb dX1_cleansNow_136 ?_
    refine lv_iand hx hb dX1_cleansNow_137 ?_
    obtain ⟨N_5, eN_5⟩ : ∃ z : Sx, z = px_I N_4 6 ((gx_I N_4 6) &&& (r_1 ^^^ (-1 : Int32))) := ⟨_, rfl⟩
    replace hJ_126 := fx_lt_e eN_5 hJ_126
    refine pNX7_6 eN_5 E hw dX1_cleansNow_138 (fun H locs hw => ?_)
    refine lv_iload_n hx hb dX1_cleansNow_141 rfl (lv_at hl 1 rfl) ?_
    replace hJ_126 := fx_b1_e hJ_126
    obtain ⟨r_6, h_7, hJ_126⟩ := hJ_126
    refine cx_cSi (r := r_6) (ws := sC g Rs (some (Rn 100)) im S_3 ++ (stC g Rn N_5 ++ X)) (ws' := sC g Rs (some (Rn 100)) im S_3 ++ (stC g Rn N_5 ++ X)) (As := [.int r_1]) (rest := []) E (mJ10_bitCount l g A (sC g Rs (some (Rn 100)) im S_3 ++ (stC g Rn N_5 ++ X)) r_1 h_7) (kwX1_J10_bitCount E ⟨Nat.le_of_ble_eq_true rfl, Nat.le_of_ble_eq_true rfl⟩) hw rfl hl.1 rfl (Nat.le_of_ble_eq_true rfl) dX1_cleansNow_142 ⟨Nat.le_of_ble_eq_true rfl, Nat.le_of_ble_eq_true rfl⟩ (fun H locs hw => ?_)
    obtain rfl := Option.some.inj hJ_126
    exact hret _ _ _ _ _ rfl rfl hw dX1_cleansNow_145
  replace hF := fx_b1_e hF
  obtain ⟨ex_7, hL_7, hF⟩ := hF
  have key_7 : ∀ (n_7 : Nat) (S_8 : Sx) (N_9 : Sx) (x2_10 : Int32), fx_lp (LX1_cleansNow_s_7 r_1) n_7 (S_8, N_9, x2_10) = some ex_7 → ∀ (H : Heap) (locs : List Loc) (ls : Array Slot), cx_W g A s (sC g Rs (some (Rn 100)) im S_8 ++ (stC g Rn N_9 ++ X)) H locs → lv_has ls 4 [(0, .ref (Rs 100)), (1, .int r_1), (2, .int x2_10)] → W p l e rmX1_cleansNow s m av below meth c H locs 0 0 Q (F0 m 7 ls []) := by
    intro n_7
    induction n_7 with
    | zero => intro S_8 N_9 x2_10 hL_7; exact fx_lp_0 hL_7
    | succ n_7 ih_7 =>
      intro S_8 N_9 x2_10 hL_7 H locs ls hw hl
      replace hL_7 := fx_lp_s hL_7
      obtain ⟨o_7, hB_7, hO_7⟩ := hL_7
      unfold LX1_cleansNow_s_7 at hB_7
      replace hB_7 := fx_u3_e hB_7
      refine lv_iload_n hx hb dX1_cleansNow_7 rfl (lv_at hl 2 rfl) ?_
      refine lv_aload_n hx hb dX1_cleansNow_8 rfl (lv_at hl 0 rfl) ?_
      replace hB_7 := fx_b1_e hB_7
      obtain ⟨r_11, h_12, hB_7⟩ := hB_7
      refine cx_cVi (r := r_11) (ws := sC g Rs (some (Rn 100)) im S_8 ++ (stC g Rn N_9 ++ X)) (ws' := sC g Rs (some (Rn 100)) im S_8 ++ (stC g Rn N_9 ++ X)) (As := []) (rest := [.int x2_10]) E (mX1_stripes l g A Rs _ _ _ S_8 h_12) (kwX1_X1_stripes E ⟨Nat.le_of_ble_eq_true rfl, Nat.le_of_ble_eq_true rfl⟩) 0 1 rfl rfl rfl hw rfl hl.1 rfl (Nat.le_of_ble_eq_true rfl) dX1_cleansNow_9 ⟨Nat.le_of_ble_eq_true rfl, Nat.le_of_ble_eq_true rfl⟩ (fun H locs hw => ?_)
      refine lv_icmp_ge (tgt := 126) hx hb dX1_cleansNow_12 (by decide) (fun c_13 => ?_) (fun c_13 => ?_)
      · replace hB_7 := fx_tt c_13 hB_7
        obtain rfl := fx_ex hB_7 hO_7
        replace hF := fx_u2_e hF
        exact jn_126 S_8 N_9 hF _ _ _ hw (lv_sub hl [0, 1] rfl)
      · replace hB_7 := fx_ff c_13 hB_7
        refine lv_iload_n hx hb dX1_cleansNow_15 rfl (lv_at hl 1 rfl) ?_
        refine lv_iload_n hx hb dX1_cleansNow_16 rfl (lv_at hl 2 rfl) ?_
        replace hB_7 := fx_b1_e hB_7
        obtain ⟨r_14, h_15, hB_7⟩ := hB_7
        refine cx_cSi (r := r_14) (ws := sC g Rs (some (Rn 100)) im S_8 ++ (stC g Rn N_9 ++ X)) (ws' := sC g Rs (some (Rn 100)) im S_8 ++ (stC g Rn N_9 ++ X)) (As := [.int r_1, .int x2_10]) (rest := []) E (mX1_has l g A (sC g Rs (some (Rn 100)) im S_8 ++ (stC g Rn N_9 ++ X)) r_1 x2_10 h_15) (kwX1_X1_has E ⟨Nat.le_of_ble_eq_true rfl, Nat.le_of_ble_eq_true rfl⟩) hw rfl hl.1 rfl (Nat.le_of_ble_eq_true rfl) dX1_cleansNow_17 ⟨Nat.le_of_ble_eq_true rfl, Nat.le_of_ble_eq_true rfl⟩ (fun H locs hw => ?_)
        have jn_120 : ∀ (S_16 : Sx) (N_17 : Sx), JX1_cleansNow_s_120 x2_10 S_16 N_17 = some o_7 → ∀ (H : Heap) (locs : List Loc) (ls : Array Slot), cx_W g A s (sC g Rs (some (Rn 100)) im S_16 ++ (stC g Rn N_17 ++ X)) H locs → lv_has ls 4 [(0, .ref (Rs 100)), (1, .int r_1), (2, .int x2_10)] → W p l e rmX1_cleansNow s m av below meth c H locs 0 0 Q (F0 m 120 ls []) := by
          intro S_16 N_17 hJ_120 H locs ls hw hl
          unfold JX1_cleansNow_s_120 at hJ_120
          obtain ⟨v_18, ev_18⟩ : ∃ z : Int32, z = x2_10 + (1 : Int32) := ⟨_, rfl⟩
          replace hJ_120 := fx_lt_e ev_18 hJ_120
          refine cx_iinc (z := (1 : Int32)) (v := v_18) hx hb dX1_cleansNow_120 hl (k := 2) rfl (by decide) ev_18 (by decide) rfl (fun ls hl => ?_)
          have hl : lv_has ls 4 [(2, .int v_18), (0, .ref (Rs 100)), (1, .int r_1)] := hl
          refine lv_goto (tgt := 7) hx hb dX1_cleansNow_123 (by decide) ?_
          exact ih_7 S_16 N_17 v_18 (fx_bk hJ_120 hO_7) _ _ _ hw (lv_sub hl [1, 2, 0] rfl)
        refine lv_if_ne (tgt := 26) hx hb dX1_cleansNow_20 (by decide) (fun c_19 => ?_) (fun c_19 => ?_)
        · replace hB_7 := fx_ff c_19 hB_7
          refine lv_iconst (v := (0 : Int32)) hx hb dX1_cleansNow_26 (by decide) ?_
          refine lv_istore_n hx hb dX1_cleansNow_27 rfl hl (by decide) rfl (fun ls hl => ?_)
          have hl : lv_has ls 4 [(3, .int (0 : Int32)), (0, .ref (Rs 100)), (1, .int r_1), (2, .int x2_10)] := hl
          have jn_91 : ∀ (N_20 : Sx), JX1_cleansNow_s_91 x2_10 S_8 N_20 = some o_7 → ∀ (H : Heap) (locs : List Loc) (ls : Array Slot), cx_W g A s (sC g Rs (some (Rn 100)) im S_8 ++ (stC g Rn N_20 ++ X)) H locs → lv_has ls 4 [(0, .ref (Rs 100)), (1, .int r_1), (2, .int x2_10)] → W p l e rmX1_cleansNow s m av below meth c H locs 0 0 Q (F0 m 91 ls []) := by
            intro N_20 hJ_91 H locs ls hw hl
            unfold JX1_cleansNow_s_91 at hJ_91
            refine lv_iconst (v := (0 : Int32)) hx hb dX1_cleansNow_91 (by decide) ?_
            refine lv_istore_n hx hb dX1_cleansNow_92 rfl hl (by decide) rfl (fun ls hl => ?_)
            have hl : lv_has ls 4 [(3, .int (0 : Int32)), (0, .ref (Rs 100)), (1, .int r_1), (2, .int x2_10)] := hl
            replace hJ_91 := fx_b1_e hJ_91
            obtain ⟨ex_93, hL_93, hJ_91⟩ := hJ_91
            have key_93 : ∀ (n_93 : Nat) (S_21 : Sx) (N_22 : Sx) (x3_23 : Int32), fx_lp (LX1_cleansNow_s_93 x2_10) n_93 (S_21, N_22, x3_23) = some ex_93 → ∀ (H : Heap) (locs : List Loc) (ls : Array Slot), cx_W g A s (sC g Rs (some (Rn 100)) im S_21 ++ (stC g Rn N_22 ++ X)) H locs → lv_has ls 4 [(0, .ref (Rs 100)), (1, .int r_1), (2, .int x2_10), (3, .int x3_23)] → W p l e rmX1_cleansNow s m av below meth c H locs 0 0 Q (F0 m 93 ls []) := by
              intro n_93
              induction n_93 with
              | zero => intro S_21 N_22 x3_23 hL_93; exact fx_lp_0 hL_93
              | succ n_93 ih_93 =>
                intro S_21 N_22 x3_23 hL_93 H locs ls hw hl
                replace hL_93 := fx_lp_s hL_93
                obtain ⟨o_93, hB_93, hO_93⟩ := hL_93
                unfold LX1_cleansNow_s_93 at hB_93
                replace hB_93 := fx_u3_e hB_93
                refine lv_iload_n hx hb dX1_cleansNow_93 rfl (lv_at hl 3 rfl) ?_
                refine lv_aload_n hx hb dX1_cleansNow_94 rfl (lv_at hl 0 rfl) ?_
                replace hB_93 := fx_b1_e hB_93
                obtain ⟨r_24, h_25, hB_93⟩ := hB_93
                refine cx_cVi (r := r_24) (ws := sC g Rs (some (Rn 100)) im S_21 ++ (stC g Rn N_22 ++ X)) (ws' := sC g Rs (some (Rn 100)) im S_21 ++ (stC g Rn N_22 ++ X)) (As := []) (rest := [.int x3_23]) E (mX1_chunk l g A Rs _ _ _ S_21 h_25) (kwX1_X1_chunk E ⟨Nat.le_of_ble_eq_true rfl, Nat.le_of_ble_eq_true rfl⟩) 0 1 rfl rfl rfl hw rfl hl.1 rfl (Nat.le_of_ble_eq_true rfl) dX1_cleansNow_95 ⟨Nat.le_of_ble_eq_true rfl, Nat.le_of_ble_eq_true rfl⟩ (fun H locs hw => ?_)
                refine lv_icmp_ge (tgt := 120) hx hb dX1_cleansNow_98 (by decide) (fun c_26 => ?_) (fun c_26 => ?_)
                · replace hB_93 := fx_tt c_26 hB_93
                  obtain rfl := fx_ex hB_93 hO_93
                  replace hJ_91 := fx_u2_e hJ_91
                  exact jn_120 S_21 N_22 hJ_91 _ _ _ hw (lv_sub hl [0, 1, 2] rfl)
                · replace hB_93 := fx_ff c_26 hB_93
                  refine lv_aload_n hx hb dX1_cleansNow_101 rfl (lv_at hl 0 rfl) ?_
                  refine lv_iload_n hx hb dX1_cleansNow_102 rfl (lv_at hl 2 rfl) ?_
                  refine lv_iload_n hx hb dX1_cleansNow_103 rfl (lv_at hl 3 rfl) ?_
                  refine lv_iconst (v := (0 : Int32)) hx hb dX1_cleansNow_104 (by decide) ?_
                  replace hB_93 := fx_b1_e hB_93
                  obtain ⟨S_27, h_28, hB_93⟩ := hB_93
                  refine cx_cVv (ws := sC g Rs (some (Rn 100)) im S_21 ++ (stC g Rn N_22 ++ X)) (ws' := sC g Rs (some (Rn 100)) im S_27 ++ (stC g Rn N_22 ++ X)) (As := [.int x2_10, .int x3_23, .int (0 : Int32)]) (rest := []) E (mX1_solves_s l g A Rs Rn _ _ S_21 N_22 x2_10 x3_23 (0 : Int32) h_28) (kwX1_X1_solves E ⟨Nat.le_of_ble_eq_true rfl, Nat.le_of_ble_eq_true rfl⟩) 0 1 rfl rfl rfl hw rfl hl.1 rfl (Nat.le_of_ble_eq_true rfl) dX1_cleansNow_105 ⟨Nat.le_of_ble_eq_true rfl, Nat.le_of_ble_eq_true rfl⟩ (fun H locs hw => ?_)
                  refine lv_aload_n hx hb dX1_cleansNow_108 rfl (lv_at hl 0 rfl) ?_
                  refine lv_iload_n hx hb dX1_cleansNow_109 rfl (lv_at hl 2 rfl) ?_
                  refine lv_iload_n hx hb dX1_cleansNow_110 rfl (lv_at hl 3 rfl) ?_
                  replace hB_93 := fx_b1_e hB_93
                  obtain ⟨N_29, h_30, hB_93⟩ := hB_93
                  refine cx_cVv (ws := sC g Rs (some (Rn 100)) im S_27 ++ (stC g Rn N_22 ++ X)) (ws' := sC g Rs (some (Rn 100)) im S_27 ++ (stC g Rn N_29 ++ X)) (As := [.int x2_10, .int x3_23]) (rest := []) E (mX1_reckonsSums_s l g A Rs Rn _ _ S_27 N_22 x2_10 x3_23 h_30) (kwX1_X1_reckonsSums E ⟨Nat.le_of_ble_eq_true rfl, Nat.le_of_ble_eq_true rfl⟩) 0 1 rfl rfl rfl hw rfl hl.1 rfl (Nat.le_of_ble_eq_true rfl) dX1_cleansNow_111 ⟨Nat.le_of_ble_eq_true rfl, Nat.le_of_ble_eq_true rfl⟩ (fun H locs hw => ?_)
                  obtain ⟨v_31, ev_31⟩ : ∃ z : Int32, z = x3_23 + (1 : Int32) := ⟨_, rfl⟩
                  replace hB_93 := fx_lt_e ev_31 hB_93
                  refine cx_iinc (z := (1 : Int32)) (v := v_31) hx hb dX1_cleansNow_114 hl (k := 3) rfl (by decide) ev_31 (by decide) rfl (fun ls hl => ?_)
                  have hl : lv_has ls 4 [(3, .int v_31), (0, .ref (Rs 100)), (1, .int r_1), (2, .int x2_10)] := hl
                  refine lv_goto (tgt := 93) hx hb dX1_cleansNow_117 (by decide) ?_
                  exact ih_93 S_27 N_29 v_31 (fx_bk hB_93 hO_93) _ _ _ hw (lv_sub hl [1, 2, 3, 0] rfl)
            exact key_93 _ S_8 N_20 (0 : Int32) hL_93 _ _ _ hw (lv_sub hl [1, 2, 3, 0] rfl)
          replace hB_7 := fx_b1_e hB_7
          obtain ⟨ex_28, hL_28, hB_7⟩ := hB_7
          have key_28 : ∀ (n_28 : Nat) (N_34 : Sx) (x3_35 : Int32), fx_lp (LX1_cleansNow_s_28 S_8 x2_10) n_28 (N_34, x3_35) = some ex_28 → ∀ (H : Heap) (locs : List Loc) (ls : Array Slot), cx_W g A s (sC g Rs (some (Rn 100)) im S_8 ++ (stC g Rn N_34 ++ X)) H locs → lv_has ls 4 [(0, .ref (Rs 100)), (1, .int r_1), (2, .int x2_10), (3, .int x3_35)] → W p l e rmX1_cleansNow s m av below meth c H locs 0 0 Q (F0 m 28 ls []) := by
            intro n_28
            induction n_28 with
            | zero => intro N_34 x3_35 hL_28; exact fx_lp_0 hL_28
            | succ n_28 ih_28 =>
              intro N_34 x3_35 hL_28 H locs ls hw hl
              replace hL_28 := fx_lp_s hL_28
              obtain ⟨o_28, hB_28, hO_28⟩ := hL_28
              unfold LX1_cleansNow_s_28 at hB_28
              replace hB_28 := fx_u2_e hB_28
              refine lv_iload_n hx hb dX1_cleansNow_28 rfl (lv_at hl 3 rfl) ?_
              refine lv_aload_n hx hb dX1_cleansNow_29 rfl (lv_at hl 0 rfl) ?_
              replace hB_28 := fx_b1_e hB_28
              obtain ⟨r_36, h_37, hB_28⟩ := hB_28
              refine cx_cVi (r := r_36) (ws := sC g Rs (some (Rn 100)) im S_8 ++ (stC g Rn N_34 ++ X)) (ws' := sC g Rs (some (Rn 100)) im S_8 ++ (stC g Rn N_34 ++ X)) (As := []) (rest := [.int x3_35]) E (mX1_data l g A Rs _ _ _ S_8 h_37) (kwX1_X1_data E ⟨Nat.le_of_ble_eq_true rfl, Nat.le_of_ble_eq_true rfl⟩) 0 1 rfl rfl rfl hw rfl hl.1 rfl (Nat.le_of_ble_eq_true rfl) dX1_cleansNow_30 ⟨Nat.le_of_ble_eq_true rfl, Nat.le_of_ble_eq_true rfl⟩ (fun H locs hw => ?_)
              refine lv_iconst (v := (2 : Int32)) hx hb dX1_cleansNow_33 (by decide) ?_
              refine lv_iadd hx hb dX1_cleansNow_34 ?_
              refine lv_icmp_ge (tgt := 91) hx hb dX1_cleansNow_35 (by decide) (fun c_38 => ?_) (fun c_38 => ?_)
              · replace hB_28 := fx_tt c_38 hB_28
                obtain rfl := fx_ex hB_28 hO_28
                exact jn_91 N_34 hB_7 _ _ _ hw (lv_sub hl [0, 1, 2] rfl)
              · replace hB_28 := fx_ff c_38 hB_28
                refine lv_iload_n hx hb dX1_cleansNow_38 rfl (lv_at hl 3 rfl) ?_
                refine lv_aload_n hx hb dX1_cleansNow_39 rfl (lv_at hl 0 rfl) ?_
                replace hB_28 := fx_b1_e hB_28
                obtain ⟨r_39, h_40, hB_28⟩ := hB_28
                refine cx_cVi (r := r_39) (ws := sC g Rs (some (Rn 100)) im S_8 ++ (stC g Rn N_34 ++ X)) (ws' := sC g Rs (some (Rn 100)) im S_8 ++ (stC g Rn N_34 ++ X)) (As := []) (rest := [.int x3_35]) E (mX1_data l g A Rs _ _ _ S_8 h_40) (kwX1_X1_data E ⟨Nat.le_of_ble_eq_true rfl, Nat.le_of_ble_eq_true rfl⟩) 0 1 rfl rfl rfl hw rfl hl.1 rfl (Nat.le_of_ble_eq_true rfl) dX1_cleansNow_40 ⟨Nat.le_of_ble_eq_true rfl, Nat.le_of_ble_eq_true rfl⟩ (fun H locs hw => ?_)
                have jn_85 : ∀ (N_41 : Sx), JX1_cleansNow_s_85 x3_35 N_41 = some o_28 → ∀ (H : Heap) (locs : List Loc) (ls : Array Slot), cx_W g A s (sC g Rs (some (Rn 100)) im S_8 ++ (stC g Rn N_41 ++ X)) H locs → lv_has ls 4 [(0, .ref (Rs 100)), (1, .int r_1), (2, .int x2_10), (3, .int x3_35)] → W p l e rmX1_cleansNow s m av below meth c H locs 0 0 Q (F0 m 85 ls []) := by
                  intro N_41 hJ_85 H locs ls hw hl
                  unfold JX1_cleansNow_s_85 at hJ_85
                  obtain ⟨v_42, ev_42⟩ : ∃ z : Int32, z = x3_35 + (1 : Int32) := ⟨_, rfl⟩
                  replace hJ_85 := fx_lt_e ev_42 hJ_85
                  refine cx_iinc (z := (1 : Int32)) (v := v_42) hx hb dX1_cleansNow_85 hl (k := 3) rfl (by decide) ev_42 (by decide) rfl (fun ls hl => ?_)
                  have hl : lv_has ls 4 [(3, .int v_42), (0, .ref (Rs 100)), (1, .int r_1), (2, .int x2_10)] := hl
                  refine lv_goto (tgt := 28) hx hb dX1_cleansNow_88 (by decide) ?_
                  exact ih_28 N_41 v_42 (fx_bk hJ_85 hO_28) _ _ _ hw (lv_sub hl [1, 2, 3, 0] rfl)
                refine lv_icmp_ge (tgt := 67) hx hb dX1_cleansNow_43 (by decide) (fun c_43 => ?_) (fun c_43 => ?_)
                · replace hB_28 := fx_tt c_43 hB_28
                  refine lv_aload_n hx hb dX1_cleansNow_67 rfl (lv_at hl 0 rfl) ?_
                  refine gX1_19s E hw dX1_cleansNow_68 ?_
                  refine lv_aload_n hx hb dX1_cleansNow_71 rfl (lv_at hl 0 rfl) ?_
                  refine lv_iload_n hx hb dX1_cleansNow_72 rfl (lv_at hl 2 rfl) ?_
                  refine lv_iload_n hx hb dX1_cleansNow_73 rfl (lv_at hl 3 rfl) ?_
                  replace hB_28 := fx_b1_e hB_28
                  obtain ⟨r_44, h_45, hB_28⟩ := hB_28
                  refine cx_cVi (r := r_44) (ws := sC g Rs (some (Rn 100)) im S_8 ++ (stC g Rn N_34 ++ X)) (ws' := sC g Rs (some (Rn 100)) im S_8 ++ (stC g Rn N_34 ++ X)) (As := [.int x2_10, .int x3_35]) (rest := [.ref (Rn 100)]) E (mX1_diskOf l g A Rs _ _ _ S_8 x2_10 x3_35 h_45) (kwX1_X1_diskOf E ⟨Nat.le_of_ble_eq_true rfl, Nat.le_of_ble_eq_true rfl⟩) 0 1 rfl rfl rfl hw rfl hl.1 rfl (Nat.le_of_ble_eq_true rfl) dX1_cleansNow_74 ⟨Nat.le_of_ble_eq_true rfl, Nat.le_of_ble_eq_true rfl⟩ (fun H locs hw => ?_)
                  refine lv_aload_n hx hb dX1_cleansNow_77 rfl (lv_at hl 0 rfl) ?_
                  replace hB_28 := fx_b1_e hB_28
                  obtain ⟨r_46, h_47, hB_28⟩ := hB_28
                  refine cx_cVi (r := r_46) (ws := sC g Rs (some (Rn 100)) im S_8 ++ (stC g Rn N_34 ++ X)) (ws' := sC g Rs (some (Rn 100)) im S_8 ++ (stC g Rn N_34 ++ X)) (As := []) (rest := [.int r_44, .ref (Rn 100)]) E (mX1_chunk l g A Rs _ _ _ S_8 h_47) (kwX1_X1_chunk E ⟨Nat.le_of_ble_eq_true rfl, Nat.le_of_ble_eq_true rfl⟩) 0 1 rfl rfl rfl hw rfl hl.1 rfl (Nat.le_of_ble_eq_true rfl) dX1_cleansNow_78 ⟨Nat.le_of_ble_eq_true rfl, Nat.le_of_ble_eq_true rfl⟩ (fun H locs hw => ?_)
                  replace hB_28 := fx_b2_e hB_28
                  obtain ⟨r_48, N_49, h_50, hB_28⟩ := hB_28
                  have hw : cx_W g A s (stC g Rn N_34 ++ (sC g Rs (some (Rn 100)) im S_8 ++ X)) H locs := cx_W.perm hw (List.perm_append_comm_assoc _ _ _)
                  refine cx_cVi (r := r_48) (ws := stC g Rn N_34 ++ (sC g Rs (some (Rn 100)) im S_8 ++ X)) (ws' := stC g Rn N_49 ++ (sC g Rs (some (Rn 100)) im S_8 ++ X)) (As := [.int r_44, .int r_46]) (rest := []) E (mX7_written l g A Rn _ N_34 r_44 r_46 h_50) (kwX1_X7_written E ⟨Nat.le_of_ble_eq_true rfl, Nat.le_of_ble_eq_true rfl⟩) 0 2 rfl rfl rfl hw rfl hl.1 rfl (Nat.le_of_ble_eq_true rfl) dX1_cleansNow_81 ⟨Nat.le_of_ble_eq_true rfl, Nat.le_of_ble_eq_true rfl⟩ (fun H locs hw => ?_)
                  have hw : cx_W g A s (sC g Rs (some (Rn 100)) im S_8 ++ (stC g Rn N_49 ++ X)) H locs := cx_W.perm hw (List.perm_append_comm_assoc _ _ _)
                  refine lv_pop hx hb dX1_cleansNow_84 rfl ?_
                  exact jn_85 N_49 hB_28 _ _ _ hw hl
                · replace hB_28 := fx_ff c_43 hB_28
                  refine lv_aload_n hx hb dX1_cleansNow_46 rfl (lv_at hl 0 rfl) ?_
                  refine gX1_19s E hw dX1_cleansNow_47 ?_
                  refine lv_aload_n hx hb dX1_cleansNow_50 rfl (lv_at hl 0 rfl) ?_
                  refine lv_iload_n hx hb dX1_cleansNow_51 rfl (lv_at hl 2 rfl) ?_
                  refine lv_iload_n hx hb dX1_cleansNow_52 rfl (lv_at hl 3 rfl) ?_
                  replace hB_28 := fx_b1_e hB_28
                  obtain ⟨r_51, h_52, hB_28⟩ := hB_28
                  refine cx_cVi (r := r_51) (ws := sC g Rs (some (Rn 100)) im S_8 ++ (stC g Rn N_34 ++ X)) (ws' := sC g Rs (some (Rn 100)) im S_8 ++ (stC g Rn N_34 ++ X)) (As := [.int x2_10, .int x3_35]) (rest := [.ref (Rn 100)]) E (mX1_diskOf l g A Rs _ _ _ S_8 x2_10 x3_35 h_52) (kwX1_X1_diskOf E ⟨Nat.le_of_ble_eq_true rfl, Nat.le_of_ble_eq_true rfl⟩) 0 1 rfl rfl rfl hw rfl hl.1 rfl (Nat.le_of_ble_eq_true rfl) dX1_cleansNow_53 ⟨Nat.le_of_ble_eq_true rfl, Nat.le_of_ble_eq_true rfl⟩ (fun H locs hw => ?_)
                  refine lv_aload_n hx hb dX1_cleansNow_56 rfl (lv_at hl 0 rfl) ?_
                  replace hB_28 := fx_b1_e hB_28
                  obtain ⟨r_53, h_54, hB_28⟩ := hB_28
                  refine cx_cVi (r := r_53) (ws := sC g Rs (some (Rn 100)) im S_8 ++ (stC g Rn N_34 ++ X)) (ws' := sC g Rs (some (Rn 100)) im S_8 ++ (stC g Rn N_34 ++ X)) (As := []) (rest := [.int r_51, .ref (Rn 100)]) E (mX1_chunk l g A Rs _ _ _ S_8 h_54) (kwX1_X1_chunk E ⟨Nat.le_of_ble_eq_true rfl, Nat.le_of_ble_eq_true rfl⟩) 0 1 rfl rfl rfl hw rfl hl.1 rfl (Nat.le_of_ble_eq_true rfl) dX1_cleansNow_57 ⟨Nat.le_of_ble_eq_true rfl, Nat.le_of_ble_eq_true rfl⟩ (fun H locs hw => ?_)
                  replace hB_28 := fx_b2_e hB_28
                  obtain ⟨r_55, N_56, h_57, hB_28⟩ := hB_28
                  have hw : cx_W g A s (stC g Rn N_34 ++ (sC g Rs (some (Rn 100)) im S_8 ++ X)) H locs := cx_W.perm hw (List.perm_append_comm_assoc _ _ _)
                  refine cx_cVi (r := r_55) (ws := stC g Rn N_34 ++ (sC g Rs (some (Rn 100)) im S_8 ++ X)) (ws' := stC g Rn N_56 ++ (sC g Rs (some (Rn 100)) im S_8 ++ X)) (As := [.int r_51, .int r_53]) (rest := []) E (mX7_read l g A Rn _ N_34 r_51 r_53 h_57) (kwX1_X7_read E ⟨Nat.le_of_ble_eq_true rfl, Nat.le_of_ble_eq_true rfl⟩) 0 2 rfl rfl rfl hw rfl hl.1 rfl (Nat.le_of_ble_eq_true rfl) dX1_cleansNow_60 ⟨Nat.le_of_ble_eq_true rfl, Nat.le_of_ble_eq_true rfl⟩ (fun H locs hw => ?_)
                  have hw : cx_W g A s (sC g Rs (some (Rn 100)) im S_8 ++ (stC g Rn N_56 ++ X)) H locs := cx_W.perm hw (List.perm_append_comm_assoc _ _ _)
                  refine lv_pop hx hb dX1_cleansNow_63 rfl ?_
                  refine lv_goto (tgt := 85) hx hb dX1_cleansNow_64 (by decide) ?_
                  exact jn_85 N_56 hB_28 _ _ _ hw hl
          exact key_28 _ N_9 (0 : Int32) hL_28 _ _ _ hw (lv_sub hl [1, 2, 3, 0] rfl)
        · replace hB_7 := fx_tt c_19 hB_7
          refine lv_goto (tgt := 120) hx hb dX1_cleansNow_23 (by decide) ?_
          exact jn_120 S_8 N_9 hB_7 _ _ _ hw hl
  exact key_7 _ S N (0 : Int32) hL_7 _ _ _ hw (lv_sub hl [2, 1, 0] rfl)
/-! cleansNow()I -/
def JX1_cleansNow_n_126  : Option (Int32 × Sx) :=
  none
def JX1_cleansNow_n_120 (x2_5 : Int32) (S_11 : Sx) : Option ((Sx × Int32) ⊕ (Sx)) :=
  fx_lt (x2_5 + (1 : Int32)) (fun v_12 => some (.inl (S_11, v_12)))
def LX1_cleansNow_n_93 (x2_5 : Int32) (q_ : Sx × Int32) : Option ((Sx × Int32) ⊕ (Sx)) :=
  fx_u2 q_ (fun S_14 x3_15 => fx_b1 (FX1_chunk S_14) (fun r_16 => if r_16 ≤ x3_15 then (some (.inr S_14)) else (fx_b1 (FX1_solves_n S_14 x2_5 x3_15 (0 : Int32)) (fun S_19 => fx_b1 (FX1_reckonsSums_n S_19 x2_5 x3_15) (fun _ => fx_lt (x3_15 + (1 : Int32)) (fun v_22 => some (.inl (S_19, v_22))))))))
def JX1_cleansNow_n_91 (x2_5 : Int32) (S_4 : Sx) : Option ((Sx × Int32) ⊕ (Sx)) :=
  fx_b1 (fx_lp (LX1_cleansNow_n_93 x2_5) 2000 (S_4, (0 : Int32))) (fun S_23 => JX1_cleansNow_n_120 x2_5 S_23)
def JX1_cleansNow_n_85 (x3_24 : Int32) : Option ((Int32) ⊕ (Unit)) :=
  fx_lt (x3_24 + (1 : Int32)) (fun v_30 => some (.inl v_30))
def LX1_cleansNow_n_28 (S_4 : Sx) (x2_5 : Int32) (x3_24 : Int32) : Option ((Int32) ⊕ (Unit)) :=
  fx_b1 (FX1_data S_4) (fun r_25 => if (r_25 + (2 : Int32)) ≤ x3_24 then (some (.inr ())) else (fx_b1 (FX1_data S_4) (fun r_28 => if r_28 ≤ x3_24 then (fx_b1 (FX1_diskOf S_4 x2_5 x3_24) (fun r_32 => fx_b1 (FX1_chunk S_4) (fun r_34 => none))) else (fx_b1 (FX1_diskOf S_4 x2_5 x3_24) (fun r_36 => fx_b1 (FX1_chunk S_4) (fun r_38 => none))))))
def LX1_cleansNow_n_7 (r_1 : Int32) (q_ : Sx × Int32) : Option ((Sx × Int32) ⊕ (Sx)) :=
  fx_u2 q_ (fun S_4 x2_5 => fx_b1 (FX1_stripes S_4) (fun r_6 => if r_6 ≤ x2_5 then (some (.inr S_4)) else (fx_b1 (FX1_has r_1 x2_5) (fun r_9 => if r_9 = 0 then (JX1_cleansNow_n_120 x2_5 S_4) else (fx_b1 (fx_lp (LX1_cleansNow_n_28 S_4 x2_5) 2000 (0 : Int32)) (fun _ => JX1_cleansNow_n_91 x2_5 S_4))))))
def FX1_cleansNow_n (S : Sx) : Option (Int32 × Sx) :=
  fx_b1 (FX1_cleanable_n S) (fun r_1 => fx_b1 (fx_lp (LX1_cleansNow_n_7 r_1) 2000 (S, (0 : Int32))) (fun S_40 => JX1_cleansNow_n_126))
set_option maxHeartbeats 4000000 in
set_option maxRecDepth 100000 in
theorem mX1_cleansNow_n (l : Launch) (g : Gx) (A : Nat → Prop) (Rs : Nat → Nat) (im : Option Nat) (X : va_W) (S : Sx) {o : Int32 × Sx} (hF : FX1_cleansNow_n S = some o) :
    cx_i l yX1_cleansNow cX1_cleansNow 4 .int rmX1_cleansNow [.ref (Rs 100)] g A (sC g Rs none im S ++ X) o.1 (sC g Rs none im o.2 ++ X) 0 0 := by
  refine cx_i_of (by decide) (Nat.le_of_ble_eq_true rfl) ?_
  intro p e s m av below meth c Q E hret H hw ls hl
  have E : cx_E p m meth c cX1_cleansNow 4 s av RX1 g A := E
  have hx := E.1.1
  have hb := E.1.2.1
  have hl : lv_has ls 4 [(0, .ref (Rs 100))] := hl
  generalize hlc : ([] : List Loc) = locs at hw ⊢
  clear hlc
  unfold FX1_cleansNow_n at hF
  refine lv_aload_n hx hb dX1_cleansNow_0 rfl (lv_at hl 0 rfl) ?_
  replace hF := fx_b1_e hF
  obtain ⟨r_1, h_2, hF⟩ := hF
  refine cx_cVi (r := r_1) (ws := sC g Rs none im S ++ X) (ws' := sC g Rs none im S ++ X) (As := []) (rest := []) E (mX1_cleanable_n l g A Rs _ _ S h_2) (kwX1_X1_cleanable E ⟨Nat.le_of_ble_eq_true rfl, Nat.le_of_ble_eq_true rfl⟩) 0 1 rfl rfl rfl hw rfl hl.1 rfl (Nat.le_of_ble_eq_true rfl) dX1_cleansNow_1 ⟨Nat.le_of_ble_eq_true rfl, Nat.le_of_ble_eq_true rfl⟩ (fun H locs hw => ?_)
  refine lv_istore_n hx hb dX1_cleansNow_4 rfl hl (by decide) rfl (fun ls hl => ?_)
  have hl : lv_has ls 4 [(1, .int r_1), (0, .ref (Rs 100))] := hl
  refine lv_iconst (v := (0 : Int32)) hx hb dX1_cleansNow_5 (by decide) ?_
  refine lv_istore_n hx hb dX1_cleansNow_6 rfl hl (by decide) rfl (fun ls hl => ?_)
  have hl : lv_has ls 4 [(2, .int (0 : Int32)), (1, .int r_1), (0, .ref (Rs 100))] := hl
  have jn_126 : ∀ (S_3 : Sx), JX1_cleansNow_n_126 = some o → ∀ (H : Heap) (locs : List Loc) (ls : Array Slot), cx_W g A s (sC g Rs none im S_3 ++ X) H locs → lv_has ls 4 [(0, .ref (Rs 100)), (1, .int r_1)] → W p l e rmX1_cleansNow s m av below meth c H locs 0 0 Q (F0 m 126 ls []) := by
    intro S_3 hJ_126 H locs ls hw hl
    unfold JX1_cleansNow_n_126 at hJ_126
    refine lv_aload_n hx hb dX1_cleansNow_126 rfl (lv_at hl 0 rfl) ?_
    refine gX1_19n E hw dX1_cleansNow_127 ?_
    refine lv_dup hx hb dX1_cleansNow_130 rfl ?_
    exact fx_no hJ_126
  replace hF := fx_b1_e hF
  obtain ⟨ex_7, hL_7, hF⟩ := hF
  have key_7 : ∀ (n_7 : Nat) (S_4 : Sx) (x2_5 : Int32), fx_lp (LX1_cleansNow_n_7 r_1) n_7 (S_4, x2_5) = some ex_7 → ∀ (H : Heap) (locs : List Loc) (ls : Array Slot), cx_W g A s (sC g Rs none im S_4 ++ X) H locs → lv_has ls 4 [(0, .ref (Rs 100)), (1, .int r_1), (2, .int x2_5)] → W p l e rmX1_cleansNow s m av below meth c H locs 0 0 Q (F0 m 7 ls []) := by
    intro n_7
    induction n_7 with
    | zero => intro S_4 x2_5 hL_7; exact fx_lp_0 hL_7
    | succ n_7 ih_7 =>
      intro S_4 x2_5 hL_7 H locs ls hw hl
      replace hL_7 := fx_lp_s hL_7
      obtain ⟨o_7, hB_7, hO_7⟩ := hL_7
      unfold LX1_cleansNow_n_7 at hB_7
      replace hB_7 := fx_u2_e hB_7
      refine lv_iload_n hx hb dX1_cleansNow_7 rfl (lv_at hl 2 rfl) ?_
      refine lv_aload_n hx hb dX1_cleansNow_8 rfl (lv_at hl 0 rfl) ?_
      replace hB_7 := fx_b1_e hB_7
      obtain ⟨r_6, h_7, hB_7⟩ := hB_7
      refine cx_cVi (r := r_6) (ws := sC g Rs none im S_4 ++ X) (ws' := sC g Rs none im S_4 ++ X) (As := []) (rest := [.int x2_5]) E (mX1_stripes l g A Rs _ _ _ S_4 h_7) (kwX1_X1_stripes E ⟨Nat.le_of_ble_eq_true rfl, Nat.le_of_ble_eq_true rfl⟩) 0 1 rfl rfl rfl hw rfl hl.1 rfl (Nat.le_of_ble_eq_true rfl) dX1_cleansNow_9 ⟨Nat.le_of_ble_eq_true rfl, Nat.le_of_ble_eq_true rfl⟩ (fun H locs hw => ?_)
      refine lv_icmp_ge (tgt := 126) hx hb dX1_cleansNow_12 (by decide) (fun c_8 => ?_) (fun c_8 => ?_)
      · replace hB_7 := fx_tt c_8 hB_7
        obtain rfl := fx_ex hB_7 hO_7
        exact jn_126 S_4 hF _ _ _ hw (lv_sub hl [0, 1] rfl)
      · replace hB_7 := fx_ff c_8 hB_7
        refine lv_iload_n hx hb dX1_cleansNow_15 rfl (lv_at hl 1 rfl) ?_
        refine lv_iload_n hx hb dX1_cleansNow_16 rfl (lv_at hl 2 rfl) ?_
        replace hB_7 := fx_b1_e hB_7
        obtain ⟨r_9, h_10, hB_7⟩ := hB_7
        refine cx_cSi (r := r_9) (ws := sC g Rs none im S_4 ++ X) (ws' := sC g Rs none im S_4 ++ X) (As := [.int r_1, .int x2_5]) (rest := []) E (mX1_has l g A (sC g Rs none im S_4 ++ X) r_1 x2_5 h_10) (kwX1_X1_has E ⟨Nat.le_of_ble_eq_true rfl, Nat.le_of_ble_eq_true rfl⟩) hw rfl hl.1 rfl (Nat.le_of_ble_eq_true rfl) dX1_cleansNow_17 ⟨Nat.le_of_ble_eq_true rfl, Nat.le_of_ble_eq_true rfl⟩ (fun H locs hw => ?_)
        have jn_120 : ∀ (S_11 : Sx), JX1_cleansNow_n_120 x2_5 S_11 = some o_7 → ∀ (H : Heap) (locs : List Loc) (ls : Array Slot), cx_W g A s (sC g Rs none im S_11 ++ X) H locs → lv_has ls 4 [(0, .ref (Rs 100)), (1, .int r_1), (2, .int x2_5)] → W p l e rmX1_cleansNow s m av below meth c H locs 0 0 Q (F0 m 120 ls []) := by
          intro S_11 hJ_120 H locs ls hw hl
          unfold JX1_cleansNow_n_120 at hJ_120
          obtain ⟨v_12, ev_12⟩ : ∃ z : Int32, z = x2_5 + (1 : Int32) := ⟨_, rfl⟩
          replace hJ_120 := fx_lt_e ev_12 hJ_120
          refine cx_iinc (z := (1 : Int32)) (v := v_12) hx hb dX1_cleansNow_120 hl (k := 2) rfl (by decide) ev_12 (by decide) rfl (fun ls hl => ?_)
          have hl : lv_has ls 4 [(2, .int v_12), (0, .ref (Rs 100)), (1, .int r_1)] := hl
          refine lv_goto (tgt := 7) hx hb dX1_cleansNow_123 (by decide) ?_
          exact ih_7 S_11 v_12 (fx_bk hJ_120 hO_7) _ _ _ hw (lv_sub hl [1, 2, 0] rfl)
        refine lv_if_ne (tgt := 26) hx hb dX1_cleansNow_20 (by decide) (fun c_13 => ?_) (fun c_13 => ?_)
        · replace hB_7 := fx_ff c_13 hB_7
          refine lv_iconst (v := (0 : Int32)) hx hb dX1_cleansNow_26 (by decide) ?_
          refine lv_istore_n hx hb dX1_cleansNow_27 rfl hl (by decide) rfl (fun ls hl => ?_)
          have hl : lv_has ls 4 [(3, .int (0 : Int32)), (0, .ref (Rs 100)), (1, .int r_1), (2, .int x2_5)] := hl
          have jn_91 : JX1_cleansNow_n_91 x2_5 S_4 = some o_7 → ∀ (H : Heap) (locs : List Loc) (ls : Array Slot), cx_W g A s (sC g Rs none im S_4 ++ X) H locs → lv_has ls 4 [(0, .ref (Rs 100)), (1, .int r_1), (2, .int x2_5)] → W p l e rmX1_cleansNow s m av below meth c H locs 0 0 Q (F0 m 91 ls []) := by
            intro  hJ_91 H locs ls hw hl
            unfold JX1_cleansNow_n_91 at hJ_91
            refine lv_iconst (v := (0 : Int32)) hx hb dX1_cleansNow_91 (by decide) ?_
            refine lv_istore_n hx hb dX1_cleansNow_92 rfl hl (by decide) rfl (fun ls hl => ?_)
            have hl : lv_has ls 4 [(3, .int (0 : Int32)), (0, .ref (Rs 100)), (1, .int r_1), (2, .int x2_5)] := hl
            replace hJ_91 := fx_b1_e hJ_91
            obtain ⟨ex_93, hL_93, hJ_91⟩ := hJ_91
            have key_93 : ∀ (n_93 : Nat) (S_14 : Sx) (x3_15 : Int32), fx_lp (LX1_cleansNow_n_93 x2_5) n_93 (S_14, x3_15) = some ex_93 → ∀ (H : Heap) (locs : List Loc) (ls : Array Slot), cx_W g A s (sC g Rs none im S_14 ++ X) H locs → lv_has ls 4 [(0, .ref (Rs 100)), (1, .int r_1), (2, .int x2_5), (3, .int x3_15)] → W p l e rmX1_cleansNow s m av below meth c H locs 0 0 Q (F0 m 93 ls []) := by
              intro n_93
              induction n_93 with
              | zero => intro S_14 x3_15 hL_93; exact fx_lp_0 hL_93
              | succ n_93 ih_93 =>
                intro S_14 x3_15 hL_93 H locs ls hw hl
                replace hL_93 := fx_lp_s hL_93
                obtain ⟨o_93, hB_93, hO_93⟩ := hL_93
                unfold LX1_cleansNow_n_93 at hB_93
                replace hB_93 := fx_u2_e hB_93
                refine lv_iload_n hx hb dX1_cleansNow_93 rfl (lv_at hl 3 rfl) ?_
                refine lv_aload_n hx hb dX1_cleansNow_94 rfl (lv_at hl 0 rfl) ?_
                replace hB_93 := fx_b1_e hB_93
                obtain ⟨r_16, h_17, hB_93⟩ := hB_93
                refine cx_cVi (r := r_16) (ws := sC g Rs none im S_14 ++ X) (ws' := sC g Rs none im S_14 ++ X) (As := []) (rest := [.int x3_15]) E (mX1_chunk l g A Rs _ _ _ S_14 h_17) (kwX1_X1_chunk E ⟨Nat.le_of_ble_eq_true rfl, Nat.le_of_ble_eq_true rfl⟩) 0 1 rfl rfl rfl hw rfl hl.1 rfl (Nat.le_of_ble_eq_true rfl) dX1_cleansNow_95 ⟨Nat.le_of_ble_eq_true rfl, Nat.le_of_ble_eq_true rfl⟩ (fun H locs hw => ?_)
                refine lv_icmp_ge (tgt := 120) hx hb dX1_cleansNow_98 (by decide) (fun c_18 => ?_) (fun c_18 => ?_)
                · replace hB_93 := fx_tt c_18 hB_93
                  obtain rfl := fx_ex hB_93 hO_93
                  exact jn_120 S_14 hJ_91 _ _ _ hw (lv_sub hl [0, 1, 2] rfl)
                · replace hB_93 := fx_ff c_18 hB_93
                  refine lv_aload_n hx hb dX1_cleansNow_101 rfl (lv_at hl 0 rfl) ?_
                  refine lv_iload_n hx hb dX1_cleansNow_102 rfl (lv_at hl 2 rfl) ?_
                  refine lv_iload_n hx hb dX1_cleansNow_103 rfl (lv_at hl 3 rfl) ?_
                  refine lv_iconst (v := (0 : Int32)) hx hb dX1_cleansNow_104 (by decide) ?_
                  replace hB_93 := fx_b1_e hB_93
                  obtain ⟨S_19, h_20, hB_93⟩ := hB_93
                  refine cx_cVv (ws := sC g Rs none im S_14 ++ X) (ws' := sC g Rs none im S_19 ++ X) (As := [.int x2_5, .int x3_15, .int (0 : Int32)]) (rest := []) E (mX1_solves_n l g A Rs _ _ S_14 x2_5 x3_15 (0 : Int32) h_20) (kwX1_X1_solves E ⟨Nat.le_of_ble_eq_true rfl, Nat.le_of_ble_eq_true rfl⟩) 0 1 rfl rfl rfl hw rfl hl.1 rfl (Nat.le_of_ble_eq_true rfl) dX1_cleansNow_105 ⟨Nat.le_of_ble_eq_true rfl, Nat.le_of_ble_eq_true rfl⟩ (fun H locs hw => ?_)
                  refine lv_aload_n hx hb dX1_cleansNow_108 rfl (lv_at hl 0 rfl) ?_
                  refine lv_iload_n hx hb dX1_cleansNow_109 rfl (lv_at hl 2 rfl) ?_
                  refine lv_iload_n hx hb dX1_cleansNow_110 rfl (lv_at hl 3 rfl) ?_
                  replace hB_93 := fx_b1_e hB_93
                  obtain ⟨_, h_21, hB_93⟩ := hB_93
                  refine cx_cVv (ws := sC g Rs none im S_19 ++ X) (ws' := sC g Rs none im S_19 ++ X) (As := [.int x2_5, .int x3_15]) (rest := []) E (mX1_reckonsSums_n l g A Rs _ _ S_19 x2_5 x3_15 h_21) (kwX1_X1_reckonsSums E ⟨Nat.le_of_ble_eq_true rfl, Nat.le_of_ble_eq_true rfl⟩) 0 1 rfl rfl rfl hw rfl hl.1 rfl (Nat.le_of_ble_eq_true rfl) dX1_cleansNow_111 ⟨Nat.le_of_ble_eq_true rfl, Nat.le_of_ble_eq_true rfl⟩ (fun H locs hw => ?_)
                  obtain ⟨v_22, ev_22⟩ : ∃ z : Int32, z = x3_15 + (1 : Int32) := ⟨_, rfl⟩
                  replace hB_93 := fx_lt_e ev_22 hB_93
                  refine cx_iinc (z := (1 : Int32)) (v := v_22) hx hb dX1_cleansNow_114 hl (k := 3) rfl (by decide) ev_22 (by decide) rfl (fun ls hl => ?_)
                  have hl : lv_has ls 4 [(3, .int v_22), (0, .ref (Rs 100)), (1, .int r_1), (2, .int x2_5)] := hl
                  refine lv_goto (tgt := 93) hx hb dX1_cleansNow_117 (by decide) ?_
                  exact ih_93 S_19 v_22 (fx_bk hB_93 hO_93) _ _ _ hw (lv_sub hl [1, 2, 3, 0] rfl)
            exact key_93 _ S_4 (0 : Int32) hL_93 _ _ _ hw (lv_sub hl [1, 2, 3, 0] rfl)
          replace hB_7 := fx_b1_e hB_7
          obtain ⟨ex_28, hL_28, hB_7⟩ := hB_7
          have key_28 : ∀ (n_28 : Nat) (x3_24 : Int32), fx_lp (LX1_cleansNow_n_28 S_4 x2_5) n_28 x3_24 = some ex_28 → ∀ (H : Heap) (locs : List Loc) (ls : Array Slot), cx_W g A s (sC g Rs none im S_4 ++ X) H locs → lv_has ls 4 [(0, .ref (Rs 100)), (1, .int r_1), (2, .int x2_5), (3, .int x3_24)] → W p l e rmX1_cleansNow s m av below meth c H locs 0 0 Q (F0 m 28 ls []) := by
            intro n_28
            induction n_28 with
            | zero => intro x3_24 hL_28; exact fx_lp_0 hL_28
            | succ n_28 ih_28 =>
              intro x3_24 hL_28 H locs ls hw hl
              replace hL_28 := fx_lp_s hL_28
              obtain ⟨o_28, hB_28, hO_28⟩ := hL_28
              unfold LX1_cleansNow_n_28 at hB_28
              refine lv_iload_n hx hb dX1_cleansNow_28 rfl (lv_at hl 3 rfl) ?_
              refine lv_aload_n hx hb dX1_cleansNow_29 rfl (lv_at hl 0 rfl) ?_
              replace hB_28 := fx_b1_e hB_28
              obtain ⟨r_25, h_26, hB_28⟩ := hB_28
              refine cx_cVi (r := r_25) (ws := sC g Rs none im S_4 ++ X) (ws' := sC g Rs none im S_4 ++ X) (As := []) (rest := [.int x3_24]) E (mX1_data l g A Rs _ _ _ S_4 h_26) (kwX1_X1_data E ⟨Nat.le_of_ble_eq_true rfl, Nat.le_of_ble_eq_true rfl⟩) 0 1 rfl rfl rfl hw rfl hl.1 rfl (Nat.le_of_ble_eq_true rfl) dX1_cleansNow_30 ⟨Nat.le_of_ble_eq_true rfl, Nat.le_of_ble_eq_true rfl⟩ (fun H locs hw => ?_)
              refine lv_iconst (v := (2 : Int32)) hx hb dX1_cleansNow_33 (by decide) ?_
              refine lv_iadd hx hb dX1_cleansNow_34 ?_
              refine lv_icmp_ge (tgt := 91) hx hb dX1_cleansNow_35 (by decide) (fun c_27 => ?_) (fun c_27 => ?_)
              · replace hB_28 := fx_tt c_27 hB_28
                obtain rfl := fx_ex hB_28 hO_28
                exact jn_91  hB_7 _ _ _ hw (lv_sub hl [0, 1, 2] rfl)
              · replace hB_28 := fx_ff c_27 hB_28
                refine lv_iload_n hx hb dX1_cleansNow_38 rfl (lv_at hl 3 rfl) ?_
                refine lv_aload_n hx hb dX1_cleansNow_39 rfl (lv_at hl 0 rfl) ?_
                replace hB_28 := fx_b1_e hB_28
                obtain ⟨r_28, h_29, hB_28⟩ := hB_28
                refine cx_cVi (r := r_28) (ws := sC g Rs none im S_4 ++ X) (ws' := sC g Rs none im S_4 ++ X) (As := []) (rest := [.int x3_24]) E (mX1_data l g A Rs _ _ _ S_4 h_29) (kwX1_X1_data E ⟨Nat.le_of_ble_eq_true rfl, Nat.le_of_ble_eq_true rfl⟩) 0 1 rfl rfl rfl hw rfl hl.1 rfl (Nat.le_of_ble_eq_true rfl) dX1_cleansNow_40 ⟨Nat.le_of_ble_eq_true rfl, Nat.le_of_ble_eq_true rfl⟩ (fun H locs hw => ?_)
                have jn_85 : JX1_cleansNow_n_85 x3_24 = some o_28 → ∀ (H : Heap) (locs : List Loc) (ls : Array Slot), cx_W g A s (sC g Rs none im S_4 ++ X) H locs → lv_has ls 4 [(0, .ref (Rs 100)), (1, .int r_1), (2, .int x2_5), (3, .int x3_24)] → W p l e rmX1_cleansNow s m av below meth c H locs 0 0 Q (F0 m 85 ls []) := by
                  intro  hJ_85 H locs ls hw hl
                  unfold JX1_cleansNow_n_85 at hJ_85
                  obtain ⟨v_30, ev_30⟩ : ∃ z : Int32, z = x3_24 + (1 : Int32) := ⟨_, rfl⟩
                  replace hJ_85 := fx_lt_e ev_30 hJ_85
                  refine cx_iinc (z := (1 : Int32)) (v := v_30) hx hb dX1_cleansNow_85 hl (k := 3) rfl (by decide) ev_30 (by decide) rfl (fun ls hl => ?_)
                  have hl : lv_has ls 4 [(3, .int v_30), (0, .ref (Rs 100)), (1, .int r_1), (2, .int x2_5)] := hl
                  refine lv_goto (tgt := 28) hx hb dX1_cleansNow_88 (by decide) ?_
                  exact ih_28 v_30 (fx_bk hJ_85 hO_28) _ _ _ hw (lv_sub hl [1, 2, 3, 0] rfl)
                refine lv_icmp_ge (tgt := 67) hx hb dX1_cleansNow_43 (by decide) (fun c_31 => ?_) (fun c_31 => ?_)
                · replace hB_28 := fx_tt c_31 hB_28
                  refine lv_aload_n hx hb dX1_cleansNow_67 rfl (lv_at hl 0 rfl) ?_
                  refine gX1_19n E hw dX1_cleansNow_68 ?_
                  refine lv_aload_n hx hb dX1_cleansNow_71 rfl (lv_at hl 0 rfl) ?_
                  refine lv_iload_n hx hb dX1_cleansNow_72 rfl (lv_at hl 2 rfl) ?_
                  refine lv_iload_n hx hb dX1_cleansNow_73 rfl (lv_at hl 3 rfl) ?_
                  replace hB_28 := fx_b1_e hB_28
                  obtain ⟨r_32, h_33, hB_28⟩ := hB_28
                  refine cx_cVi (r := r_32) (ws := sC g Rs none im S_4 ++ X) (ws' := sC g Rs none im S_4 ++ X) (As := [.int x2_5, .int x3_24]) (rest := [.null]) E (mX1_diskOf l g A Rs _ _ _ S_4 x2_5 x3_24 h_33) (kwX1_X1_diskOf E ⟨Nat.le_of_ble_eq_true rfl, Nat.le_of_ble_eq_true rfl⟩) 0 1 rfl rfl rfl hw rfl hl.1 rfl (Nat.le_of_ble_eq_true rfl) dX1_cleansNow_74 ⟨Nat.le_of_ble_eq_true rfl, Nat.le_of_ble_eq_true rfl⟩ (fun H locs hw => ?_)
                  refine lv_aload_n hx hb dX1_cleansNow_77 rfl (lv_at hl 0 rfl) ?_
                  replace hB_28 := fx_b1_e hB_28
                  obtain ⟨r_34, h_35, hB_28⟩ := hB_28
                  refine cx_cVi (r := r_34) (ws := sC g Rs none im S_4 ++ X) (ws' := sC g Rs none im S_4 ++ X) (As := []) (rest := [.int r_32, .null]) E (mX1_chunk l g A Rs _ _ _ S_4 h_35) (kwX1_X1_chunk E ⟨Nat.le_of_ble_eq_true rfl, Nat.le_of_ble_eq_true rfl⟩) 0 1 rfl rfl rfl hw rfl hl.1 rfl (Nat.le_of_ble_eq_true rfl) dX1_cleansNow_78 ⟨Nat.le_of_ble_eq_true rfl, Nat.le_of_ble_eq_true rfl⟩ (fun H locs hw => ?_)
                  exact fx_no hB_28
                · replace hB_28 := fx_ff c_31 hB_28
                  refine lv_aload_n hx hb dX1_cleansNow_46 rfl (lv_at hl 0 rfl) ?_
                  refine gX1_19n E hw dX1_cleansNow_47 ?_
                  refine lv_aload_n hx hb dX1_cleansNow_50 rfl (lv_at hl 0 rfl) ?_
                  refine lv_iload_n hx hb dX1_cleansNow_51 rfl (lv_at hl 2 rfl) ?_
                  refine lv_iload_n hx hb dX1_cleansNow_52 rfl (lv_at hl 3 rfl) ?_
                  replace hB_28 := fx_b1_e hB_28
                  obtain ⟨r_36, h_37, hB_28⟩ := hB_28
                  refine cx_cVi (r := r_36) (ws := sC g Rs none im S_4 ++ X) (ws' := sC g Rs none im S_4 ++ X) (As := [.int x2_5, .int x3_24]) (rest := [.null]) E (mX1_diskOf l g A Rs _ _ _ S_4 x2_5 x3_24 h_37) (kwX1_X1_diskOf E ⟨Nat.le_of_ble_eq_true rfl, Nat.le_of_ble_eq_true rfl⟩) 0 1 rfl rfl rfl hw rfl hl.1 rfl (Nat.le_of_ble_eq_true rfl) dX1_cleansNow_53 ⟨Nat.le_of_ble_eq_true rfl, Nat.le_of_ble_eq_true rfl⟩ (fun H locs hw => ?_)
                  refine lv_aload_n hx hb dX1_cleansNow_56 rfl (lv_at hl 0 rfl) ?_
                  replace hB_28 := fx_b1_e hB_28
                  obtain ⟨r_38, h_39, hB_28⟩ := hB_28
                  refine cx_cVi (r := r_38) (ws := sC g Rs none im S_4 ++ X) (ws' := sC g Rs none im S_4 ++ X) (As := []) (rest := [.int r_36, .null]) E (mX1_chunk l g A Rs _ _ _ S_4 h_39) (kwX1_X1_chunk E ⟨Nat.le_of_ble_eq_true rfl, Nat.le_of_ble_eq_true rfl⟩) 0 1 rfl rfl rfl hw rfl hl.1 rfl (Nat.le_of_ble_eq_true rfl) dX1_cleansNow_57 ⟨Nat.le_of_ble_eq_true rfl, Nat.le_of_ble_eq_true rfl⟩ (fun H locs hw => ?_)
                  exact fx_no hB_28
          exact key_28 _ (0 : Int32) hL_28 _ _ _ hw (lv_sub hl [1, 2, 3, 0] rfl)
        · replace hB_7 := fx_tt c_13 hB_7
          refine lv_goto (tgt := 120) hx hb dX1_cleansNow_23 (by decide) ?_
          exact jn_120 S_4 hB_7 _ _ _ hw hl
  exact key_7 _ S (0 : Int32) hL_7 _ _ _ hw (lv_sub hl [2, 1, 0] rfl)
/-! fullNow(IIII)I -/
def JX1_fullNow_s_96 (S_1 : Sx) (N_4 : Sx) (p1 : Int32) (p2 : Int32) (x5_3 : Int32) : Option (Int32 × Sx × Sx) :=
  fx_b1 (FX1_reckonsSums_s S_1 N_4 p1 p2) (fun N_5 => some (x5_3, S_1, N_5))
def LX1_fullNow_s_67 (S_1 : Sx) (p1 : Int32) (q_ : Sx × Int32 × Int32) : Option ((Sx × Int32 × Int32) ⊕ (Sx × Int32)) :=
  fx_u3 q_ (fun N_7 x5_8 x6_9 => fx_b1 (FX1_data S_1) (fun r_10 => if (r_10 + (2 : Int32)) ≤ x6_9 then (some (.inr (N_7, x5_8))) else (fx_b2 (FX1_writeOf_s S_1 N_7 p1 x6_9) (fun r_13 N_14 => fx_lt (x5_8 + r_13) (fun v_16 => fx_lt (x6_9 + (1 : Int32)) (fun v_17 => some (.inl (N_14, v_16, v_17))))))))
def JX1_fullNow_s_64 (S_1 : Sx) (p1 : Int32) (N_2 : Sx) (p2 : Int32) : Option (Int32 × Sx × Sx) :=
  fx_b1 (fx_lp (LX1_fullNow_s_67 S_1 p1) 2000 (N_2, (0 : Int32), (0 : Int32))) (fun q_ => fx_u2 q_ (fun N_18 y5_19 => JX1_fullNow_s_96 S_1 N_18 p1 p2 y5_19))
def JX1_fullNow_s_58 (x6_22 : Int32) (S_27 : Sx) (N_30 : Sx) : Option ((Sx × Sx × Int32) ⊕ (Sx × Sx)) :=
  fx_lt (x6_22 + (1 : Int32)) (fun v_31 => some (.inl (S_27, N_30, v_31)))
def LX1_fullNow_s_6 (p3 : Int32) (p4 : Int32) (p1 : Int32) (p2 : Int32) (q_ : Sx × Sx × Int32) : Option ((Sx × Sx × Int32) ⊕ (Sx × Sx)) :=
  fx_u3 q_ (fun S_20 N_21 x6_22 => fx_b1 (FX1_data S_20) (fun r_23 => if r_23 ≤ x6_22 then (some (.inr (S_20, N_21))) else (fx_gd (fx_in x6_22 8) (fx_lt (px_A S_20 27 (upd (gx_A S_20 27) x6_22.toNatClampNeg ((p3 + (x6_22 * p4)) - (p3 + (x6_22 * p4)) / (256 : Int32) * (256 : Int32)))) (fun S_27 => fx_b1 (FX1_isThere_s S_27 N_21 p1 x6_22) (fun r_28 => if r_28 = 0 then (JX1_fullNow_s_58 x6_22 S_27 N_21) else (fx_gd (fx_in x6_22 8) (fx_b1 (FX1_put_s S_27 N_21 p1 x6_22 p2 (gx_A S_27 27 x6_22.toNatClampNeg)) (fun N_34 => JX1_fullNow_s_58 x6_22 S_27 N_34)))))))))
def FX1_fullNow_s (S : Sx) (N : Sx) (p1 : Int32) (p2 : Int32) (p3 : Int32) (p4 : Int32) : Option (Int32 × Sx × Sx) :=
  fx_b1 (fx_lp (LX1_fullNow_s_6 p3 p4 p1 p2) 2000 (S, N, (0 : Int32))) (fun q_ => fx_u2 q_ (fun S_36 N_37 => JX1_fullNow_s_64 S_36 p1 N_37 p2))
set_option maxHeartbeats 4000000 in
set_option maxRecDepth 100000 in
theorem mX1_fullNow_s (l : Launch) (g : Gx) (A : Nat → Prop) (Rs Rn : Nat → Nat) (im : Option Nat) (X : va_W) (S : Sx) (N : Sx) (p1 : Int32) (p2 : Int32) (p3 : Int32) (p4 : Int32) {o : Int32 × Sx × Sx} (hF : FX1_fullNow_s S N p1 p2 p3 p4 = some o) :
    cx_i l yX1_fullNow cX1_fullNow 7 .int rmX1_fullNow [.ref (Rs 100), .int p1, .int p2, .int p3, .int p4] g A (sC g Rs (some (Rn 100)) im S ++ (stC g Rn N ++ X)) o.1 (sC g Rs (some (Rn 100)) im o.2.1 ++ (stC g Rn o.2.2 ++ X)) 0 0 := by
  refine cx_i_of (by decide) (Nat.le_of_ble_eq_true rfl) ?_
  intro p e s m av below meth c Q E hret H hw ls hl
  have E : cx_E p m meth c cX1_fullNow 7 s av RX1 g A := E
  have hx := E.1.1
  have hb := E.1.2.1
  have hl : lv_has ls 7 [(0, .ref (Rs 100)), (1, .int p1), (2, .int p2), (3, .int p3), (4, .int p4)] := hl
  generalize hlc : ([] : List Loc) = locs at hw ⊢
  clear hlc
  unfold FX1_fullNow_s at hF
  refine lv_iconst (v := (0 : Int32)) hx hb dX1_fullNow_0 (by decide) ?_
  refine lv_istore hx hb dX1_fullNow_1 hl (by decide) rfl (fun ls hl => ?_)
  have hl : lv_has ls 7 [(5, .int (0 : Int32)), (0, .ref (Rs 100)), (1, .int p1), (2, .int p2), (3, .int p3), (4, .int p4)] := hl
  refine lv_iconst (v := (0 : Int32)) hx hb dX1_fullNow_3 (by decide) ?_
  refine lv_istore hx hb dX1_fullNow_4 hl (by decide) rfl (fun ls hl => ?_)
  have hl : lv_has ls 7 [(6, .int (0 : Int32)), (5, .int (0 : Int32)), (0, .ref (Rs 100)), (1, .int p1), (2, .int p2), (3, .int p3), (4, .int p4)] := hl
  have jn_64 : ∀ (S_1 : Sx) (N_2 : Sx), JX1_fullNow_s_64 S_1 p1 N_2 p2 = some o → ∀ (H : Heap) (locs : List Loc) (ls : Array Slot), cx_W g A s (sC g Rs (some (Rn 100)) im S_1 ++ (stC g Rn N_2 ++ X)) H locs → lv_has ls 7 [(0, .ref (Rs 100)), (1, .int p1), (2, .int p2), (5, .int (0 : Int32))] → W p l e rmX1_fullNow s m av below meth c H locs 0 0 Q (F0 m 64 ls []) := by
    intro S_1 N_2 hJ_64 H locs ls hw hl
    unfold JX1_fullNow_s_64 at hJ_64
    refine lv_iconst (v := (0 : Int32)) hx hb dX1_fullNow_64 (by decide) ?_
    refine lv_istore hx hb dX1_fullNow_65 hl (by decide) rfl (fun ls hl => ?_)
    have hl : lv_has ls 7 [(6, .int (0 : Int32)), (0, .ref (Rs 100)), (1, .int p1), (2, .int p2), (5, .int (0 : Int32))] := hl
    have jn_96 : ∀ (N_4 : Sx) (x5_3 : Int32), JX1_fullNow_s_96 S_1 N_4 p1 p2 x5_3 = some o → ∀ (H : Heap) (locs : List Loc) (ls : Array Slot), cx_W g A s (sC g Rs (some (Rn 100)) im S_1 ++ (stC g Rn N_4 ++ X)) H locs → lv_has ls 7 [(0, .ref (Rs 100)), (1, .int p1), (2, .int p2), (5, .int x5_3)] → W p l e rmX1_fullNow s m av below meth c H locs 0 0 Q (F0 m 96 ls []) := by
      intro N_4 x5_3 hJ_96 H locs ls hw hl
      unfold JX1_fullNow_s_96 at hJ_96
      refine lv_aload_n hx hb dX1_fullNow_96 rfl (lv_at hl 0 rfl) ?_
      refine lv_iload_n hx hb dX1_fullNow_97 rfl (lv_at hl 1 rfl) ?_
      refine lv_iload_n hx hb dX1_fullNow_98 rfl (lv_at hl 2 rfl) ?_
      replace hJ_96 := fx_b1_e hJ_96
      obtain ⟨N_5, h_6, hJ_96⟩ := hJ_96
      refine cx_cVv (ws := sC g Rs (some (Rn 100)) im S_1 ++ (stC g Rn N_4 ++ X)) (ws' := sC g Rs (some (Rn 100)) im S_1 ++ (stC g Rn N_5 ++ X)) (As := [.int p1, .int p2]) (rest := []) E (mX1_reckonsSums_s l g A Rs Rn _ _ S_1 N_4 p1 p2 h_6) (kwX1_X1_reckonsSums E ⟨Nat.le_of_ble_eq_true rfl, Nat.le_of_ble_eq_true rfl⟩) 0 1 rfl rfl rfl hw rfl hl.1 rfl (Nat.le_of_ble_eq_true rfl) dX1_fullNow_99 ⟨Nat.le_of_ble_eq_true rfl, Nat.le_of_ble_eq_true rfl⟩ (fun H locs hw => ?_)
      refine lv_iload hx hb dX1_fullNow_102 (lv_at hl 3 rfl) ?_
      obtain rfl := Option.some.inj hJ_96
      exact hret _ _ _ _ _ rfl rfl hw dX1_fullNow_104
    replace hJ_64 := fx_b1_e hJ_64
    obtain ⟨ex_67, hL_67, hJ_64⟩ := hJ_64
    have key_67 : ∀ (n_67 : Nat) (N_7 : Sx) (x5_8 : Int32) (x6_9 : Int32), fx_lp (LX1_fullNow_s_67 S_1 p1) n_67 (N_7, x5_8, x6_9) = some ex_67 → ∀ (H : Heap) (locs : List Loc) (ls : Array Slot), cx_W g A s (sC g Rs (some (Rn 100)) im S_1 ++ (stC g Rn N_7 ++ X)) H locs → lv_has ls 7 [(0, .ref (Rs 100)), (1, .int p1), (2, .int p2), (5, .int x5_8), (6, .int x6_9)] → W p l e rmX1_fullNow s m av below meth c H locs 0 0 Q (F0 m 67 ls []) := by
      intro n_67
      induction n_67 with
      | zero => intro N_7 x5_8 x6_9 hL_67; exact fx_lp_0 hL_67
      | succ n_67 ih_67 =>
        intro N_7 x5_8 x6_9 hL_67 H locs ls hw hl
        replace hL_67 := fx_lp_s hL_67
        obtain ⟨o_67, hB_67, hO_67⟩ := hL_67
        unfold LX1_fullNow_s_67 at hB_67
        replace hB_67 := fx_u3_e hB_67
        refine lv_iload hx hb dX1_fullNow_67 (lv_at hl 4 rfl) ?_
        refine lv_aload_n hx hb dX1_fullNow_69 rfl (lv_at hl 0 rfl) ?_
        replace hB_67 := fx_b1_e hB_67
        obtain ⟨r_10, h_11, hB_67⟩ := hB_67
        refine cx_cVi (r := r_10) (ws := sC g Rs (some (Rn 100)) im S_1 ++ (stC g Rn N_7 ++ X)) (ws' := sC g Rs (some (Rn 100)) im S_1 ++ (stC g Rn N_7 ++ X)) (As := []) (rest := [.int x6_9]) E (mX1_data l g A Rs _ _ _ S_1 h_11) (kwX1_X1_data E ⟨Nat.le_of_ble_eq_true rfl, Nat.le_of_ble_eq_true rfl⟩) 0 1 rfl rfl rfl hw rfl hl.1 rfl (Nat.le_of_ble_eq_true rfl) dX1_fullNow_70 ⟨Nat.le_of_ble_eq_true rfl, Nat.le_of_ble_eq_true rfl⟩ (fun H locs hw => ?_)
        refine lv_iconst (v := (2 : Int32)) hx hb dX1_fullNow_73 (by decide) ?_
        refine lv_iadd hx hb dX1_fullNow_74 ?_
        refine lv_icmp_ge (tgt := 96) hx hb dX1_fullNow_75 (by decide) (fun c_12 => ?_) (fun c_12 => ?_)
        · replace hB_67 := fx_tt c_12 hB_67
          obtain rfl := fx_ex hB_67 hO_67
          replace hJ_64 := fx_u2_e hJ_64
          exact jn_96 N_7 x5_8 hJ_64 _ _ _ hw (lv_sub hl [0, 1, 2, 3] rfl)
        · replace hB_67 := fx_ff c_12 hB_67
          refine lv_iload hx hb dX1_fullNow_78 (lv_at hl 3 rfl) ?_
          refine lv_aload_n hx hb dX1_fullNow_80 rfl (lv_at hl 0 rfl) ?_
          refine lv_iload_n hx hb dX1_fullNow_81 rfl (lv_at hl 1 rfl) ?_
          refine lv_iload hx hb dX1_fullNow_82 (lv_at hl 4 rfl) ?_
          replace hB_67 := fx_b2_e hB_67
          obtain ⟨r_13, N_14, h_15, hB_67⟩ := hB_67
          refine cx_cVi (r := r_13) (ws := sC g Rs (some (Rn 100)) im S_1 ++ (stC g Rn N_7 ++ X)) (ws' := sC g Rs (some (Rn 100)) im S_1 ++ (stC g Rn N_14 ++ X)) (As := [.int p1, .int x6_9]) (rest := [.int x5_8]) E (mX1_writeOf_s l g A Rs Rn _ _ S_1 N_7 p1 x6_9 h_15) (kwX1_X1_writeOf E ⟨Nat.le_of_ble_eq_true rfl, Nat.le_of_ble_eq_true rfl⟩) 0 1 rfl rfl rfl hw rfl hl.1 rfl (Nat.le_of_ble_eq_true rfl) dX1_fullNow_84 ⟨Nat.le_of_ble_eq_true rfl, Nat.le_of_ble_eq_true rfl⟩ (fun H locs hw => ?_)
          refine lv_iadd hx hb dX1_fullNow_87 ?_
          refine lv_topi (fun v_16 ev_16 => ?_)
          replace hB_67 := fx_lt_e ev_16 hB_67
          refine lv_istore hx hb dX1_fullNow_88 hl (by decide) rfl (fun ls hl => ?_)
          have hl : lv_has ls 7 [(5, .int v_16), (0, .ref (Rs 100)), (1, .int p1), (2, .int p2), (6, .int x6_9)] := hl
          obtain ⟨v_17, ev_17⟩ : ∃ z : Int32, z = x6_9 + (1 : Int32) := ⟨_, rfl⟩
          replace hB_67 := fx_lt_e ev_17 hB_67
          refine cx_iinc (z := (1 : Int32)) (v := v_17) hx hb dX1_fullNow_90 hl (k := 4) rfl (by decide) ev_17 (by decide) rfl (fun ls hl => ?_)
          have hl : lv_has ls 7 [(6, .int v_17), (5, .int v_16), (0, .ref (Rs 100)), (1, .int p1), (2, .int p2)] := hl
          refine lv_goto (tgt := 67) hx hb dX1_fullNow_93 (by decide) ?_
          exact ih_67 N_14 v_16 v_17 (fx_bk hB_67 hO_67) _ _ _ hw (lv_sub hl [2, 3, 4, 1, 0] rfl)
    exact key_67 _ N_2 (0 : Int32) (0 : Int32) hL_67 _ _ _ hw (lv_sub hl [1, 2, 3, 4, 0] rfl)
  replace hF := fx_b1_e hF
  obtain ⟨ex_6, hL_6, hF⟩ := hF
  have key_6 : ∀ (n_6 : Nat) (S_20 : Sx) (N_21 : Sx) (x6_22 : Int32), fx_lp (LX1_fullNow_s_6 p3 p4 p1 p2) n_6 (S_20, N_21, x6_22) = some ex_6 → ∀ (H : Heap) (locs : List Loc) (ls : Array Slot), cx_W g A s (sC g Rs (some (Rn 100)) im S_20 ++ (stC g Rn N_21 ++ X)) H locs → lv_has ls 7 [(0, .ref (Rs 100)), (1, .int p1), (2, .int p2), (3, .int p3), (4, .int p4), (5, .int (0 : Int32)), (6, .int x6_22)] → W p l e rmX1_fullNow s m av below meth c H locs 0 0 Q (F0 m 6 ls []) := by
    intro n_6
    induction n_6 with
    | zero => intro S_20 N_21 x6_22 hL_6; exact fx_lp_0 hL_6
    | succ n_6 ih_6 =>
      intro S_20 N_21 x6_22 hL_6 H locs ls hw hl
      replace hL_6 := fx_lp_s hL_6
      obtain ⟨o_6, hB_6, hO_6⟩ := hL_6
      unfold LX1_fullNow_s_6 at hB_6
      replace hB_6 := fx_u3_e hB_6
      refine lv_iload hx hb dX1_fullNow_6 (lv_at hl 6 rfl) ?_
      refine lv_aload_n hx hb dX1_fullNow_8 rfl (lv_at hl 0 rfl) ?_
      replace hB_6 := fx_b1_e hB_6
      obtain ⟨r_23, h_24, hB_6⟩ := hB_6
      refine cx_cVi (r := r_23) (ws := sC g Rs (some (Rn 100)) im S_20 ++ (stC g Rn N_21 ++ X)) (ws' := sC g Rs (some (Rn 100)) im S_20 ++ (stC g Rn N_21 ++ X)) (As := []) (rest := [.int x6_22]) E (mX1_data l g A Rs _ _ _ S_20 h_24) (kwX1_X1_data E ⟨Nat.le_of_ble_eq_true rfl, Nat.le_of_ble_eq_true rfl⟩) 0 1 rfl rfl rfl hw rfl hl.1 rfl (Nat.le_of_ble_eq_true rfl) dX1_fullNow_9 ⟨Nat.le_of_ble_eq_true rfl, Nat.le_of_ble_eq_true rfl⟩ (fun H locs hw => ?_)
      refine lv_icmp_ge (tgt := 64) hx hb dX1_fullNow_12 (by decide) (fun c_25 => ?_) (fun c_25 => ?_)
      · replace hB_6 := fx_tt c_25 hB_6
        obtain rfl := fx_ex hB_6 hO_6
        replace hF := fx_u2_e hF
        exact jn_64 S_20 N_21 hF _ _ _ hw (lv_sub hl [0, 1, 2, 5] rfl)
      · replace hB_6 := fx_ff c_25 hB_6
        refine lv_aload_n hx hb dX1_fullNow_15 rfl (lv_at hl 0 rfl) ?_
        refine gX1_27 E hw dX1_fullNow_16 ?_
        refine lv_iload hx hb dX1_fullNow_19 (lv_at hl 6 rfl) ?_
        refine lv_iload_n hx hb dX1_fullNow_21 rfl (lv_at hl 3 rfl) ?_
        refine lv_iload hx hb dX1_fullNow_22 (lv_at hl 6 rfl) ?_
        refine lv_iload hx hb dX1_fullNow_24 (lv_at hl 4 rfl) ?_
        refine lv_imul hx hb dX1_fullNow_26 ?_
        refine lv_iadd hx hb dX1_fullNow_27 ?_
        refine lv_sipush (v := (256 : Int32)) hx hb dX1_fullNow_28 (by decide) ?_
        refine lv_irem hx hb dX1_fullNow_31 (by decide) ?_
        replace hB_6 := fx_gd_e hB_6
        obtain ⟨h_26, hB_6⟩ := hB_6
        obtain ⟨S_27, eS_27⟩ : ∃ z : Sx, z = px_A S_20 27 (upd (gx_A S_20 27) x6_22.toNatClampNeg ((p3 + (x6_22 * p4)) - (p3 + (x6_22 * p4)) / (256 : Int32) * (256 : Int32))) := ⟨_, rfl⟩
        replace hB_6 := fx_lt_e eS_27 hB_6
        refine rsX1_27 eS_27 E hw (fx_in_e h_26) dX1_fullNow_32 (fun H locs hw => ?_)
        refine lv_aload_n hx hb dX1_fullNow_33 rfl (lv_at hl 0 rfl) ?_
        refine lv_iload_n hx hb dX1_fullNow_34 rfl (lv_at hl 1 rfl) ?_
        refine lv_iload hx hb dX1_fullNow_35 (lv_at hl 6 rfl) ?_
        replace hB_6 := fx_b1_e hB_6
        obtain ⟨r_28, h_29, hB_6⟩ := hB_6
        refine cx_cVi (r := r_28) (ws := sC g Rs (some (Rn 100)) im S_27 ++ (stC g Rn N_21 ++ X)) (ws' := sC g Rs (some (Rn 100)) im S_27 ++ (stC g Rn N_21 ++ X)) (As := [.int p1, .int x6_22]) (rest := []) E (mX1_isThere_s l g A Rs Rn _ _ S_27 N_21 p1 x6_22 h_29) (kwX1_X1_isThere E ⟨Nat.le_of_ble_eq_true rfl, Nat.le_of_ble_eq_true rfl⟩) 0 1 rfl rfl rfl hw rfl hl.1 rfl (Nat.le_of_ble_eq_true rfl) dX1_fullNow_37 ⟨Nat.le_of_ble_eq_true rfl, Nat.le_of_ble_eq_true rfl⟩ (fun H locs hw => ?_)
        have jn_58 : ∀ (N_30 : Sx), JX1_fullNow_s_58 x6_22 S_27 N_30 = some o_6 → ∀ (H : Heap) (locs : List Loc) (ls : Array Slot), cx_W g A s (sC g Rs (some (Rn 100)) im S_27 ++ (stC g Rn N_30 ++ X)) H locs → lv_has ls 7 [(0, .ref (Rs 100)), (1, .int p1), (2, .int p2), (3, .int p3), (4, .int p4), (5, .int (0 : Int32)), (6, .int x6_22)] → W p l e rmX1_fullNow s m av below meth c H locs 0 0 Q (F0 m 58 ls []) := by
          intro N_30 hJ_58 H locs ls hw hl
          unfold JX1_fullNow_s_58 at hJ_58
          obtain ⟨v_31, ev_31⟩ : ∃ z : Int32, z = x6_22 + (1 : Int32) := ⟨_, rfl⟩
          replace hJ_58 := fx_lt_e ev_31 hJ_58
          refine cx_iinc (z := (1 : Int32)) (v := v_31) hx hb dX1_fullNow_58 hl (k := 6) rfl (by decide) ev_31 (by decide) rfl (fun ls hl => ?_)
          have hl : lv_has ls 7 [(6, .int v_31), (0, .ref (Rs 100)), (1, .int p1), (2, .int p2), (3, .int p3), (4, .int p4), (5, .int (0 : Int32))] := hl
          refine lv_goto (tgt := 6) hx hb dX1_fullNow_61 (by decide) ?_
          exact ih_6 S_27 N_30 v_31 (fx_bk hJ_58 hO_6) _ _ _ hw (lv_sub hl [1, 2, 3, 4, 5, 6, 0] rfl)
        refine lv_if_eq (tgt := 58) hx hb dX1_fullNow_40 (by decide) (fun c_32 => ?_) (fun c_32 => ?_)
        · replace hB_6 := fx_tt c_32 hB_6
          exact jn_58 N_21 hB_6 _ _ _ hw hl
        · replace hB_6 := fx_ff c_32 hB_6
          refine lv_aload_n hx hb dX1_fullNow_43 rfl (lv_at hl 0 rfl) ?_
          refine lv_iload_n hx hb dX1_fullNow_44 rfl (lv_at hl 1 rfl) ?_
          refine lv_iload hx hb dX1_fullNow_45 (lv_at hl 6 rfl) ?_
          refine lv_iload_n hx hb dX1_fullNow_47 rfl (lv_at hl 2 rfl) ?_
          refine lv_aload_n hx hb dX1_fullNow_48 rfl (lv_at hl 0 rfl) ?_
          refine gX1_27 E hw dX1_fullNow_49 ?_
          refine lv_iload hx hb dX1_fullNow_52 (lv_at hl 6 rfl) ?_
          replace hB_6 := fx_gd_e hB_6
          obtain ⟨h_33, hB_6⟩ := hB_6
          refine raX1_27 E hw (fx_in_e h_33) dX1_fullNow_54 ?_
          replace hB_6 := fx_b1_e hB_6
          obtain ⟨N_34, h_35, hB_6⟩ := hB_6
          refine cx_cVv (ws := sC g Rs (some (Rn 100)) im S_27 ++ (stC g Rn N_21 ++ X)) (ws' := sC g Rs (some (Rn 100)) im S_27 ++ (stC g Rn N_34 ++ X)) (As := [.int p1, .int x6_22, .int p2, .int (gx_A S_27 27 x6_22.toNatClampNeg)]) (rest := []) E (mX1_put_s l g A Rs Rn _ _ S_27 N_21 p1 x6_22 p2 (gx_A S_27 27 x6_22.toNatClampNeg) h_35) (kwX1_X1_put E ⟨Nat.le_of_ble_eq_true rfl, Nat.le_of_ble_eq_true rfl⟩) 0 1 rfl rfl rfl hw rfl hl.1 rfl (Nat.le_of_ble_eq_true rfl) dX1_fullNow_55 ⟨Nat.le_of_ble_eq_true rfl, Nat.le_of_ble_eq_true rfl⟩ (fun H locs hw => ?_)
          exact jn_58 N_34 hB_6 _ _ _ hw hl
  exact key_6 _ S N (0 : Int32) hL_6 _ _ _ hw (lv_sub hl [2, 3, 4, 5, 6, 1, 0] rfl)
/-! fullNow(IIII)I -/
def JX1_fullNow_n_96 (S_1 : Sx) (p1 : Int32) (p2 : Int32) (x5_2 : Int32) : Option (Int32 × Sx) :=
  fx_b1 (FX1_reckonsSums_n S_1 p1 p2) (fun _ => some (x5_2, S_1))
def LX1_fullNow_n_67 (S_1 : Sx) (p1 : Int32) (q_ : Int32 × Int32) : Option ((Int32 × Int32) ⊕ (Int32)) :=
  fx_u2 q_ (fun x5_4 x6_5 => fx_b1 (FX1_data S_1) (fun r_6 => if (r_6 + (2 : Int32)) ≤ x6_5 then (some (.inr x5_4)) else (fx_b1 (FX1_writeOf_n S_1 p1 x6_5) (fun r_9 => fx_lt (x5_4 + r_9) (fun v_11 => fx_lt (x6_5 + (1 : Int32)) (fun v_12 => some (.inl (v_11, v_12))))))))
def JX1_fullNow_n_64 (S_1 : Sx) (p1 : Int32) (p2 : Int32) : Option (Int32 × Sx) :=
  fx_b1 (fx_lp (LX1_fullNow_n_67 S_1 p1) 2000 ((0 : Int32), (0 : Int32))) (fun y5_13 => JX1_fullNow_n_96 S_1 p1 p2 y5_13)
def JX1_fullNow_n_58 (x6_15 : Int32) (S_20 : Sx) : Option ((Sx × Int32) ⊕ (Sx)) :=
  fx_lt (x6_15 + (1 : Int32)) (fun v_23 => some (.inl (S_20, v_23)))
def LX1_fullNow_n_6 (p3 : Int32) (p4 : Int32) (p1 : Int32) (p2 : Int32) (q_ : Sx × Int32) : Option ((Sx × Int32) ⊕ (Sx)) :=
  fx_u2 q_ (fun S_14 x6_15 => fx_b1 (FX1_data S_14) (fun r_16 => if r_16 ≤ x6_15 then (some (.inr S_14)) else (fx_gd (fx_in x6_15 8) (fx_lt (px_A S_14 27 (upd (gx_A S_14 27) x6_15.toNatClampNeg ((p3 + (x6_15 * p4)) - (p3 + (x6_15 * p4)) / (256 : Int32) * (256 : Int32)))) (fun S_20 => fx_b1 (FX1_isThere_n S_20 p1 x6_15) (fun r_21 => if r_21 = 0 then (JX1_fullNow_n_58 x6_15 S_20) else (fx_gd (fx_in x6_15 8) (fx_b1 (FX1_put_n S_20 p1 x6_15 p2 (gx_A S_20 27 x6_15.toNatClampNeg)) (fun _ => JX1_fullNow_n_58 x6_15 S_20)))))))))
def FX1_fullNow_n (S : Sx) (p1 : Int32) (p2 : Int32) (p3 : Int32) (p4 : Int32) : Option (Int32 × Sx) :=
  fx_b1 (fx_lp (LX1_fullNow_n_6 p3 p4 p1 p2) 2000 (S, (0 : Int32))) (fun S_27 => JX1_fullNow_n_64 S_27 p1 p2)
set_option maxHeartbeats 4000000 in
set_option maxRecDepth 100000 in
theorem mX1_fullNow_n (l : Launch) (g : Gx) (A : Nat → Prop) (Rs : Nat → Nat) (im : Option Nat) (X : va_W) (S : Sx) (p1 : Int32) (p2 : Int32) (p3 : Int32) (p4 : Int32) {o : Int32 × Sx} (hF : FX1_fullNow_n S p1 p2 p3 p4 = some o) :
    cx_i l yX1_fullNow cX1_fullNow 7 .int rmX1_fullNow [.ref (Rs 100), .int p1, .int p2, .int p3, .int p4] g A (sC g Rs none im S ++ X) o.1 (sC g Rs none im o.2 ++ X) 0 0 := by
  refine cx_i_of (by decide) (Nat.le_of_ble_eq_true rfl) ?_
  intro p e s m av below meth c Q E hret H hw ls hl
  have E : cx_E p m meth c cX1_fullNow 7 s av RX1 g A := E
  have hx := E.1.1
  have hb := E.1.2.1
  have hl : lv_has ls 7 [(0, .ref (Rs 100)), (1, .int p1), (2, .int p2), (3, .int p3), (4, .int p4)] := hl
  generalize hlc : ([] : List Loc) = locs at hw ⊢
  clear hlc
  unfold FX1_fullNow_n at hF
  refine lv_iconst (v := (0 : Int32)) hx hb dX1_fullNow_0 (by decide) ?_
  refine lv_istore hx hb dX1_fullNow_1 hl (by decide) rfl (fun ls hl => ?_)
  have hl : lv_has ls 7 [(5, .int (0 : Int32)), (0, .ref (Rs 100)), (1, .int p1), (2, .int p2), (3, .int p3), (4, .int p4)] := hl
  refine lv_iconst (v := (0 : Int32)) hx hb dX1_fullNow_3 (by decide) ?_
  refine lv_istore hx hb dX1_fullNow_4 hl (by decide) rfl (fun ls hl => ?_)
  have hl : lv_has ls 7 [(6, .int (0 : Int32)), (5, .int (0 : Int32)), (0, .ref (Rs 100)), (1, .int p1), (2, .int p2), (3, .int p3), (4, .int p4)] := hl
  have jn_64 : ∀ (S_1 : Sx), JX1_fullNow_n_64 S_1 p1 p2 = some o → ∀ (H : Heap) (locs : List Loc) (ls : Array Slot), cx_W g A s (sC g Rs none im S_1 ++ X) H locs → lv_has ls 7 [(0, .ref (Rs 100)), (1, .int p1), (2, .int p2), (5, .int (0 : Int32))] → W p l e rmX1_fullNow s m av below meth c H locs 0 0 Q (F0 m 64 ls []) := by
    intro S_1 hJ_64 H locs ls hw hl
    unfold JX1_fullNow_n_64 at hJ_64
    refine lv_iconst (v := (0 : Int32)) hx hb dX1_fullNow_64 (by decide) ?_
    refine lv_istore hx hb dX1_fullNow_65 hl (by decide) rfl (fun ls hl => ?_)
    have hl : lv_has ls 7 [(6, .int (0 : Int32)), (0, .ref (Rs 100)), (1, .int p1), (2, .int p2), (5, .int (0 : Int32))] := hl
    have jn_96 : ∀ (x5_2 : Int32), JX1_fullNow_n_96 S_1 p1 p2 x5_2 = some o → ∀ (H : Heap) (locs : List Loc) (ls : Array Slot), cx_W g A s (sC g Rs none im S_1 ++ X) H locs → lv_has ls 7 [(0, .ref (Rs 100)), (1, .int p1), (2, .int p2), (5, .int x5_2)] → W p l e rmX1_fullNow s m av below meth c H locs 0 0 Q (F0 m 96 ls []) := by
      intro x5_2 hJ_96 H locs ls hw hl
      unfold JX1_fullNow_n_96 at hJ_96
      refine lv_aload_n hx hb dX1_fullNow_96 rfl (lv_at hl 0 rfl) ?_
      refine lv_iload_n hx hb dX1_fullNow_97 rfl (lv_at hl 1 rfl) ?_
      refine lv_iload_n hx hb dX1_fullNow_98 rfl (lv_at hl 2 rfl) ?_
      replace hJ_96 := fx_b1_e hJ_96
      obtain ⟨_, h_3, hJ_96⟩ := hJ_96
      refine cx_cVv (ws := sC g Rs none im S_1 ++ X) (ws' := sC g Rs none im S_1 ++ X) (As := [.int p1, .int p2]) (rest := []) E (mX1_reckonsSums_n l g A Rs _ _ S_1 p1 p2 h_3) (kwX1_X1_reckonsSums E ⟨Nat.le_of_ble_eq_true rfl, Nat.le_of_ble_eq_true rfl⟩) 0 1 rfl rfl rfl hw rfl hl.1 rfl (Nat.le_of_ble_eq_true rfl) dX1_fullNow_99 ⟨Nat.le_of_ble_eq_true rfl, Nat.le_of_ble_eq_true rfl⟩ (fun H locs hw => ?_)
      refine lv_iload hx hb dX1_fullNow_102 (lv_at hl 3 rfl) ?_
      obtain rfl := Option.some.inj hJ_96
      exact hret _ _ _ _ _ rfl rfl hw dX1_fullNow_104
    replace hJ_64 := fx_b1_e hJ_64
    obtain ⟨ex_67, hL_67, hJ_64⟩ := hJ_64
    have key_67 : ∀ (n_67 : Nat) (x5_4 : Int32) (x6_5 : Int32), fx_lp (LX1_fullNow_n_67 S_1 p1) n_67 (x5_4, x6_5) = some ex_67 → ∀ (H : Heap) (locs : List Loc) (ls : Array Slot), cx_W g A s (sC g Rs none im S_1 ++ X) H locs → lv_has ls 7 [(0, .ref (Rs 100)), (1, .int p1), (2, .int p2), (5, .int x5_4), (6, .int x6_5)] → W p l e rmX1_fullNow s m av below meth c H locs 0 0 Q (F0 m 67 ls []) := by
      intro n_67
      induction n_67 with
      | zero => intro x5_4 x6_5 hL_67; exact fx_lp_0 hL_67
      | succ n_67 ih_67 =>
        intro x5_4 x6_5 hL_67 H locs ls hw hl
        replace hL_67 := fx_lp_s hL_67
        obtain ⟨o_67, hB_67, hO_67⟩ := hL_67
        unfold LX1_fullNow_n_67 at hB_67
        replace hB_67 := fx_u2_e hB_67
        refine lv_iload hx hb dX1_fullNow_67 (lv_at hl 4 rfl) ?_
        refine lv_aload_n hx hb dX1_fullNow_69 rfl (lv_at hl 0 rfl) ?_
        replace hB_67 := fx_b1_e hB_67
        obtain ⟨r_6, h_7, hB_67⟩ := hB_67
        refine cx_cVi (r := r_6) (ws := sC g Rs none im S_1 ++ X) (ws' := sC g Rs none im S_1 ++ X) (As := []) (rest := [.int x6_5]) E (mX1_data l g A Rs _ _ _ S_1 h_7) (kwX1_X1_data E ⟨Nat.le_of_ble_eq_true rfl, Nat.le_of_ble_eq_true rfl⟩) 0 1 rfl rfl rfl hw rfl hl.1 rfl (Nat.le_of_ble_eq_true rfl) dX1_fullNow_70 ⟨Nat.le_of_ble_eq_true rfl, Nat.le_of_ble_eq_true rfl⟩ (fun H locs hw => ?_)
        refine lv_iconst (v := (2 : Int32)) hx hb dX1_fullNow_73 (by decide) ?_
        refine lv_iadd hx hb dX1_fullNow_74 ?_
        refine lv_icmp_ge (tgt := 96) hx hb dX1_fullNow_75 (by decide) (fun c_8 => ?_) (fun c_8 => ?_)
        · replace hB_67 := fx_tt c_8 hB_67
          obtain rfl := fx_ex hB_67 hO_67
          exact jn_96 x5_4 hJ_64 _ _ _ hw (lv_sub hl [0, 1, 2, 3] rfl)
        · replace hB_67 := fx_ff c_8 hB_67
          refine lv_iload hx hb dX1_fullNow_78 (lv_at hl 3 rfl) ?_
          refine lv_aload_n hx hb dX1_fullNow_80 rfl (lv_at hl 0 rfl) ?_
          refine lv_iload_n hx hb dX1_fullNow_81 rfl (lv_at hl 1 rfl) ?_
          refine lv_iload hx hb dX1_fullNow_82 (lv_at hl 4 rfl) ?_
          replace hB_67 := fx_b1_e hB_67
          obtain ⟨r_9, h_10, hB_67⟩ := hB_67
          refine cx_cVi (r := r_9) (ws := sC g Rs none im S_1 ++ X) (ws' := sC g Rs none im S_1 ++ X) (As := [.int p1, .int x6_5]) (rest := [.int x5_4]) E (mX1_writeOf_n l g A Rs _ _ S_1 p1 x6_5 h_10) (kwX1_X1_writeOf E ⟨Nat.le_of_ble_eq_true rfl, Nat.le_of_ble_eq_true rfl⟩) 0 1 rfl rfl rfl hw rfl hl.1 rfl (Nat.le_of_ble_eq_true rfl) dX1_fullNow_84 ⟨Nat.le_of_ble_eq_true rfl, Nat.le_of_ble_eq_true rfl⟩ (fun H locs hw => ?_)
          refine lv_iadd hx hb dX1_fullNow_87 ?_
          refine lv_topi (fun v_11 ev_11 => ?_)
          replace hB_67 := fx_lt_e ev_11 hB_67
          refine lv_istore hx hb dX1_fullNow_88 hl (by decide) rfl (fun ls hl => ?_)
          have hl : lv_has ls 7 [(5, .int v_11), (0, .ref (Rs 100)), (1, .int p1), (2, .int p2), (6, .int x6_5)] := hl
          obtain ⟨v_12, ev_12⟩ : ∃ z : Int32, z = x6_5 + (1 : Int32) := ⟨_, rfl⟩
          replace hB_67 := fx_lt_e ev_12 hB_67
          refine cx_iinc (z := (1 : Int32)) (v := v_12) hx hb dX1_fullNow_90 hl (k := 4) rfl (by decide) ev_12 (by decide) rfl (fun ls hl => ?_)
          have hl : lv_has ls 7 [(6, .int v_12), (5, .int v_11), (0, .ref (Rs 100)), (1, .int p1), (2, .int p2)] := hl
          refine lv_goto (tgt := 67) hx hb dX1_fullNow_93 (by decide) ?_
          exact ih_67 v_11 v_12 (fx_bk hB_67 hO_67) _ _ _ hw (lv_sub hl [2, 3, 4, 1, 0] rfl)
    exact key_67 _ (0 : Int32) (0 : Int32) hL_67 _ _ _ hw (lv_sub hl [1, 2, 3, 4, 0] rfl)
  replace hF := fx_b1_e hF
  obtain ⟨ex_6, hL_6, hF⟩ := hF
  have key_6 : ∀ (n_6 : Nat) (S_14 : Sx) (x6_15 : Int32), fx_lp (LX1_fullNow_n_6 p3 p4 p1 p2) n_6 (S_14, x6_15) = some ex_6 → ∀ (H : Heap) (locs : List Loc) (ls : Array Slot), cx_W g A s (sC g Rs none im S_14 ++ X) H locs → lv_has ls 7 [(0, .ref (Rs 100)), (1, .int p1), (2, .int p2), (3, .int p3), (4, .int p4), (5, .int (0 : Int32)), (6, .int x6_15)] → W p l e rmX1_fullNow s m av below meth c H locs 0 0 Q (F0 m 6 ls []) := by
    intro n_6
    induction n_6 with
    | zero => intro S_14 x6_15 hL_6; exact fx_lp_0 hL_6
    | succ n_6 ih_6 =>
      intro S_14 x6_15 hL_6 H locs ls hw hl
      replace hL_6 := fx_lp_s hL_6
      obtain ⟨o_6, hB_6, hO_6⟩ := hL_6
      unfold LX1_fullNow_n_6 at hB_6
      replace hB_6 := fx_u2_e hB_6
      refine lv_iload hx hb dX1_fullNow_6 (lv_at hl 6 rfl) ?_
      refine lv_aload_n hx hb dX1_fullNow_8 rfl (lv_at hl 0 rfl) ?_
      replace hB_6 := fx_b1_e hB_6
      obtain ⟨r_16, h_17, hB_6⟩ := hB_6
      refine cx_cVi (r := r_16) (ws := sC g Rs none im S_14 ++ X) (ws' := sC g Rs none im S_14 ++ X) (As := []) (rest := [.int x6_15]) E (mX1_data l g A Rs _ _ _ S_14 h_17) (kwX1_X1_data E ⟨Nat.le_of_ble_eq_true rfl, Nat.le_of_ble_eq_true rfl⟩) 0 1 rfl rfl rfl hw rfl hl.1 rfl (Nat.le_of_ble_eq_true rfl) dX1_fullNow_9 ⟨Nat.le_of_ble_eq_true rfl, Nat.le_of_ble_eq_true rfl⟩ (fun H locs hw => ?_)
      refine lv_icmp_ge (tgt := 64) hx hb dX1_fullNow_12 (by decide) (fun c_18 => ?_) (fun c_18 => ?_)
      · replace hB_6 := fx_tt c_18 hB_6
        obtain rfl := fx_ex hB_6 hO_6
        exact jn_64 S_14 hF _ _ _ hw (lv_sub hl [0, 1, 2, 5] rfl)
      · replace hB_6 := fx_ff c_18 hB_6
        refine lv_aload_n hx hb dX1_fullNow_15 rfl (lv_at hl 0 rfl) ?_
        refine gX1_27 E hw dX1_fullNow_16 ?_
        refine lv_iload hx hb dX1_fullNow_19 (lv_at hl 6 rfl) ?_
        refine lv_iload_n hx hb dX1_fullNow_21 rfl (lv_at hl 3 rfl) ?_
        refine lv_iload hx hb dX1_fullNow_22 (lv_at hl 6 rfl) ?_
        refine lv_iload hx hb dX1_fullNow_24 (lv_at hl 4 rfl) ?_
        refine lv_imul hx hb dX1_fullNow_26 ?_
        refine lv_iadd hx hb dX1_fullNow_27 ?_
        refine lv_sipush (v := (256 : Int32)) hx hb dX1_fullNow_28 (by decide) ?_
        refine lv_irem hx hb dX1_fullNow_31 (by decide) ?_
        replace hB_6 := fx_gd_e hB_6
        obtain ⟨h_19, hB_6⟩ := hB_6
        obtain ⟨S_20, eS_20⟩ : ∃ z : Sx, z = px_A S_14 27 (upd (gx_A S_14 27) x6_15.toNatClampNeg ((p3 + (x6_15 * p4)) - (p3 + (x6_15 * p4)) / (256 : Int32) * (256 : Int32))) := ⟨_, rfl⟩
        replace hB_6 := fx_lt_e eS_20 hB_6
        refine rsX1_27 eS_20 E hw (fx_in_e h_19) dX1_fullNow_32 (fun H locs hw => ?_)
        refine lv_aload_n hx hb dX1_fullNow_33 rfl (lv_at hl 0 rfl) ?_
        refine lv_iload_n hx hb dX1_fullNow_34 rfl (lv_at hl 1 rfl) ?_
        refine lv_iload hx hb dX1_fullNow_35 (lv_at hl 6 rfl) ?_
        replace hB_6 := fx_b1_e hB_6
        obtain ⟨r_21, h_22, hB_6⟩ := hB_6
        refine cx_cVi (r := r_21) (ws := sC g Rs none im S_20 ++ X) (ws' := sC g Rs none im S_20 ++ X) (As := [.int p1, .int x6_15]) (rest := []) E (mX1_isThere_n l g A Rs _ _ S_20 p1 x6_15 h_22) (kwX1_X1_isThere E ⟨Nat.le_of_ble_eq_true rfl, Nat.le_of_ble_eq_true rfl⟩) 0 1 rfl rfl rfl hw rfl hl.1 rfl (Nat.le_of_ble_eq_true rfl) dX1_fullNow_37 ⟨Nat.le_of_ble_eq_true rfl, Nat.le_of_ble_eq_true rfl⟩ (fun H locs hw => ?_)
        have jn_58 : JX1_fullNow_n_58 x6_15 S_20 = some o_6 → ∀ (H : Heap) (locs : List Loc) (ls : Array Slot), cx_W g A s (sC g Rs none im S_20 ++ X) H locs → lv_has ls 7 [(0, .ref (Rs 100)), (1, .int p1), (2, .int p2), (3, .int p3), (4, .int p4), (5, .int (0 : Int32)), (6, .int x6_15)] → W p l e rmX1_fullNow s m av below meth c H locs 0 0 Q (F0 m 58 ls []) := by
          intro  hJ_58 H locs ls hw hl
          unfold JX1_fullNow_n_58 at hJ_58
          obtain ⟨v_23, ev_23⟩ : ∃ z : Int32, z = x6_15 + (1 : Int32) := ⟨_, rfl⟩
          replace hJ_58 := fx_lt_e ev_23 hJ_58
          refine cx_iinc (z := (1 : Int32)) (v := v_23) hx hb dX1_fullNow_58 hl (k := 6) rfl (by decide) ev_23 (by decide) rfl (fun ls hl => ?_)
          have hl : lv_has ls 7 [(6, .int v_23), (0, .ref (Rs 100)), (1, .int p1), (2, .int p2), (3, .int p3), (4, .int p4), (5, .int (0 : Int32))] := hl
          refine lv_goto (tgt := 6) hx hb dX1_fullNow_61 (by decide) ?_
          exact ih_6 S_20 v_23 (fx_bk hJ_58 hO_6) _ _ _ hw (lv_sub hl [1, 2, 3, 4, 5, 6, 0] rfl)
        refine lv_if_eq (tgt := 58) hx hb dX1_fullNow_40 (by decide) (fun c_24 => ?_) (fun c_24 => ?_)
        · replace hB_6 := fx_tt c_24 hB_6
          exact jn_58  hB_6 _ _ _ hw hl
        · replace hB_6 := fx_ff c_24 hB_6
          refine lv_aload_n hx hb dX1_fullNow_43 rfl (lv_at hl 0 rfl) ?_
          refine lv_iload_n hx hb dX1_fullNow_44 rfl (lv_at hl 1 rfl) ?_
          refine lv_iload hx hb dX1_fullNow_45 (lv_at hl 6 rfl) ?_
          refine lv_iload_n hx hb dX1_fullNow_47 rfl (lv_at hl 2 rfl) ?_
          refine lv_aload_n hx hb dX1_fullNow_48 rfl (lv_at hl 0 rfl) ?_
          refine gX1_27 E hw dX1_fullNow_49 ?_
          refine lv_iload hx hb dX1_fullNow_52 (lv_at hl 6 rfl) ?_
          replace hB_6 := fx_gd_e hB_6
          obtain ⟨h_25, hB_6⟩ := hB_6
          refine raX1_27 E hw (fx_in_e h_25) dX1_fullNow_54 ?_
          replace hB_6 := fx_b1_e hB_6
          obtain ⟨_, h_26, hB_6⟩ := hB_6
          refine cx_cVv (ws := sC g Rs none im S_20 ++ X) (ws' := sC g Rs none im S_20 ++ X) (As := [.int p1, .int x6_15, .int p2, .int (gx_A S_20 27 x6_15.toNatClampNeg)]) (rest := []) E (mX1_put_n l g A Rs _ _ S_20 p1 x6_15 p2 (gx_A S_20 27 x6_15.toNatClampNeg) h_26) (kwX1_X1_put E ⟨Nat.le_of_ble_eq_true rfl, Nat.le_of_ble_eq_true rfl⟩) 0 1 rfl rfl rfl hw rfl hl.1 rfl (Nat.le_of_ble_eq_true rfl) dX1_fullNow_55 ⟨Nat.le_of_ble_eq_true rfl, Nat.le_of_ble_eq_true rfl⟩ (fun H locs hw => ?_)
          exact jn_58  hB_6 _ _ _ hw hl
  exact key_6 _ S (0 : Int32) hL_6 _ _ _ hw (lv_sub hl [2, 3, 4, 5, 6, 1, 0] rfl)
/-! draw(I)I -/
def FX1_draw (S : Sx) (p1 : Int32) : Option (Int32 × Sx) :=
  fx_lt (px_J S (((gx_J S) * (6364136223846793005 : Int64)) + (1442695040888963407 : Int64))) (fun S_1 => fx_gd (fx_nzl (p1.toInt64)) (some (((((((gx_J S_1)).toUInt64 >>> (((33 : Int32)).toInt64.toUInt64 &&& Int64.toUInt64 63)).toInt64) - ((((gx_J S_1)).toUInt64 >>> (((33 : Int32)).toInt64.toUInt64 &&& Int64.toUInt64 63)).toInt64) / (p1.toInt64) * (p1.toInt64)).toInt32), S_1)))
set_option maxHeartbeats 4000000 in
set_option maxRecDepth 100000 in
theorem mX1_draw (l : Launch) (g : Gx) (A : Nat → Prop) (Rs : Nat → Nat) (nw im : Option Nat) (X : va_W) (S : Sx) (p1 : Int32) {o : Int32 × Sx} (hF : FX1_draw S p1 = some o) :
    cx_i l yX1_draw cX1_draw 2 .int rmX1_draw [.ref (Rs 100), .int p1] g A (sC g Rs nw im S ++ X) o.1 (sC g Rs nw im o.2 ++ X) 0 0 := by
  refine cx_i_of (by decide) (Nat.le_of_ble_eq_true rfl) ?_
  intro p e s m av below meth c Q E hret H hw ls hl
  have E : cx_E p m meth c cX1_draw 2 s av RX1 g A := E
  have hx := E.1.1
  have hb := E.1.2.1
  have hl : lv_has ls 2 [(0, .ref (Rs 100)), (1, .int p1)] := hl
  generalize hlc : ([] : List Loc) = locs at hw ⊢
  clear hlc
  unfold FX1_draw at hF
  refine lv_aload_n hx hb dX1_draw_0 rfl (lv_at hl 0 rfl) ?_
  refine lv_aload_n hx hb dX1_draw_1 rfl (lv_at hl 0 rfl) ?_
  refine gX1_31 E hw dX1_draw_2 ?_
  refine lv_ldc2 (own := RX1) (v := (6364136223846793005 : Int64)) hx hb E.1.2.2.2.1 (E.1.2.2.2.2 _ q822) dX1_draw_5 ?_
  refine lv_lmul hx hb dX1_draw_8 ?_
  refine lv_ldc2 (own := RX1) (v := (1442695040888963407 : Int64)) hx hb E.1.2.2.2.1 (E.1.2.2.2.2 _ q823) dX1_draw_9 ?_
  refine lv_ladd hx hb dX1_draw_12 ?_
  obtain ⟨S_1, eS_1⟩ : ∃ z : Sx, z = px_J S (((gx_J S) * (6364136223846793005 : Int64)) + (1442695040888963407 : Int64)) := ⟨_, rfl⟩
  replace hF := fx_lt_e eS_1 hF
  refine pX1_31 eS_1 E hw dX1_draw_13 (fun H locs hw => ?_)
  refine lv_aload_n hx hb dX1_draw_16 rfl (lv_at hl 0 rfl) ?_
  refine gX1_31 E hw dX1_draw_17 ?_
  refine lv_bipush (v := (33 : Int32)) hx hb dX1_draw_20 (by decide) ?_
  refine lv_lushr (v := (((gx_J S_1)).toUInt64 >>> (((33 : Int32)).toInt64.toUInt64 &&& Int64.toUInt64 63)).toInt64) hx hb dX1_draw_22 rfl ?_
  refine lv_iload_n hx hb dX1_draw_23 rfl (lv_at hl 1 rfl) ?_
  refine lv_i2l hx hb dX1_draw_24 rfl ?_
  replace hF := fx_gd_e hF
  obtain ⟨h_2, hF⟩ := hF
  refine lv_lrem hx hb dX1_draw_25 (fx_nzl_e h_2) ?_
  refine lv_l2i hx hb dX1_draw_26 rfl ?_
  obtain rfl := Option.some.inj hF
  exact hret _ _ _ _ _ rfl rfl hw dX1_draw_27
/-! status(I)I -/
def FX1_status (S : Sx) (p1 : Int32) : Option Int32 :=
  fx_b1 (FX1_in p1 (0 : Int32) (3 : Int32)) (fun r_1 => if r_1 = 0 then (some (-1 : Int32)) else (fx_gd (fx_in p1 4) (some (gx_A S 22 p1.toNatClampNeg))))
set_option maxHeartbeats 4000000 in
set_option maxRecDepth 100000 in
theorem mX1_status (l : Launch) (g : Gx) (A : Nat → Prop) (Rs : Nat → Nat) (nw im : Option Nat) (X : va_W) (S : Sx) (p1 : Int32) {o : Int32} (hF : FX1_status S p1 = some o) :
    cx_i l yX1_status cX1_status 2 .int rmX1_status [.ref (Rs 100), .int p1] g A (sC g Rs nw im S ++ X) o (sC g Rs nw im S ++ X) 0 0 := by
  refine cx_i_of (by decide) (Nat.le_of_ble_eq_true rfl) ?_
  intro p e s m av below meth c Q E hret H hw ls hl
  have E : cx_E p m meth c cX1_status 2 s av RX1 g A := E
  have hx := E.1.1
  have hb := E.1.2.1
  have hl : lv_has ls 2 [(0, .ref (Rs 100)), (1, .int p1)] := hl
  generalize hlc : ([] : List Loc) = locs at hw ⊢
  clear hlc
  unfold FX1_status at hF
  refine lv_iload_n hx hb dX1_status_0 rfl (lv_at hl 1 rfl) ?_
  refine lv_iconst (v := (0 : Int32)) hx hb dX1_status_1 (by decide) ?_
  refine lv_iconst (v := (3 : Int32)) hx hb dX1_status_2 (by decide) ?_
  replace hF := fx_b1_e hF
  obtain ⟨r_1, h_2, hF⟩ := hF
  refine cx_cSi (r := r_1) (ws := sC g Rs nw im S ++ X) (ws' := sC g Rs nw im S ++ X) (As := [.int p1, .int (0 : Int32), .int (3 : Int32)]) (rest := []) E (mX1_in l g A (sC g Rs nw im S ++ X) p1 (0 : Int32) (3 : Int32) h_2) (kwX1_X1_in E ⟨Nat.le_of_ble_eq_true rfl, Nat.le_of_ble_eq_true rfl⟩) hw rfl hl.1 rfl (Nat.le_of_ble_eq_true rfl) dX1_status_3 ⟨Nat.le_of_ble_eq_true rfl, Nat.le_of_ble_eq_true rfl⟩ (fun H locs hw => ?_)
  refine lv_if_eq (tgt := 18) hx hb dX1_status_6 (by decide) (fun c_3 => ?_) (fun c_3 => ?_)
  · replace hF := fx_tt c_3 hF
    refine lv_iconst (v := (-1 : Int32)) hx hb dX1_status_18 (by decide) ?_
    obtain rfl := Option.some.inj hF
    exact hret _ _ _ _ _ rfl rfl hw dX1_status_19
  · replace hF := fx_ff c_3 hF
    refine lv_aload_n hx hb dX1_status_9 rfl (lv_at hl 0 rfl) ?_
    refine gX1_22 E hw dX1_status_10 ?_
    refine lv_iload_n hx hb dX1_status_13 rfl (lv_at hl 1 rfl) ?_
    replace hF := fx_gd_e hF
    obtain ⟨h_4, hF⟩ := hF
    refine raX1_22 E hw (fx_in_e h_4) dX1_status_14 ?_
    refine lv_goto (tgt := 19) hx hb dX1_status_15 (by decide) ?_
    obtain rfl := Option.some.inj hF
    exact hret _ _ _ _ _ rfl rfl hw dX1_status_19
/-! rule(I)I -/
def FX1_rule_s (S : Sx) (N : Sx) (p1 : Int32) : Option Int32 :=
  fx_b1 (FX1_in p1 (0 : Int32) (6 : Int32)) (fun r_3 => if r_3 = 0 then (some (-1 : Int32)) else (if p1 = (4 : Int32) then (some (gx_I N 7)) else (if p1 = (5 : Int32) then (fx_b1 (FX1_disks S) (fun r_12 => some r_12)) else (if p1 = (6 : Int32) then (fx_b1 (FX1_addresses S) (fun r_10 => some r_10)) else (fx_gd (fx_in p1 5) (some (gx_A S 6 p1.toNatClampNeg)))))))
set_option maxHeartbeats 4000000 in
set_option maxRecDepth 100000 in
theorem mX1_rule_s (l : Launch) (g : Gx) (A : Nat → Prop) (Rs Rn : Nat → Nat) (im : Option Nat) (X : va_W) (S : Sx) (N : Sx) (p1 : Int32) {o : Int32} (hF : FX1_rule_s S N p1 = some o) :
    cx_i l yX1_rule cX1_rule 2 .int rmX1_rule [.ref (Rs 100), .int p1] g A (sC g Rs (some (Rn 100)) im S ++ (stC g Rn N ++ X)) o (sC g Rs (some (Rn 100)) im S ++ (stC g Rn N ++ X)) 0 0 := by
  refine cx_i_of (by decide) (Nat.le_of_ble_eq_true rfl) ?_
  intro p e s m av below meth c Q E hret H hw ls hl
  have E : cx_E p m meth c cX1_rule 2 s av RX1 g A := E
  have hx := E.1.1
  have hb := E.1.2.1
  have hl : lv_has ls 2 [(0, .ref (Rs 100)), (1, .int p1)] := hl
  generalize hlc : ([] : List Loc) = locs at hw ⊢
  clear hlc
  unfold FX1_rule_s at hF
  refine lv_aload_n hx hb dX1_rule_0 rfl (lv_at hl 0 rfl) ?_
  refine cx_cVi (r := (1 : Int32)) (ws := sC g Rs (some (Rn 100)) im S ++ (stC g Rn N ++ X)) (ws' := sC g Rs (some (Rn 100)) im S ++ (stC g Rn N ++ X)) (As := []) (rest := []) E (mX1_isShelf_s l g A Rs Rn _ _ S N (o := (1 : Int32)) rfl) (kwX1_X1_isShelf E ⟨Nat.le_of_ble_eq_true rfl, Nat.le_of_ble_eq_true rfl⟩) 0 1 rfl rfl rfl hw rfl hl.1 rfl (Nat.le_of_ble_eq_true rfl) dX1_rule_1 ⟨Nat.le_of_ble_eq_true rfl, Nat.le_of_ble_eq_true rfl⟩ (fun H locs hw => ?_)
  refine lv_if_eq (tgt := 17) hx hb dX1_rule_4 (by decide) (fun c_ => absurd c_ (by decide)) (fun _ => ?_)
  refine lv_iload_n hx hb dX1_rule_7 rfl (lv_at hl 1 rfl) ?_
  refine lv_iconst (v := (0 : Int32)) hx hb dX1_rule_8 (by decide) ?_
  refine lv_bipush (v := (6 : Int32)) hx hb dX1_rule_9 (by decide) ?_
  replace hF := fx_b1_e hF
  obtain ⟨r_3, h_4, hF⟩ := hF
  refine cx_cSi (r := r_3) (ws := sC g Rs (some (Rn 100)) im S ++ (stC g Rn N ++ X)) (ws' := sC g Rs (some (Rn 100)) im S ++ (stC g Rn N ++ X)) (As := [.int p1, .int (0 : Int32), .int (6 : Int32)]) (rest := []) E (mX1_in l g A (sC g Rs (some (Rn 100)) im S ++ (stC g Rn N ++ X)) p1 (0 : Int32) (6 : Int32) h_4) (kwX1_X1_in E ⟨Nat.le_of_ble_eq_true rfl, Nat.le_of_ble_eq_true rfl⟩) hw rfl hl.1 rfl (Nat.le_of_ble_eq_true rfl) dX1_rule_11 ⟨Nat.le_of_ble_eq_true rfl, Nat.le_of_ble_eq_true rfl⟩ (fun H locs hw => ?_)
  refine lv_if_ne (tgt := 19) hx hb dX1_rule_14 (by decide) (fun c_5 => ?_) (fun c_5 => ?_)
  · replace hF := fx_ff c_5 hF
    refine lv_iload_n hx hb dX1_rule_19 rfl (lv_at hl 1 rfl) ?_
    refine lv_iconst (v := (4 : Int32)) hx hb dX1_rule_20 (by decide) ?_
    refine lv_icmp_ne (tgt := 34) hx hb dX1_rule_21 (by decide) (fun c_6 => ?_) (fun c_6 => ?_)
    · replace hF := fx_ff c_6 hF
      refine lv_iload_n hx hb dX1_rule_34 rfl (lv_at hl 1 rfl) ?_
      refine lv_iconst (v := (5 : Int32)) hx hb dX1_rule_35 (by decide) ?_
      refine lv_icmp_ne (tgt := 46) hx hb dX1_rule_36 (by decide) (fun c_7 => ?_) (fun c_7 => ?_)
      · replace hF := fx_ff c_7 hF
        refine lv_iload_n hx hb dX1_rule_46 rfl (lv_at hl 1 rfl) ?_
        refine lv_bipush (v := (6 : Int32)) hx hb dX1_rule_47 (by decide) ?_
        refine lv_icmp_ne (tgt := 59) hx hb dX1_rule_49 (by decide) (fun c_8 => ?_) (fun c_8 => ?_)
        · replace hF := fx_ff c_8 hF
          refine lv_aload_n hx hb dX1_rule_59 rfl (lv_at hl 0 rfl) ?_
          refine gX1_6 E hw dX1_rule_60 ?_
          refine lv_iload_n hx hb dX1_rule_63 rfl (lv_at hl 1 rfl) ?_
          replace hF := fx_gd_e hF
          obtain ⟨h_9, hF⟩ := hF
          refine raX1_6 E hw (fx_in_e h_9) dX1_rule_64 ?_
          obtain rfl := Option.some.inj hF
          exact hret _ _ _ _ _ rfl rfl hw dX1_rule_65
        · replace hF := fx_tt c_8 hF
          refine lv_aload_n hx hb dX1_rule_52 rfl (lv_at hl 0 rfl) ?_
          replace hF := fx_b1_e hF
          obtain ⟨r_10, h_11, hF⟩ := hF
          refine cx_cVi (r := r_10) (ws := sC g Rs (some (Rn 100)) im S ++ (stC g Rn N ++ X)) (ws' := sC g Rs (some (Rn 100)) im S ++ (stC g Rn N ++ X)) (As := []) (rest := []) E (mX1_addresses l g A Rs _ _ _ S h_11) (kwX1_X1_addresses E ⟨Nat.le_of_ble_eq_true rfl, Nat.le_of_ble_eq_true rfl⟩) 0 1 rfl rfl rfl hw rfl hl.1 rfl (Nat.le_of_ble_eq_true rfl) dX1_rule_53 ⟨Nat.le_of_ble_eq_true rfl, Nat.le_of_ble_eq_true rfl⟩ (fun H locs hw => ?_)
          refine lv_goto (tgt := 65) hx hb dX1_rule_56 (by decide) ?_
          obtain rfl := Option.some.inj hF
          exact hret _ _ _ _ _ rfl rfl hw dX1_rule_65
      · replace hF := fx_tt c_7 hF
        refine lv_aload_n hx hb dX1_rule_39 rfl (lv_at hl 0 rfl) ?_
        replace hF := fx_b1_e hF
        obtain ⟨r_12, h_13, hF⟩ := hF
        refine cx_cVi (r := r_12) (ws := sC g Rs (some (Rn 100)) im S ++ (stC g Rn N ++ X)) (ws' := sC g Rs (some (Rn 100)) im S ++ (stC g Rn N ++ X)) (As := []) (rest := []) E (mX1_disks l g A Rs _ _ _ S h_13) (kwX1_X1_disks E ⟨Nat.le_of_ble_eq_true rfl, Nat.le_of_ble_eq_true rfl⟩) 0 1 rfl rfl rfl hw rfl hl.1 rfl (Nat.le_of_ble_eq_true rfl) dX1_rule_40 ⟨Nat.le_of_ble_eq_true rfl, Nat.le_of_ble_eq_true rfl⟩ (fun H locs hw => ?_)
        refine lv_goto (tgt := 65) hx hb dX1_rule_43 (by decide) ?_
        obtain rfl := Option.some.inj hF
        exact hret _ _ _ _ _ rfl rfl hw dX1_rule_65
    · replace hF := fx_tt c_6 hF
      refine lv_aload_n hx hb dX1_rule_24 rfl (lv_at hl 0 rfl) ?_
      refine gX1_19s E hw dX1_rule_25 ?_
      refine gNX7_7 E hw dX1_rule_28 ?_
      refine lv_goto (tgt := 65) hx hb dX1_rule_31 (by decide) ?_
      obtain rfl := Option.some.inj hF
      exact hret _ _ _ _ _ rfl rfl hw dX1_rule_65
  · replace hF := fx_tt c_5 hF
    refine lv_iconst (v := (-1 : Int32)) hx hb dX1_rule_17 (by decide) ?_
    obtain rfl := Option.some.inj hF
    exact hret _ _ _ _ _ rfl rfl hw dX1_rule_18
/-! rule(I)I -/
def FX1_rule_n (S : Sx) (p1 : Int32) : Option Int32 :=
  some (-1 : Int32)
set_option maxHeartbeats 4000000 in
set_option maxRecDepth 100000 in
theorem mX1_rule_n (l : Launch) (g : Gx) (A : Nat → Prop) (Rs : Nat → Nat) (im : Option Nat) (X : va_W) (S : Sx) (p1 : Int32) {o : Int32} (hF : FX1_rule_n S p1 = some o) :
    cx_i l yX1_rule cX1_rule 2 .int rmX1_rule [.ref (Rs 100), .int p1] g A (sC g Rs none im S ++ X) o (sC g Rs none im S ++ X) 0 0 := by
  refine cx_i_of (by decide) (Nat.le_of_ble_eq_true rfl) ?_
  intro p e s m av below meth c Q E hret H hw ls hl
  have E : cx_E p m meth c cX1_rule 2 s av RX1 g A := E
  have hx := E.1.1
  have hb := E.1.2.1
  have hl : lv_has ls 2 [(0, .ref (Rs 100)), (1, .int p1)] := hl
  generalize hlc : ([] : List Loc) = locs at hw ⊢
  clear hlc
  unfold FX1_rule_n at hF
  refine lv_aload_n hx hb dX1_rule_0 rfl (lv_at hl 0 rfl) ?_
  refine cx_cVi (r := (0 : Int32)) (ws := sC g Rs none im S ++ X) (ws' := sC g Rs none im S ++ X) (As := []) (rest := []) E (mX1_isShelf_n l g A Rs _ _ S (o := (0 : Int32)) rfl) (kwX1_X1_isShelf E ⟨Nat.le_of_ble_eq_true rfl, Nat.le_of_ble_eq_true rfl⟩) 0 1 rfl rfl rfl hw rfl hl.1 rfl (Nat.le_of_ble_eq_true rfl) dX1_rule_1 ⟨Nat.le_of_ble_eq_true rfl, Nat.le_of_ble_eq_true rfl⟩ (fun H locs hw => ?_)
  refine lv_if_eq (tgt := 17) hx hb dX1_rule_4 (by decide) (fun _ => ?_) (fun c_ => absurd c_ (by decide))
  refine lv_iconst (v := (-1 : Int32)) hx hb dX1_rule_17 (by decide) ?_
  obtain rfl := Option.some.inj hF
  exact hret _ _ _ _ _ rfl rfl hw dX1_rule_18
/-! areBytes(II)Z -/
def FX1_areBytes_s (S : Sx) (N : Sx) (p1 : Int32) (p2 : Int32) : Option Int32 :=
  fx_b1 (FX1_in p1 (0 : Int32) (255 : Int32)) (fun r_3 => if r_3 = 0 then (some (0 : Int32)) else (fx_b1 (FX1_in p2 (0 : Int32) (255 : Int32)) (fun r_6 => if r_6 = 0 then (some (0 : Int32)) else (some (1 : Int32)))))
set_option maxHeartbeats 4000000 in
set_option maxRecDepth 100000 in
theorem mX1_areBytes_s (l : Launch) (g : Gx) (A : Nat → Prop) (Rs Rn : Nat → Nat) (im : Option Nat) (X : va_W) (S : Sx) (N : Sx) (p1 : Int32) (p2 : Int32) {o : Int32} (hF : FX1_areBytes_s S N p1 p2 = some o) :
    cx_i l yX1_areBytes cX1_areBytes 3 .boolean rmX1_areBytes [.ref (Rs 100), .int p1, .int p2] g A (sC g Rs (some (Rn 100)) im S ++ (stC g Rn N ++ X)) o (sC g Rs (some (Rn 100)) im S ++ (stC g Rn N ++ X)) 0 0 := by
  refine cx_i_of (by decide) (Nat.le_of_ble_eq_true rfl) ?_
  intro p e s m av below meth c Q E hret H hw ls hl
  have E : cx_E p m meth c cX1_areBytes 3 s av RX1 g A := E
  have hx := E.1.1
  have hb := E.1.2.1
  have hl : lv_has ls 3 [(0, .ref (Rs 100)), (1, .int p1), (2, .int p2)] := hl
  generalize hlc : ([] : List Loc) = locs at hw ⊢
  clear hlc
  unfold FX1_areBytes_s at hF
  refine lv_aload_n hx hb dX1_areBytes_0 rfl (lv_at hl 0 rfl) ?_
  refine cx_cVi (r := (1 : Int32)) (ws := sC g Rs (some (Rn 100)) im S ++ (stC g Rn N ++ X)) (ws' := sC g Rs (some (Rn 100)) im S ++ (stC g Rn N ++ X)) (As := []) (rest := []) E (mX1_isShelf_s l g A Rs Rn _ _ S N (o := (1 : Int32)) rfl) (kwX1_X1_isShelf E ⟨Nat.le_of_ble_eq_true rfl, Nat.le_of_ble_eq_true rfl⟩) 0 1 rfl rfl rfl hw rfl hl.1 rfl (Nat.le_of_ble_eq_true rfl) dX1_areBytes_1 ⟨Nat.le_of_ble_eq_true rfl, Nat.le_of_ble_eq_true rfl⟩ (fun H locs hw => ?_)
  refine lv_if_eq (tgt := 33) hx hb dX1_areBytes_4 (by decide) (fun c_ => absurd c_ (by decide)) (fun _ => ?_)
  refine lv_iload_n hx hb dX1_areBytes_7 rfl (lv_at hl 1 rfl) ?_
  refine lv_iconst (v := (0 : Int32)) hx hb dX1_areBytes_8 (by decide) ?_
  refine lv_sipush (v := (255 : Int32)) hx hb dX1_areBytes_9 (by decide) ?_
  replace hF := fx_b1_e hF
  obtain ⟨r_3, h_4, hF⟩ := hF
  refine cx_cSi (r := r_3) (ws := sC g Rs (some (Rn 100)) im S ++ (stC g Rn N ++ X)) (ws' := sC g Rs (some (Rn 100)) im S ++ (stC g Rn N ++ X)) (As := [.int p1, .int (0 : Int32), .int (255 : Int32)]) (rest := []) E (mX1_in l g A (sC g Rs (some (Rn 100)) im S ++ (stC g Rn N ++ X)) p1 (0 : Int32) (255 : Int32) h_4) (kwX1_X1_in E ⟨Nat.le_of_ble_eq_true rfl, Nat.le_of_ble_eq_true rfl⟩) hw rfl hl.1 rfl (Nat.le_of_ble_eq_true rfl) dX1_areBytes_12 ⟨Nat.le_of_ble_eq_true rfl, Nat.le_of_ble_eq_true rfl⟩ (fun H locs hw => ?_)
  refine lv_if_eq (tgt := 33) hx hb dX1_areBytes_15 (by decide) (fun c_5 => ?_) (fun c_5 => ?_)
  · replace hF := fx_tt c_5 hF
    refine lv_iconst (v := (0 : Int32)) hx hb dX1_areBytes_33 (by decide) ?_
    obtain rfl := Option.some.inj hF
    exact hret _ _ _ _ _ rfl (by decide) hw dX1_areBytes_34
  · replace hF := fx_ff c_5 hF
    refine lv_iload_n hx hb dX1_areBytes_18 rfl (lv_at hl 2 rfl) ?_
    refine lv_iconst (v := (0 : Int32)) hx hb dX1_areBytes_19 (by decide) ?_
    refine lv_sipush (v := (255 : Int32)) hx hb dX1_areBytes_20 (by decide) ?_
    replace hF := fx_b1_e hF
    obtain ⟨r_6, h_7, hF⟩ := hF
    refine cx_cSi (r := r_6) (ws := sC g Rs (some (Rn 100)) im S ++ (stC g Rn N ++ X)) (ws' := sC g Rs (some (Rn 100)) im S ++ (stC g Rn N ++ X)) (As := [.int p2, .int (0 : Int32), .int (255 : Int32)]) (rest := []) E (mX1_in l g A (sC g Rs (some (Rn 100)) im S ++ (stC g Rn N ++ X)) p2 (0 : Int32) (255 : Int32) h_7) (kwX1_X1_in E ⟨Nat.le_of_ble_eq_true rfl, Nat.le_of_ble_eq_true rfl⟩) hw rfl hl.1 rfl (Nat.le_of_ble_eq_true rfl) dX1_areBytes_23 ⟨Nat.le_of_ble_eq_true rfl, Nat.le_of_ble_eq_true rfl⟩ (fun H locs hw => ?_)
    refine lv_if_eq (tgt := 33) hx hb dX1_areBytes_26 (by decide) (fun c_8 => ?_) (fun c_8 => ?_)
    · replace hF := fx_tt c_8 hF
      refine lv_iconst (v := (0 : Int32)) hx hb dX1_areBytes_33 (by decide) ?_
      obtain rfl := Option.some.inj hF
      exact hret _ _ _ _ _ rfl (by decide) hw dX1_areBytes_34
    · replace hF := fx_ff c_8 hF
      refine lv_iconst (v := (1 : Int32)) hx hb dX1_areBytes_29 (by decide) ?_
      refine lv_goto (tgt := 34) hx hb dX1_areBytes_30 (by decide) ?_
      obtain rfl := Option.some.inj hF
      exact hret _ _ _ _ _ rfl (by decide) hw dX1_areBytes_34
/-! areBytes(II)Z -/
def FX1_areBytes_n (S : Sx) (p1 : Int32) (p2 : Int32) : Option Int32 :=
  some (0 : Int32)
set_option maxHeartbeats 4000000 in
set_option maxRecDepth 100000 in
theorem mX1_areBytes_n (l : Launch) (g : Gx) (A : Nat → Prop) (Rs : Nat → Nat) (im : Option Nat) (X : va_W) (S : Sx) (p1 : Int32) (p2 : Int32) {o : Int32} (hF : FX1_areBytes_n S p1 p2 = some o) :
    cx_i l yX1_areBytes cX1_areBytes 3 .boolean rmX1_areBytes [.ref (Rs 100), .int p1, .int p2] g A (sC g Rs none im S ++ X) o (sC g Rs none im S ++ X) 0 0 := by
  refine cx_i_of (by decide) (Nat.le_of_ble_eq_true rfl) ?_
  intro p e s m av below meth c Q E hret H hw ls hl
  have E : cx_E p m meth c cX1_areBytes 3 s av RX1 g A := E
  have hx := E.1.1
  have hb := E.1.2.1
  have hl : lv_has ls 3 [(0, .ref (Rs 100)), (1, .int p1), (2, .int p2)] := hl
  generalize hlc : ([] : List Loc) = locs at hw ⊢
  clear hlc
  unfold FX1_areBytes_n at hF
  refine lv_aload_n hx hb dX1_areBytes_0 rfl (lv_at hl 0 rfl) ?_
  refine cx_cVi (r := (0 : Int32)) (ws := sC g Rs none im S ++ X) (ws' := sC g Rs none im S ++ X) (As := []) (rest := []) E (mX1_isShelf_n l g A Rs _ _ S (o := (0 : Int32)) rfl) (kwX1_X1_isShelf E ⟨Nat.le_of_ble_eq_true rfl, Nat.le_of_ble_eq_true rfl⟩) 0 1 rfl rfl rfl hw rfl hl.1 rfl (Nat.le_of_ble_eq_true rfl) dX1_areBytes_1 ⟨Nat.le_of_ble_eq_true rfl, Nat.le_of_ble_eq_true rfl⟩ (fun H locs hw => ?_)
  refine lv_if_eq (tgt := 33) hx hb dX1_areBytes_4 (by decide) (fun _ => ?_) (fun c_ => absurd c_ (by decide))
  refine lv_iconst (v := (0 : Int32)) hx hb dX1_areBytes_33 (by decide) ?_
  obtain rfl := Option.some.inj hF
  exact hret _ _ _ _ _ rfl (by decide) hw dX1_areBytes_34
/-! times(II)I -/
def FX1_times_s (S : Sx) (N : Sx) (p1 : Int32) (p2 : Int32) : Option Int32 :=
  fx_b1 (FX1_areBytes_s S N p1 p2) (fun r_1 => if r_1 = 0 then (some (-1 : Int32)) else (fx_b1 (FX3_times S p1 p2) (fun r_4 => some r_4)))
set_option maxHeartbeats 4000000 in
set_option maxRecDepth 100000 in
theorem mX1_times_s (l : Launch) (g : Gx) (A : Nat → Prop) (Rs Rn : Nat → Nat) (im : Option Nat) (X : va_W) (S : Sx) (N : Sx) (p1 : Int32) (p2 : Int32) {o : Int32} (hF : FX1_times_s S N p1 p2 = some o) :
    cx_i l yX1_times cX1_times 3 .int rmX1_times [.ref (Rs 100), .int p1, .int p2] g A (sC g Rs (some (Rn 100)) im S ++ (stC g Rn N ++ X)) o (sC g Rs (some (Rn 100)) im S ++ (stC g Rn N ++ X)) 0 0 := by
  refine cx_i_of (by decide) (Nat.le_of_ble_eq_true rfl) ?_
  intro p e s m av below meth c Q E hret H hw ls hl
  have E : cx_E p m meth c cX1_times 3 s av RX1 g A := E
  have hx := E.1.1
  have hb := E.1.2.1
  have hl : lv_has ls 3 [(0, .ref (Rs 100)), (1, .int p1), (2, .int p2)] := hl
  generalize hlc : ([] : List Loc) = locs at hw ⊢
  clear hlc
  unfold FX1_times_s at hF
  refine lv_aload_n hx hb dX1_times_0 rfl (lv_at hl 0 rfl) ?_
  refine lv_iload_n hx hb dX1_times_1 rfl (lv_at hl 1 rfl) ?_
  refine lv_iload_n hx hb dX1_times_2 rfl (lv_at hl 2 rfl) ?_
  replace hF := fx_b1_e hF
  obtain ⟨r_1, h_2, hF⟩ := hF
  refine cx_cVi (r := r_1) (ws := sC g Rs (some (Rn 100)) im S ++ (stC g Rn N ++ X)) (ws' := sC g Rs (some (Rn 100)) im S ++ (stC g Rn N ++ X)) (As := [.int p1, .int p2]) (rest := []) E (mX1_areBytes_s l g A Rs Rn _ _ S N p1 p2 h_2) (kwX1_X1_areBytes E ⟨Nat.le_of_ble_eq_true rfl, Nat.le_of_ble_eq_true rfl⟩) 0 1 rfl rfl rfl hw rfl hl.1 rfl (Nat.le_of_ble_eq_true rfl) dX1_times_3 ⟨Nat.le_of_ble_eq_true rfl, Nat.le_of_ble_eq_true rfl⟩ (fun H locs hw => ?_)
  refine lv_if_eq (tgt := 21) hx hb dX1_times_6 (by decide) (fun c_3 => ?_) (fun c_3 => ?_)
  · replace hF := fx_tt c_3 hF
    refine lv_iconst (v := (-1 : Int32)) hx hb dX1_times_21 (by decide) ?_
    obtain rfl := Option.some.inj hF
    exact hret _ _ _ _ _ rfl rfl hw dX1_times_22
  · replace hF := fx_ff c_3 hF
    refine lv_aload_n hx hb dX1_times_9 rfl (lv_at hl 0 rfl) ?_
    refine gX1_18 E hw dX1_times_10 ?_
    refine lv_iload_n hx hb dX1_times_13 rfl (lv_at hl 1 rfl) ?_
    refine lv_iload_n hx hb dX1_times_14 rfl (lv_at hl 2 rfl) ?_
    replace hF := fx_b1_e hF
    obtain ⟨r_4, h_5, hF⟩ := hF
    refine cx_cVi (r := r_4) (ws := sC g Rs (some (Rn 100)) im S ++ (stC g Rn N ++ X)) (ws' := sC g Rs (some (Rn 100)) im S ++ (stC g Rn N ++ X)) (As := [.int p1, .int p2]) (rest := []) E (mX3_times l g A Rs _ _ _ S p1 p2 h_5) (kwX1_X3_times E ⟨Nat.le_of_ble_eq_true rfl, Nat.le_of_ble_eq_true rfl⟩) 16 3 rfl rfl rfl hw rfl hl.1 rfl (Nat.le_of_ble_eq_true rfl) dX1_times_15 ⟨Nat.le_of_ble_eq_true rfl, Nat.le_of_ble_eq_true rfl⟩ (fun H locs hw => ?_)
    refine lv_goto (tgt := 22) hx hb dX1_times_18 (by decide) ?_
    obtain rfl := Option.some.inj hF
    exact hret _ _ _ _ _ rfl rfl hw dX1_times_22
/-! times(II)I -/
def FX1_times_n (S : Sx) (p1 : Int32) (p2 : Int32) : Option Int32 :=
  some (-1 : Int32)
set_option maxHeartbeats 4000000 in
set_option maxRecDepth 100000 in
theorem mX1_times_n (l : Launch) (g : Gx) (A : Nat → Prop) (Rs : Nat → Nat) (im : Option Nat) (X : va_W) (S : Sx) (p1 : Int32) (p2 : Int32) {o : Int32} (hF : FX1_times_n S p1 p2 = some o) :
    cx_i l yX1_times cX1_times 3 .int rmX1_times [.ref (Rs 100), .int p1, .int p2] g A (sC g Rs none im S ++ X) o (sC g Rs none im S ++ X) 0 0 := by
  refine cx_i_of (by decide) (Nat.le_of_ble_eq_true rfl) ?_
  intro p e s m av below meth c Q E hret H hw ls hl
  have E : cx_E p m meth c cX1_times 3 s av RX1 g A := E
  have hx := E.1.1
  have hb := E.1.2.1
  have hl : lv_has ls 3 [(0, .ref (Rs 100)), (1, .int p1), (2, .int p2)] := hl
  generalize hlc : ([] : List Loc) = locs at hw ⊢
  clear hlc
  unfold FX1_times_n at hF
  refine lv_aload_n hx hb dX1_times_0 rfl (lv_at hl 0 rfl) ?_
  refine lv_iload_n hx hb dX1_times_1 rfl (lv_at hl 1 rfl) ?_
  refine lv_iload_n hx hb dX1_times_2 rfl (lv_at hl 2 rfl) ?_
  refine cx_cVi (r := (0 : Int32)) (ws := sC g Rs none im S ++ X) (ws' := sC g Rs none im S ++ X) (As := [.int p1, .int p2]) (rest := []) E (mX1_areBytes_n l g A Rs _ _ S p1 p2 (o := (0 : Int32)) rfl) (kwX1_X1_areBytes E ⟨Nat.le_of_ble_eq_true rfl, Nat.le_of_ble_eq_true rfl⟩) 0 1 rfl rfl rfl hw rfl hl.1 rfl (Nat.le_of_ble_eq_true rfl) dX1_times_3 ⟨Nat.le_of_ble_eq_true rfl, Nat.le_of_ble_eq_true rfl⟩ (fun H locs hw => ?_)
  refine lv_if_eq (tgt := 21) hx hb dX1_times_6 (by decide) (fun _ => ?_) (fun c_ => absurd c_ (by decide))
  refine lv_iconst (v := (-1 : Int32)) hx hb dX1_times_21 (by decide) ?_
  obtain rfl := Option.some.inj hF
  exact hret _ _ _ _ _ rfl rfl hw dX1_times_22
/-! over(II)I -/
def FX1_over_s (S : Sx) (N : Sx) (p1 : Int32) (p2 : Int32) : Option Int32 :=
  fx_b1 (FX1_areBytes_s S N p1 p2) (fun r_1 => if r_1 = 0 then (some (-1 : Int32)) else (if p2 = 0 then (some (-1 : Int32)) else (fx_b1 (FX3_over S p1 p2) (fun r_5 => some r_5))))
set_option maxHeartbeats 4000000 in
set_option maxRecDepth 100000 in
theorem mX1_over_s (l : Launch) (g : Gx) (A : Nat → Prop) (Rs Rn : Nat → Nat) (im : Option Nat) (X : va_W) (S : Sx) (N : Sx) (p1 : Int32) (p2 : Int32) {o : Int32} (hF : FX1_over_s S N p1 p2 = some o) :
    cx_i l yX1_over cX1_over 3 .int rmX1_over [.ref (Rs 100), .int p1, .int p2] g A (sC g Rs (some (Rn 100)) im S ++ (stC g Rn N ++ X)) o (sC g Rs (some (Rn 100)) im S ++ (stC g Rn N ++ X)) 0 0 := by
  refine cx_i_of (by decide) (Nat.le_of_ble_eq_true rfl) ?_
  intro p e s m av below meth c Q E hret H hw ls hl
  have E : cx_E p m meth c cX1_over 3 s av RX1 g A := E
  have hx := E.1.1
  have hb := E.1.2.1
  have hl : lv_has ls 3 [(0, .ref (Rs 100)), (1, .int p1), (2, .int p2)] := hl
  generalize hlc : ([] : List Loc) = locs at hw ⊢
  clear hlc
  unfold FX1_over_s at hF
  refine lv_aload_n hx hb dX1_over_0 rfl (lv_at hl 0 rfl) ?_
  refine lv_iload_n hx hb dX1_over_1 rfl (lv_at hl 1 rfl) ?_
  refine lv_iload_n hx hb dX1_over_2 rfl (lv_at hl 2 rfl) ?_
  replace hF := fx_b1_e hF
  obtain ⟨r_1, h_2, hF⟩ := hF
  refine cx_cVi (r := r_1) (ws := sC g Rs (some (Rn 100)) im S ++ (stC g Rn N ++ X)) (ws' := sC g Rs (some (Rn 100)) im S ++ (stC g Rn N ++ X)) (As := [.int p1, .int p2]) (rest := []) E (mX1_areBytes_s l g A Rs Rn _ _ S N p1 p2 h_2) (kwX1_X1_areBytes E ⟨Nat.le_of_ble_eq_true rfl, Nat.le_of_ble_eq_true rfl⟩) 0 1 rfl rfl rfl hw rfl hl.1 rfl (Nat.le_of_ble_eq_true rfl) dX1_over_3 ⟨Nat.le_of_ble_eq_true rfl, Nat.le_of_ble_eq_true rfl⟩ (fun H locs hw => ?_)
  refine lv_if_eq (tgt := 25) hx hb dX1_over_6 (by decide) (fun c_3 => ?_) (fun c_3 => ?_)
  · replace hF := fx_tt c_3 hF
    refine lv_iconst (v := (-1 : Int32)) hx hb dX1_over_25 (by decide) ?_
    obtain rfl := Option.some.inj hF
    exact hret _ _ _ _ _ rfl rfl hw dX1_over_26
  · replace hF := fx_ff c_3 hF
    refine lv_iload_n hx hb dX1_over_9 rfl (lv_at hl 2 rfl) ?_
    refine lv_if_eq (tgt := 25) hx hb dX1_over_10 (by decide) (fun c_4 => ?_) (fun c_4 => ?_)
    · replace hF := fx_tt c_4 hF
      refine lv_iconst (v := (-1 : Int32)) hx hb dX1_over_25 (by decide) ?_
      obtain rfl := Option.some.inj hF
      exact hret _ _ _ _ _ rfl rfl hw dX1_over_26
    · replace hF := fx_ff c_4 hF
      refine lv_aload_n hx hb dX1_over_13 rfl (lv_at hl 0 rfl) ?_
      refine gX1_18 E hw dX1_over_14 ?_
      refine lv_iload_n hx hb dX1_over_17 rfl (lv_at hl 1 rfl) ?_
      refine lv_iload_n hx hb dX1_over_18 rfl (lv_at hl 2 rfl) ?_
      replace hF := fx_b1_e hF
      obtain ⟨r_5, h_6, hF⟩ := hF
      refine cx_cVi (r := r_5) (ws := sC g Rs (some (Rn 100)) im S ++ (stC g Rn N ++ X)) (ws' := sC g Rs (some (Rn 100)) im S ++ (stC g Rn N ++ X)) (As := [.int p1, .int p2]) (rest := []) E (mX3_over l g A Rs _ _ _ S p1 p2 h_6) (kwX1_X3_over E ⟨Nat.le_of_ble_eq_true rfl, Nat.le_of_ble_eq_true rfl⟩) 16 3 rfl rfl rfl hw rfl hl.1 rfl (Nat.le_of_ble_eq_true rfl) dX1_over_19 ⟨Nat.le_of_ble_eq_true rfl, Nat.le_of_ble_eq_true rfl⟩ (fun H locs hw => ?_)
      refine lv_goto (tgt := 26) hx hb dX1_over_22 (by decide) ?_
      obtain rfl := Option.some.inj hF
      exact hret _ _ _ _ _ rfl rfl hw dX1_over_26
/-! over(II)I -/
def FX1_over_n (S : Sx) (p1 : Int32) (p2 : Int32) : Option Int32 :=
  some (-1 : Int32)
set_option maxHeartbeats 4000000 in
set_option maxRecDepth 100000 in
theorem mX1_over_n (l : Launch) (g : Gx) (A : Nat → Prop) (Rs : Nat → Nat) (im : Option Nat) (X : va_W) (S : Sx) (p1 : Int32) (p2 : Int32) {o : Int32} (hF : FX1_over_n S p1 p2 = some o) :
    cx_i l yX1_over cX1_over 3 .int rmX1_over [.ref (Rs 100), .int p1, .int p2] g A (sC g Rs none im S ++ X) o (sC g Rs none im S ++ X) 0 0 := by
  refine cx_i_of (by decide) (Nat.le_of_ble_eq_true rfl) ?_
  intro p e s m av below meth c Q E hret H hw ls hl
  have E : cx_E p m meth c cX1_over 3 s av RX1 g A := E
  have hx := E.1.1
  have hb := E.1.2.1
  have hl : lv_has ls 3 [(0, .ref (Rs 100)), (1, .int p1), (2, .int p2)] := hl
  generalize hlc : ([] : List Loc) = locs at hw ⊢
  clear hlc
  unfold FX1_over_n at hF
  refine lv_aload_n hx hb dX1_over_0 rfl (lv_at hl 0 rfl) ?_
  refine lv_iload_n hx hb dX1_over_1 rfl (lv_at hl 1 rfl) ?_
  refine lv_iload_n hx hb dX1_over_2 rfl (lv_at hl 2 rfl) ?_
  refine cx_cVi (r := (0 : Int32)) (ws := sC g Rs none im S ++ X) (ws' := sC g Rs none im S ++ X) (As := [.int p1, .int p2]) (rest := []) E (mX1_areBytes_n l g A Rs _ _ S p1 p2 (o := (0 : Int32)) rfl) (kwX1_X1_areBytes E ⟨Nat.le_of_ble_eq_true rfl, Nat.le_of_ble_eq_true rfl⟩) 0 1 rfl rfl rfl hw rfl hl.1 rfl (Nat.le_of_ble_eq_true rfl) dX1_over_3 ⟨Nat.le_of_ble_eq_true rfl, Nat.le_of_ble_eq_true rfl⟩ (fun H locs hw => ?_)
  refine lv_if_eq (tgt := 25) hx hb dX1_over_6 (by decide) (fun _ => ?_) (fun c_ => absurd c_ (by decide))
  refine lv_iconst (v := (-1 : Int32)) hx hb dX1_over_25 (by decide) ?_
  obtain rfl := Option.some.inj hF
  exact hret _ _ _ _ _ rfl rfl hw dX1_over_26
/-! power(I)I -/
def FX1_power_s (S : Sx) (N : Sx) (p1 : Int32) : Option Int32 :=
  fx_b1 (FX1_in p1 (0 : Int32) (999 : Int32)) (fun r_3 => if r_3 = 0 then (some (-1 : Int32)) else (fx_b1 (FX3_power S p1) (fun r_6 => some r_6)))
set_option maxHeartbeats 4000000 in
set_option maxRecDepth 100000 in
theorem mX1_power_s (l : Launch) (g : Gx) (A : Nat → Prop) (Rs Rn : Nat → Nat) (im : Option Nat) (X : va_W) (S : Sx) (N : Sx) (p1 : Int32) {o : Int32} (hF : FX1_power_s S N p1 = some o) :
    cx_i l yX1_power cX1_power 2 .int rmX1_power [.ref (Rs 100), .int p1] g A (sC g Rs (some (Rn 100)) im S ++ (stC g Rn N ++ X)) o (sC g Rs (some (Rn 100)) im S ++ (stC g Rn N ++ X)) 0 0 := by
  refine cx_i_of (by decide) (Nat.le_of_ble_eq_true rfl) ?_
  intro p e s m av below meth c Q E hret H hw ls hl
  have E : cx_E p m meth c cX1_power 2 s av RX1 g A := E
  have hx := E.1.1
  have hb := E.1.2.1
  have hl : lv_has ls 2 [(0, .ref (Rs 100)), (1, .int p1)] := hl
  generalize hlc : ([] : List Loc) = locs at hw ⊢
  clear hlc
  unfold FX1_power_s at hF
  refine lv_aload_n hx hb dX1_power_0 rfl (lv_at hl 0 rfl) ?_
  refine cx_cVi (r := (1 : Int32)) (ws := sC g Rs (some (Rn 100)) im S ++ (stC g Rn N ++ X)) (ws' := sC g Rs (some (Rn 100)) im S ++ (stC g Rn N ++ X)) (As := []) (rest := []) E (mX1_isShelf_s l g A Rs Rn _ _ S N (o := (1 : Int32)) rfl) (kwX1_X1_isShelf E ⟨Nat.le_of_ble_eq_true rfl, Nat.le_of_ble_eq_true rfl⟩) 0 1 rfl rfl rfl hw rfl hl.1 rfl (Nat.le_of_ble_eq_true rfl) dX1_power_1 ⟨Nat.le_of_ble_eq_true rfl, Nat.le_of_ble_eq_true rfl⟩ (fun H locs hw => ?_)
  refine lv_if_eq (tgt := 29) hx hb dX1_power_4 (by decide) (fun c_ => absurd c_ (by decide)) (fun _ => ?_)
  refine lv_iload_n hx hb dX1_power_7 rfl (lv_at hl 1 rfl) ?_
  refine lv_iconst (v := (0 : Int32)) hx hb dX1_power_8 (by decide) ?_
  refine lv_sipush (v := (999 : Int32)) hx hb dX1_power_9 (by decide) ?_
  replace hF := fx_b1_e hF
  obtain ⟨r_3, h_4, hF⟩ := hF
  refine cx_cSi (r := r_3) (ws := sC g Rs (some (Rn 100)) im S ++ (stC g Rn N ++ X)) (ws' := sC g Rs (some (Rn 100)) im S ++ (stC g Rn N ++ X)) (As := [.int p1, .int (0 : Int32), .int (999 : Int32)]) (rest := []) E (mX1_in l g A (sC g Rs (some (Rn 100)) im S ++ (stC g Rn N ++ X)) p1 (0 : Int32) (999 : Int32) h_4) (kwX1_X1_in E ⟨Nat.le_of_ble_eq_true rfl, Nat.le_of_ble_eq_true rfl⟩) hw rfl hl.1 rfl (Nat.le_of_ble_eq_true rfl) dX1_power_12 ⟨Nat.le_of_ble_eq_true rfl, Nat.le_of_ble_eq_true rfl⟩ (fun H locs hw => ?_)
  refine lv_if_eq (tgt := 29) hx hb dX1_power_15 (by decide) (fun c_5 => ?_) (fun c_5 => ?_)
  · replace hF := fx_tt c_5 hF
    refine lv_iconst (v := (-1 : Int32)) hx hb dX1_power_29 (by decide) ?_
    obtain rfl := Option.some.inj hF
    exact hret _ _ _ _ _ rfl rfl hw dX1_power_30
  · replace hF := fx_ff c_5 hF
    refine lv_aload_n hx hb dX1_power_18 rfl (lv_at hl 0 rfl) ?_
    refine gX1_18 E hw dX1_power_19 ?_
    refine lv_iload_n hx hb dX1_power_22 rfl (lv_at hl 1 rfl) ?_
    replace hF := fx_b1_e hF
    obtain ⟨r_6, h_7, hF⟩ := hF
    refine cx_cVi (r := r_6) (ws := sC g Rs (some (Rn 100)) im S ++ (stC g Rn N ++ X)) (ws' := sC g Rs (some (Rn 100)) im S ++ (stC g Rn N ++ X)) (As := [.int p1]) (rest := []) E (mX3_power l g A Rs _ _ _ S p1 h_7) (kwX1_X3_power E ⟨Nat.le_of_ble_eq_true rfl, Nat.le_of_ble_eq_true rfl⟩) 16 3 rfl rfl rfl hw rfl hl.1 rfl (Nat.le_of_ble_eq_true rfl) dX1_power_23 ⟨Nat.le_of_ble_eq_true rfl, Nat.le_of_ble_eq_true rfl⟩ (fun H locs hw => ?_)
    refine lv_goto (tgt := 30) hx hb dX1_power_26 (by decide) ?_
    obtain rfl := Option.some.inj hF
    exact hret _ _ _ _ _ rfl rfl hw dX1_power_30
/-! power(I)I -/
def FX1_power_n (S : Sx) (p1 : Int32) : Option Int32 :=
  some (-1 : Int32)
set_option maxHeartbeats 4000000 in
set_option maxRecDepth 100000 in
theorem mX1_power_n (l : Launch) (g : Gx) (A : Nat → Prop) (Rs : Nat → Nat) (im : Option Nat) (X : va_W) (S : Sx) (p1 : Int32) {o : Int32} (hF : FX1_power_n S p1 = some o) :
    cx_i l yX1_power cX1_power 2 .int rmX1_power [.ref (Rs 100), .int p1] g A (sC g Rs none im S ++ X) o (sC g Rs none im S ++ X) 0 0 := by
  refine cx_i_of (by decide) (Nat.le_of_ble_eq_true rfl) ?_
  intro p e s m av below meth c Q E hret H hw ls hl
  have E : cx_E p m meth c cX1_power 2 s av RX1 g A := E
  have hx := E.1.1
  have hb := E.1.2.1
  have hl : lv_has ls 2 [(0, .ref (Rs 100)), (1, .int p1)] := hl
  generalize hlc : ([] : List Loc) = locs at hw ⊢
  clear hlc
  unfold FX1_power_n at hF
  refine lv_aload_n hx hb dX1_power_0 rfl (lv_at hl 0 rfl) ?_
  refine cx_cVi (r := (0 : Int32)) (ws := sC g Rs none im S ++ X) (ws' := sC g Rs none im S ++ X) (As := []) (rest := []) E (mX1_isShelf_n l g A Rs _ _ S (o := (0 : Int32)) rfl) (kwX1_X1_isShelf E ⟨Nat.le_of_ble_eq_true rfl, Nat.le_of_ble_eq_true rfl⟩) 0 1 rfl rfl rfl hw rfl hl.1 rfl (Nat.le_of_ble_eq_true rfl) dX1_power_1 ⟨Nat.le_of_ble_eq_true rfl, Nat.le_of_ble_eq_true rfl⟩ (fun H locs hw => ?_)
  refine lv_if_eq (tgt := 29) hx hb dX1_power_4 (by decide) (fun _ => ?_) (fun c_ => absurd c_ (by decide))
  refine lv_iconst (v := (-1 : Int32)) hx hb dX1_power_29 (by decide) ?_
  obtain rfl := Option.some.inj hF
  exact hret _ _ _ _ _ rfl rfl hw dX1_power_30
/-! logOf(I)I -/
def FX1_logOf_s (S : Sx) (N : Sx) (p1 : Int32) : Option Int32 :=
  fx_b1 (FX1_areBytes_s S N p1 (0 : Int32)) (fun r_1 => if r_1 = 0 then (some (-1 : Int32)) else (if p1 = 0 then (some (-1 : Int32)) else (fx_gd (fx_in p1 256) (some (gx_A S 41 p1.toNatClampNeg)))))
set_option maxHeartbeats 4000000 in
set_option maxRecDepth 100000 in
theorem mX1_logOf_s (l : Launch) (g : Gx) (A : Nat → Prop) (Rs Rn : Nat → Nat) (im : Option Nat) (X : va_W) (S : Sx) (N : Sx) (p1 : Int32) {o : Int32} (hF : FX1_logOf_s S N p1 = some o) :
    cx_i l yX1_logOf cX1_logOf 2 .int rmX1_logOf [.ref (Rs 100), .int p1] g A (sC g Rs (some (Rn 100)) im S ++ (stC g Rn N ++ X)) o (sC g Rs (some (Rn 100)) im S ++ (stC g Rn N ++ X)) 0 0 := by
  refine cx_i_of (by decide) (Nat.le_of_ble_eq_true rfl) ?_
  intro p e s m av below meth c Q E hret H hw ls hl
  have E : cx_E p m meth c cX1_logOf 2 s av RX1 g A := E
  have hx := E.1.1
  have hb := E.1.2.1
  have hl : lv_has ls 2 [(0, .ref (Rs 100)), (1, .int p1)] := hl
  generalize hlc : ([] : List Loc) = locs at hw ⊢
  clear hlc
  unfold FX1_logOf_s at hF
  refine lv_aload_n hx hb dX1_logOf_0 rfl (lv_at hl 0 rfl) ?_
  refine lv_iload_n hx hb dX1_logOf_1 rfl (lv_at hl 1 rfl) ?_
  refine lv_iconst (v := (0 : Int32)) hx hb dX1_logOf_2 (by decide) ?_
  replace hF := fx_b1_e hF
  obtain ⟨r_1, h_2, hF⟩ := hF
  refine cx_cVi (r := r_1) (ws := sC g Rs (some (Rn 100)) im S ++ (stC g Rn N ++ X)) (ws' := sC g Rs (some (Rn 100)) im S ++ (stC g Rn N ++ X)) (As := [.int p1, .int (0 : Int32)]) (rest := []) E (mX1_areBytes_s l g A Rs Rn _ _ S N p1 (0 : Int32) h_2) (kwX1_X1_areBytes E ⟨Nat.le_of_ble_eq_true rfl, Nat.le_of_ble_eq_true rfl⟩) 0 1 rfl rfl rfl hw rfl hl.1 rfl (Nat.le_of_ble_eq_true rfl) dX1_logOf_3 ⟨Nat.le_of_ble_eq_true rfl, Nat.le_of_ble_eq_true rfl⟩ (fun H locs hw => ?_)
  refine lv_if_eq (tgt := 25) hx hb dX1_logOf_6 (by decide) (fun c_3 => ?_) (fun c_3 => ?_)
  · replace hF := fx_tt c_3 hF
    refine lv_iconst (v := (-1 : Int32)) hx hb dX1_logOf_25 (by decide) ?_
    obtain rfl := Option.some.inj hF
    exact hret _ _ _ _ _ rfl rfl hw dX1_logOf_26
  · replace hF := fx_ff c_3 hF
    refine lv_iload_n hx hb dX1_logOf_9 rfl (lv_at hl 1 rfl) ?_
    refine lv_if_eq (tgt := 25) hx hb dX1_logOf_10 (by decide) (fun c_4 => ?_) (fun c_4 => ?_)
    · replace hF := fx_tt c_4 hF
      refine lv_iconst (v := (-1 : Int32)) hx hb dX1_logOf_25 (by decide) ?_
      obtain rfl := Option.some.inj hF
      exact hret _ _ _ _ _ rfl rfl hw dX1_logOf_26
    · replace hF := fx_ff c_4 hF
      refine lv_aload_n hx hb dX1_logOf_13 rfl (lv_at hl 0 rfl) ?_
      refine gX1_18 E hw dX1_logOf_14 ?_
      refine gNX3_1 E hw dX1_logOf_17 ?_
      refine lv_iload_n hx hb dX1_logOf_20 rfl (lv_at hl 1 rfl) ?_
      replace hF := fx_gd_e hF
      obtain ⟨h_5, hF⟩ := hF
      refine raX1_41 E hw (fx_in_e h_5) dX1_logOf_21 ?_
      refine lv_goto (tgt := 26) hx hb dX1_logOf_22 (by decide) ?_
      obtain rfl := Option.some.inj hF
      exact hret _ _ _ _ _ rfl rfl hw dX1_logOf_26
/-! logOf(I)I -/
def FX1_logOf_n (S : Sx) (p1 : Int32) : Option Int32 :=
  some (-1 : Int32)
set_option maxHeartbeats 4000000 in
set_option maxRecDepth 100000 in
theorem mX1_logOf_n (l : Launch) (g : Gx) (A : Nat → Prop) (Rs : Nat → Nat) (im : Option Nat) (X : va_W) (S : Sx) (p1 : Int32) {o : Int32} (hF : FX1_logOf_n S p1 = some o) :
    cx_i l yX1_logOf cX1_logOf 2 .int rmX1_logOf [.ref (Rs 100), .int p1] g A (sC g Rs none im S ++ X) o (sC g Rs none im S ++ X) 0 0 := by
  refine cx_i_of (by decide) (Nat.le_of_ble_eq_true rfl) ?_
  intro p e s m av below meth c Q E hret H hw ls hl
  have E : cx_E p m meth c cX1_logOf 2 s av RX1 g A := E
  have hx := E.1.1
  have hb := E.1.2.1
  have hl : lv_has ls 2 [(0, .ref (Rs 100)), (1, .int p1)] := hl
  generalize hlc : ([] : List Loc) = locs at hw ⊢
  clear hlc
  unfold FX1_logOf_n at hF
  refine lv_aload_n hx hb dX1_logOf_0 rfl (lv_at hl 0 rfl) ?_
  refine lv_iload_n hx hb dX1_logOf_1 rfl (lv_at hl 1 rfl) ?_
  refine lv_iconst (v := (0 : Int32)) hx hb dX1_logOf_2 (by decide) ?_
  refine cx_cVi (r := (0 : Int32)) (ws := sC g Rs none im S ++ X) (ws' := sC g Rs none im S ++ X) (As := [.int p1, .int (0 : Int32)]) (rest := []) E (mX1_areBytes_n l g A Rs _ _ S p1 (0 : Int32) (o := (0 : Int32)) rfl) (kwX1_X1_areBytes E ⟨Nat.le_of_ble_eq_true rfl, Nat.le_of_ble_eq_true rfl⟩) 0 1 rfl rfl rfl hw rfl hl.1 rfl (Nat.le_of_ble_eq_true rfl) dX1_logOf_3 ⟨Nat.le_of_ble_eq_true rfl, Nat.le_of_ble_eq_true rfl⟩ (fun H locs hw => ?_)
  refine lv_if_eq (tgt := 25) hx hb dX1_logOf_6 (by decide) (fun _ => ?_) (fun c_ => absurd c_ (by decide))
  refine lv_iconst (v := (-1 : Int32)) hx hb dX1_logOf_25 (by decide) ?_
  obtain rfl := Option.some.inj hF
  exact hret _ _ _ _ _ rfl rfl hw dX1_logOf_26
/-! place(II)I -/
def FX1_place_s (S : Sx) (N : Sx) (p1 : Int32) (p2 : Int32) : Option (Int32 × Sx) :=
  fx_b1 (FX1_isAddress_s S N p1) (fun r_1 => if r_1 = 0 then (some ((-1 : Int32), S)) else (fx_b1 (FX1_in p2 (0 : Int32) (3 : Int32)) (fun r_4 => if r_4 = 0 then (some ((-1 : Int32), S)) else (fx_b1 (FX1_lays S p1) (fun S_7 => if p2 = 0 then (some ((gx_I S_7 23), S_7)) else (if p2 = (1 : Int32) then (some ((gx_I S_7 24), S_7)) else (if p2 = (2 : Int32) then (some ((gx_I S_7 25), S_7)) else (some ((gx_I S_7 26), S_7)))))))))
set_option maxHeartbeats 4000000 in
set_option maxRecDepth 100000 in
theorem mX1_place_s (l : Launch) (g : Gx) (A : Nat → Prop) (Rs Rn : Nat → Nat) (im : Option Nat) (X : va_W) (S : Sx) (N : Sx) (p1 : Int32) (p2 : Int32) {o : Int32 × Sx} (hF : FX1_place_s S N p1 p2 = some o) :
    cx_i l yX1_place cX1_place 3 .int rmX1_place [.ref (Rs 100), .int p1, .int p2] g A (sC g Rs (some (Rn 100)) im S ++ (stC g Rn N ++ X)) o.1 (sC g Rs (some (Rn 100)) im o.2 ++ (stC g Rn N ++ X)) 0 0 := by
  refine cx_i_of (by decide) (Nat.le_of_ble_eq_true rfl) ?_
  intro p e s m av below meth c Q E hret H hw ls hl
  have E : cx_E p m meth c cX1_place 3 s av RX1 g A := E
  have hx := E.1.1
  have hb := E.1.2.1
  have hl : lv_has ls 3 [(0, .ref (Rs 100)), (1, .int p1), (2, .int p2)] := hl
  generalize hlc : ([] : List Loc) = locs at hw ⊢
  clear hlc
  unfold FX1_place_s at hF
  refine lv_aload_n hx hb dX1_place_0 rfl (lv_at hl 0 rfl) ?_
  refine lv_iload_n hx hb dX1_place_1 rfl (lv_at hl 1 rfl) ?_
  replace hF := fx_b1_e hF
  obtain ⟨r_1, h_2, hF⟩ := hF
  refine cx_cVi (r := r_1) (ws := sC g Rs (some (Rn 100)) im S ++ (stC g Rn N ++ X)) (ws' := sC g Rs (some (Rn 100)) im S ++ (stC g Rn N ++ X)) (As := [.int p1]) (rest := []) E (mX1_isAddress_s l g A Rs Rn _ _ S N p1 h_2) (kwX1_X1_isAddress E ⟨Nat.le_of_ble_eq_true rfl, Nat.le_of_ble_eq_true rfl⟩) 0 1 rfl rfl rfl hw rfl hl.1 rfl (Nat.le_of_ble_eq_true rfl) dX1_place_2 ⟨Nat.le_of_ble_eq_true rfl, Nat.le_of_ble_eq_true rfl⟩ (fun H locs hw => ?_)
  refine lv_if_eq (tgt := 17) hx hb dX1_place_5 (by decide) (fun c_3 => ?_) (fun c_3 => ?_)
  · replace hF := fx_tt c_3 hF
    refine lv_iconst (v := (-1 : Int32)) hx hb dX1_place_17 (by decide) ?_
    obtain rfl := Option.some.inj hF
    exact hret _ _ _ _ _ rfl rfl hw dX1_place_18
  · replace hF := fx_ff c_3 hF
    refine lv_iload_n hx hb dX1_place_8 rfl (lv_at hl 2 rfl) ?_
    refine lv_iconst (v := (0 : Int32)) hx hb dX1_place_9 (by decide) ?_
    refine lv_iconst (v := (3 : Int32)) hx hb dX1_place_10 (by decide) ?_
    replace hF := fx_b1_e hF
    obtain ⟨r_4, h_5, hF⟩ := hF
    refine cx_cSi (r := r_4) (ws := sC g Rs (some (Rn 100)) im S ++ (stC g Rn N ++ X)) (ws' := sC g Rs (some (Rn 100)) im S ++ (stC g Rn N ++ X)) (As := [.int p2, .int (0 : Int32), .int (3 : Int32)]) (rest := []) E (mX1_in l g A (sC g Rs (some (Rn 100)) im S ++ (stC g Rn N ++ X)) p2 (0 : Int32) (3 : Int32) h_5) (kwX1_X1_in E ⟨Nat.le_of_ble_eq_true rfl, Nat.le_of_ble_eq_true rfl⟩) hw rfl hl.1 rfl (Nat.le_of_ble_eq_true rfl) dX1_place_11 ⟨Nat.le_of_ble_eq_true rfl, Nat.le_of_ble_eq_true rfl⟩ (fun H locs hw => ?_)
    refine lv_if_ne (tgt := 19) hx hb dX1_place_14 (by decide) (fun c_6 => ?_) (fun c_6 => ?_)
    · replace hF := fx_ff c_6 hF
      refine lv_aload_n hx hb dX1_place_19 rfl (lv_at hl 0 rfl) ?_
      refine lv_iload_n hx hb dX1_place_20 rfl (lv_at hl 1 rfl) ?_
      replace hF := fx_b1_e hF
      obtain ⟨S_7, h_8, hF⟩ := hF
      refine cx_cVv (ws := sC g Rs (some (Rn 100)) im S ++ (stC g Rn N ++ X)) (ws' := sC g Rs (some (Rn 100)) im S_7 ++ (stC g Rn N ++ X)) (As := [.int p1]) (rest := []) E (mX1_lays l g A Rs _ _ _ S p1 h_8) (kwX1_X1_lays E ⟨Nat.le_of_ble_eq_true rfl, Nat.le_of_ble_eq_true rfl⟩) 0 1 rfl rfl rfl hw rfl hl.1 rfl (Nat.le_of_ble_eq_true rfl) dX1_place_21 ⟨Nat.le_of_ble_eq_true rfl, Nat.le_of_ble_eq_true rfl⟩ (fun H locs hw => ?_)
      refine lv_iload_n hx hb dX1_place_24 rfl (lv_at hl 2 rfl) ?_
      refine lv_if_ne (tgt := 35) hx hb dX1_place_25 (by decide) (fun c_9 => ?_) (fun c_9 => ?_)
      · replace hF := fx_ff c_9 hF
        refine lv_iload_n hx hb dX1_place_35 rfl (lv_at hl 2 rfl) ?_
        refine lv_iconst (v := (1 : Int32)) hx hb dX1_place_36 (by decide) ?_
        refine lv_icmp_ne (tgt := 47) hx hb dX1_place_37 (by decide) (fun c_10 => ?_) (fun c_10 => ?_)
        · replace hF := fx_ff c_10 hF
          refine lv_iload_n hx hb dX1_place_47 rfl (lv_at hl 2 rfl) ?_
          refine lv_iconst (v := (2 : Int32)) hx hb dX1_place_48 (by decide) ?_
          refine lv_icmp_ne (tgt := 59) hx hb dX1_place_49 (by decide) (fun c_11 => ?_) (fun c_11 => ?_)
          · replace hF := fx_ff c_11 hF
            refine lv_aload_n hx hb dX1_place_59 rfl (lv_at hl 0 rfl) ?_
            refine gX1_26 E hw dX1_place_60 ?_
            obtain rfl := Option.some.inj hF
            exact hret _ _ _ _ _ rfl rfl hw dX1_place_63
          · replace hF := fx_tt c_11 hF
            refine lv_aload_n hx hb dX1_place_52 rfl (lv_at hl 0 rfl) ?_
            refine gX1_25 E hw dX1_place_53 ?_
            refine lv_goto (tgt := 63) hx hb dX1_place_56 (by decide) ?_
            obtain rfl := Option.some.inj hF
            exact hret _ _ _ _ _ rfl rfl hw dX1_place_63
        · replace hF := fx_tt c_10 hF
          refine lv_aload_n hx hb dX1_place_40 rfl (lv_at hl 0 rfl) ?_
          refine gX1_24 E hw dX1_place_41 ?_
          refine lv_goto (tgt := 63) hx hb dX1_place_44 (by decide) ?_
          obtain rfl := Option.some.inj hF
          exact hret _ _ _ _ _ rfl rfl hw dX1_place_63
      · replace hF := fx_tt c_9 hF
        refine lv_aload_n hx hb dX1_place_28 rfl (lv_at hl 0 rfl) ?_
        refine gX1_23 E hw dX1_place_29 ?_
        refine lv_goto (tgt := 63) hx hb dX1_place_32 (by decide) ?_
        obtain rfl := Option.some.inj hF
        exact hret _ _ _ _ _ rfl rfl hw dX1_place_63
    · replace hF := fx_tt c_6 hF
      refine lv_iconst (v := (-1 : Int32)) hx hb dX1_place_17 (by decide) ?_
      obtain rfl := Option.some.inj hF
      exact hret _ _ _ _ _ rfl rfl hw dX1_place_18
/-! place(II)I -/
def FX1_place_n (S : Sx) (p1 : Int32) (p2 : Int32) : Option (Int32 × Sx) :=
  some ((-1 : Int32), S)
set_option maxHeartbeats 4000000 in
set_option maxRecDepth 100000 in
theorem mX1_place_n (l : Launch) (g : Gx) (A : Nat → Prop) (Rs : Nat → Nat) (im : Option Nat) (X : va_W) (S : Sx) (p1 : Int32) (p2 : Int32) {o : Int32 × Sx} (hF : FX1_place_n S p1 p2 = some o) :
    cx_i l yX1_place cX1_place 3 .int rmX1_place [.ref (Rs 100), .int p1, .int p2] g A (sC g Rs none im S ++ X) o.1 (sC g Rs none im o.2 ++ X) 0 0 := by
  refine cx_i_of (by decide) (Nat.le_of_ble_eq_true rfl) ?_
  intro p e s m av below meth c Q E hret H hw ls hl
  have E : cx_E p m meth c cX1_place 3 s av RX1 g A := E
  have hx := E.1.1
  have hb := E.1.2.1
  have hl : lv_has ls 3 [(0, .ref (Rs 100)), (1, .int p1), (2, .int p2)] := hl
  generalize hlc : ([] : List Loc) = locs at hw ⊢
  clear hlc
  unfold FX1_place_n at hF
  refine lv_aload_n hx hb dX1_place_0 rfl (lv_at hl 0 rfl) ?_
  refine lv_iload_n hx hb dX1_place_1 rfl (lv_at hl 1 rfl) ?_
  refine cx_cVi (r := (0 : Int32)) (ws := sC g Rs none im S ++ X) (ws' := sC g Rs none im S ++ X) (As := [.int p1]) (rest := []) E (mX1_isAddress_n l g A Rs _ _ S p1 (o := (0 : Int32)) rfl) (kwX1_X1_isAddress E ⟨Nat.le_of_ble_eq_true rfl, Nat.le_of_ble_eq_true rfl⟩) 0 1 rfl rfl rfl hw rfl hl.1 rfl (Nat.le_of_ble_eq_true rfl) dX1_place_2 ⟨Nat.le_of_ble_eq_true rfl, Nat.le_of_ble_eq_true rfl⟩ (fun H locs hw => ?_)
  refine lv_if_eq (tgt := 17) hx hb dX1_place_5 (by decide) (fun _ => ?_) (fun c_ => absurd c_ (by decide))
  refine lv_iconst (v := (-1 : Int32)) hx hb dX1_place_17 (by decide) ?_
  obtain rfl := Option.some.inj hF
  exact hret _ _ _ _ _ rfl rfl hw dX1_place_18
/-! part(II)I -/
def FX1_part_s (S : Sx) (N : Sx) (p1 : Int32) (p2 : Int32) : Option Int32 :=
  fx_b1 (FX1_isDisk_s S N p1) (fun r_1 => if r_1 = 0 then (some (-1 : Int32)) else (fx_b1 (FX1_isStripe_s S N p2) (fun r_4 => if r_4 = 0 then (some (-1 : Int32)) else (fx_b1 (FX1_partOf S p1 p2) (fun r_7 => some r_7)))))
set_option maxHeartbeats 4000000 in
set_option maxRecDepth 100000 in
theorem mX1_part_s (l : Launch) (g : Gx) (A : Nat → Prop) (Rs Rn : Nat → Nat) (im : Option Nat) (X : va_W) (S : Sx) (N : Sx) (p1 : Int32) (p2 : Int32) {o : Int32} (hF : FX1_part_s S N p1 p2 = some o) :
    cx_i l yX1_part cX1_part 3 .int rmX1_part [.ref (Rs 100), .int p1, .int p2] g A (sC g Rs (some (Rn 100)) im S ++ (stC g Rn N ++ X)) o (sC g Rs (some (Rn 100)) im S ++ (stC g Rn N ++ X)) 0 0 := by
  refine cx_i_of (by decide) (Nat.le_of_ble_eq_true rfl) ?_
  intro p e s m av below meth c Q E hret H hw ls hl
  have E : cx_E p m meth c cX1_part 3 s av RX1 g A := E
  have hx := E.1.1
  have hb := E.1.2.1
  have hl : lv_has ls 3 [(0, .ref (Rs 100)), (1, .int p1), (2, .int p2)] := hl
  generalize hlc : ([] : List Loc) = locs at hw ⊢
  clear hlc
  unfold FX1_part_s at hF
  refine lv_aload_n hx hb dX1_part_0 rfl (lv_at hl 0 rfl) ?_
  refine lv_iload_n hx hb dX1_part_1 rfl (lv_at hl 1 rfl) ?_
  replace hF := fx_b1_e hF
  obtain ⟨r_1, h_2, hF⟩ := hF
  refine cx_cVi (r := r_1) (ws := sC g Rs (some (Rn 100)) im S ++ (stC g Rn N ++ X)) (ws' := sC g Rs (some (Rn 100)) im S ++ (stC g Rn N ++ X)) (As := [.int p1]) (rest := []) E (mX1_isDisk_s l g A Rs Rn _ _ S N p1 h_2) (kwX1_X1_isDisk E ⟨Nat.le_of_ble_eq_true rfl, Nat.le_of_ble_eq_true rfl⟩) 0 1 rfl rfl rfl hw rfl hl.1 rfl (Nat.le_of_ble_eq_true rfl) dX1_part_2 ⟨Nat.le_of_ble_eq_true rfl, Nat.le_of_ble_eq_true rfl⟩ (fun H locs hw => ?_)
  refine lv_if_eq (tgt := 25) hx hb dX1_part_5 (by decide) (fun c_3 => ?_) (fun c_3 => ?_)
  · replace hF := fx_tt c_3 hF
    refine lv_iconst (v := (-1 : Int32)) hx hb dX1_part_25 (by decide) ?_
    obtain rfl := Option.some.inj hF
    exact hret _ _ _ _ _ rfl rfl hw dX1_part_26
  · replace hF := fx_ff c_3 hF
    refine lv_aload_n hx hb dX1_part_8 rfl (lv_at hl 0 rfl) ?_
    refine lv_iload_n hx hb dX1_part_9 rfl (lv_at hl 2 rfl) ?_
    replace hF := fx_b1_e hF
    obtain ⟨r_4, h_5, hF⟩ := hF
    refine cx_cVi (r := r_4) (ws := sC g Rs (some (Rn 100)) im S ++ (stC g Rn N ++ X)) (ws' := sC g Rs (some (Rn 100)) im S ++ (stC g Rn N ++ X)) (As := [.int p2]) (rest := []) E (mX1_isStripe_s l g A Rs Rn _ _ S N p2 h_5) (kwX1_X1_isStripe E ⟨Nat.le_of_ble_eq_true rfl, Nat.le_of_ble_eq_true rfl⟩) 0 1 rfl rfl rfl hw rfl hl.1 rfl (Nat.le_of_ble_eq_true rfl) dX1_part_10 ⟨Nat.le_of_ble_eq_true rfl, Nat.le_of_ble_eq_true rfl⟩ (fun H locs hw => ?_)
    refine lv_if_eq (tgt := 25) hx hb dX1_part_13 (by decide) (fun c_6 => ?_) (fun c_6 => ?_)
    · replace hF := fx_tt c_6 hF
      refine lv_iconst (v := (-1 : Int32)) hx hb dX1_part_25 (by decide) ?_
      obtain rfl := Option.some.inj hF
      exact hret _ _ _ _ _ rfl rfl hw dX1_part_26
    · replace hF := fx_ff c_6 hF
      refine lv_aload_n hx hb dX1_part_16 rfl (lv_at hl 0 rfl) ?_
      refine lv_iload_n hx hb dX1_part_17 rfl (lv_at hl 1 rfl) ?_
      refine lv_iload_n hx hb dX1_part_18 rfl (lv_at hl 2 rfl) ?_
      replace hF := fx_b1_e hF
      obtain ⟨r_7, h_8, hF⟩ := hF
      refine cx_cVi (r := r_7) (ws := sC g Rs (some (Rn 100)) im S ++ (stC g Rn N ++ X)) (ws' := sC g Rs (some (Rn 100)) im S ++ (stC g Rn N ++ X)) (As := [.int p1, .int p2]) (rest := []) E (mX1_partOf l g A Rs _ _ _ S p1 p2 h_8) (kwX1_X1_partOf E ⟨Nat.le_of_ble_eq_true rfl, Nat.le_of_ble_eq_true rfl⟩) 0 1 rfl rfl rfl hw rfl hl.1 rfl (Nat.le_of_ble_eq_true rfl) dX1_part_19 ⟨Nat.le_of_ble_eq_true rfl, Nat.le_of_ble_eq_true rfl⟩ (fun H locs hw => ?_)
      refine lv_goto (tgt := 26) hx hb dX1_part_22 (by decide) ?_
      obtain rfl := Option.some.inj hF
      exact hret _ _ _ _ _ rfl rfl hw dX1_part_26
/-! part(II)I -/
def FX1_part_n (S : Sx) (p1 : Int32) (p2 : Int32) : Option Int32 :=
  some (-1 : Int32)
set_option maxHeartbeats 4000000 in
set_option maxRecDepth 100000 in
theorem mX1_part_n (l : Launch) (g : Gx) (A : Nat → Prop) (Rs : Nat → Nat) (im : Option Nat) (X : va_W) (S : Sx) (p1 : Int32) (p2 : Int32) {o : Int32} (hF : FX1_part_n S p1 p2 = some o) :
    cx_i l yX1_part cX1_part 3 .int rmX1_part [.ref (Rs 100), .int p1, .int p2] g A (sC g Rs none im S ++ X) o (sC g Rs none im S ++ X) 0 0 := by
  refine cx_i_of (by decide) (Nat.le_of_ble_eq_true rfl) ?_
  intro p e s m av below meth c Q E hret H hw ls hl
  have E : cx_E p m meth c cX1_part 3 s av RX1 g A := E
  have hx := E.1.1
  have hb := E.1.2.1
  have hl : lv_has ls 3 [(0, .ref (Rs 100)), (1, .int p1), (2, .int p2)] := hl
  generalize hlc : ([] : List Loc) = locs at hw ⊢
  clear hlc
  unfold FX1_part_n at hF
  refine lv_aload_n hx hb dX1_part_0 rfl (lv_at hl 0 rfl) ?_
  refine lv_iload_n hx hb dX1_part_1 rfl (lv_at hl 1 rfl) ?_
  refine cx_cVi (r := (0 : Int32)) (ws := sC g Rs none im S ++ X) (ws' := sC g Rs none im S ++ X) (As := [.int p1]) (rest := []) E (mX1_isDisk_n l g A Rs _ _ S p1 (o := (0 : Int32)) rfl) (kwX1_X1_isDisk E ⟨Nat.le_of_ble_eq_true rfl, Nat.le_of_ble_eq_true rfl⟩) 0 1 rfl rfl rfl hw rfl hl.1 rfl (Nat.le_of_ble_eq_true rfl) dX1_part_2 ⟨Nat.le_of_ble_eq_true rfl, Nat.le_of_ble_eq_true rfl⟩ (fun H locs hw => ?_)
  refine lv_if_eq (tgt := 25) hx hb dX1_part_5 (by decide) (fun _ => ?_) (fun c_ => absurd c_ (by decide))
  refine lv_iconst (v := (-1 : Int32)) hx hb dX1_part_25 (by decide) ?_
  obtain rfl := Option.some.inj hF
  exact hret _ _ _ _ _ rfl rfl hw dX1_part_26
/-! isCell(III)Z -/
def FX1_isCell_s (S : Sx) (N : Sx) (p1 : Int32) (p2 : Int32) (p3 : Int32) : Option Int32 :=
  fx_b1 (FX1_isDisk_s S N p1) (fun r_1 => if r_1 = 0 then (some (0 : Int32)) else (fx_b1 (FX1_isStripe_s S N p2) (fun r_4 => if r_4 = 0 then (some (0 : Int32)) else (fx_b1 (FX1_chunk S) (fun r_7 => fx_b1 (FX1_in p3 (0 : Int32) (r_7 - (1 : Int32))) (fun r_9 => if r_9 = 0 then (some (0 : Int32)) else (some (1 : Int32))))))))
set_option maxHeartbeats 4000000 in
set_option maxRecDepth 100000 in
theorem mX1_isCell_s (l : Launch) (g : Gx) (A : Nat → Prop) (Rs Rn : Nat → Nat) (im : Option Nat) (X : va_W) (S : Sx) (N : Sx) (p1 : Int32) (p2 : Int32) (p3 : Int32) {o : Int32} (hF : FX1_isCell_s S N p1 p2 p3 = some o) :
    cx_i l yX1_isCell cX1_isCell 4 .boolean rmX1_isCell [.ref (Rs 100), .int p1, .int p2, .int p3] g A (sC g Rs (some (Rn 100)) im S ++ (stC g Rn N ++ X)) o (sC g Rs (some (Rn 100)) im S ++ (stC g Rn N ++ X)) 0 0 := by
  refine cx_i_of (by decide) (Nat.le_of_ble_eq_true rfl) ?_
  intro p e s m av below meth c Q E hret H hw ls hl
  have E : cx_E p m meth c cX1_isCell 4 s av RX1 g A := E
  have hx := E.1.1
  have hb := E.1.2.1
  have hl : lv_has ls 4 [(0, .ref (Rs 100)), (1, .int p1), (2, .int p2), (3, .int p3)] := hl
  generalize hlc : ([] : List Loc) = locs at hw ⊢
  clear hlc
  unfold FX1_isCell_s at hF
  refine lv_aload_n hx hb dX1_isCell_0 rfl (lv_at hl 0 rfl) ?_
  refine lv_iload_n hx hb dX1_isCell_1 rfl (lv_at hl 1 rfl) ?_
  replace hF := fx_b1_e hF
  obtain ⟨r_1, h_2, hF⟩ := hF
  refine cx_cVi (r := r_1) (ws := sC g Rs (some (Rn 100)) im S ++ (stC g Rn N ++ X)) (ws' := sC g Rs (some (Rn 100)) im S ++ (stC g Rn N ++ X)) (As := [.int p1]) (rest := []) E (mX1_isDisk_s l g A Rs Rn _ _ S N p1 h_2) (kwX1_X1_isDisk E ⟨Nat.le_of_ble_eq_true rfl, Nat.le_of_ble_eq_true rfl⟩) 0 1 rfl rfl rfl hw rfl hl.1 rfl (Nat.le_of_ble_eq_true rfl) dX1_isCell_2 ⟨Nat.le_of_ble_eq_true rfl, Nat.le_of_ble_eq_true rfl⟩ (fun H locs hw => ?_)
  refine lv_if_eq (tgt := 34) hx hb dX1_isCell_5 (by decide) (fun c_3 => ?_) (fun c_3 => ?_)
  · replace hF := fx_tt c_3 hF
    refine lv_iconst (v := (0 : Int32)) hx hb dX1_isCell_34 (by decide) ?_
    obtain rfl := Option.some.inj hF
    exact hret _ _ _ _ _ rfl (by decide) hw dX1_isCell_35
  · replace hF := fx_ff c_3 hF
    refine lv_aload_n hx hb dX1_isCell_8 rfl (lv_at hl 0 rfl) ?_
    refine lv_iload_n hx hb dX1_isCell_9 rfl (lv_at hl 2 rfl) ?_
    replace hF := fx_b1_e hF
    obtain ⟨r_4, h_5, hF⟩ := hF
    refine cx_cVi (r := r_4) (ws := sC g Rs (some (Rn 100)) im S ++ (stC g Rn N ++ X)) (ws' := sC g Rs (some (Rn 100)) im S ++ (stC g Rn N ++ X)) (As := [.int p2]) (rest := []) E (mX1_isStripe_s l g A Rs Rn _ _ S N p2 h_5) (kwX1_X1_isStripe E ⟨Nat.le_of_ble_eq_true rfl, Nat.le_of_ble_eq_true rfl⟩) 0 1 rfl rfl rfl hw rfl hl.1 rfl (Nat.le_of_ble_eq_true rfl) dX1_isCell_10 ⟨Nat.le_of_ble_eq_true rfl, Nat.le_of_ble_eq_true rfl⟩ (fun H locs hw => ?_)
    refine lv_if_eq (tgt := 34) hx hb dX1_isCell_13 (by decide) (fun c_6 => ?_) (fun c_6 => ?_)
    · replace hF := fx_tt c_6 hF
      refine lv_iconst (v := (0 : Int32)) hx hb dX1_isCell_34 (by decide) ?_
      obtain rfl := Option.some.inj hF
      exact hret _ _ _ _ _ rfl (by decide) hw dX1_isCell_35
    · replace hF := fx_ff c_6 hF
      refine lv_iload_n hx hb dX1_isCell_16 rfl (lv_at hl 3 rfl) ?_
      refine lv_iconst (v := (0 : Int32)) hx hb dX1_isCell_17 (by decide) ?_
      refine lv_aload_n hx hb dX1_isCell_18 rfl (lv_at hl 0 rfl) ?_
      replace hF := fx_b1_e hF
      obtain ⟨r_7, h_8, hF⟩ := hF
      refine cx_cVi (r := r_7) (ws := sC g Rs (some (Rn 100)) im S ++ (stC g Rn N ++ X)) (ws' := sC g Rs (some (Rn 100)) im S ++ (stC g Rn N ++ X)) (As := []) (rest := [.int (0 : Int32), .int p3]) E (mX1_chunk l g A Rs _ _ _ S h_8) (kwX1_X1_chunk E ⟨Nat.le_of_ble_eq_true rfl, Nat.le_of_ble_eq_true rfl⟩) 0 1 rfl rfl rfl hw rfl hl.1 rfl (Nat.le_of_ble_eq_true rfl) dX1_isCell_19 ⟨Nat.le_of_ble_eq_true rfl, Nat.le_of_ble_eq_true rfl⟩ (fun H locs hw => ?_)
      refine lv_iconst (v := (1 : Int32)) hx hb dX1_isCell_22 (by decide) ?_
      refine lv_isub hx hb dX1_isCell_23 ?_
      replace hF := fx_b1_e hF
      obtain ⟨r_9, h_10, hF⟩ := hF
      refine cx_cSi (r := r_9) (ws := sC g Rs (some (Rn 100)) im S ++ (stC g Rn N ++ X)) (ws' := sC g Rs (some (Rn 100)) im S ++ (stC g Rn N ++ X)) (As := [.int p3, .int (0 : Int32), .int (r_7 - (1 : Int32))]) (rest := []) E (mX1_in l g A (sC g Rs (some (Rn 100)) im S ++ (stC g Rn N ++ X)) p3 (0 : Int32) (r_7 - (1 : Int32)) h_10) (kwX1_X1_in E ⟨Nat.le_of_ble_eq_true rfl, Nat.le_of_ble_eq_true rfl⟩) hw rfl hl.1 rfl (Nat.le_of_ble_eq_true rfl) dX1_isCell_24 ⟨Nat.le_of_ble_eq_true rfl, Nat.le_of_ble_eq_true rfl⟩ (fun H locs hw => ?_)
      refine lv_if_eq (tgt := 34) hx hb dX1_isCell_27 (by decide) (fun c_11 => ?_) (fun c_11 => ?_)
      · replace hF := fx_tt c_11 hF
        refine lv_iconst (v := (0 : Int32)) hx hb dX1_isCell_34 (by decide) ?_
        obtain rfl := Option.some.inj hF
        exact hret _ _ _ _ _ rfl (by decide) hw dX1_isCell_35
      · replace hF := fx_ff c_11 hF
        refine lv_iconst (v := (1 : Int32)) hx hb dX1_isCell_30 (by decide) ?_
        refine lv_goto (tgt := 35) hx hb dX1_isCell_31 (by decide) ?_
        obtain rfl := Option.some.inj hF
        exact hret _ _ _ _ _ rfl (by decide) hw dX1_isCell_35
/-! isCell(III)Z -/
def FX1_isCell_n (S : Sx) (p1 : Int32) (p2 : Int32) (p3 : Int32) : Option Int32 :=
  some (0 : Int32)
set_option maxHeartbeats 4000000 in
set_option maxRecDepth 100000 in
theorem mX1_isCell_n (l : Launch) (g : Gx) (A : Nat → Prop) (Rs : Nat → Nat) (im : Option Nat) (X : va_W) (S : Sx) (p1 : Int32) (p2 : Int32) (p3 : Int32) {o : Int32} (hF : FX1_isCell_n S p1 p2 p3 = some o) :
    cx_i l yX1_isCell cX1_isCell 4 .boolean rmX1_isCell [.ref (Rs 100), .int p1, .int p2, .int p3] g A (sC g Rs none im S ++ X) o (sC g Rs none im S ++ X) 0 0 := by
  refine cx_i_of (by decide) (Nat.le_of_ble_eq_true rfl) ?_
  intro p e s m av below meth c Q E hret H hw ls hl
  have E : cx_E p m meth c cX1_isCell 4 s av RX1 g A := E
  have hx := E.1.1
  have hb := E.1.2.1
  have hl : lv_has ls 4 [(0, .ref (Rs 100)), (1, .int p1), (2, .int p2), (3, .int p3)] := hl
  generalize hlc : ([] : List Loc) = locs at hw ⊢
  clear hlc
  unfold FX1_isCell_n at hF
  refine lv_aload_n hx hb dX1_isCell_0 rfl (lv_at hl 0 rfl) ?_
  refine lv_iload_n hx hb dX1_isCell_1 rfl (lv_at hl 1 rfl) ?_
  refine cx_cVi (r := (0 : Int32)) (ws := sC g Rs none im S ++ X) (ws' := sC g Rs none im S ++ X) (As := [.int p1]) (rest := []) E (mX1_isDisk_n l g A Rs _ _ S p1 (o := (0 : Int32)) rfl) (kwX1_X1_isDisk E ⟨Nat.le_of_ble_eq_true rfl, Nat.le_of_ble_eq_true rfl⟩) 0 1 rfl rfl rfl hw rfl hl.1 rfl (Nat.le_of_ble_eq_true rfl) dX1_isCell_2 ⟨Nat.le_of_ble_eq_true rfl, Nat.le_of_ble_eq_true rfl⟩ (fun H locs hw => ?_)
  refine lv_if_eq (tgt := 34) hx hb dX1_isCell_5 (by decide) (fun _ => ?_) (fun c_ => absurd c_ (by decide))
  refine lv_iconst (v := (0 : Int32)) hx hb dX1_isCell_34 (by decide) ?_
  obtain rfl := Option.some.inj hF
  exact hret _ _ _ _ _ rfl (by decide) hw dX1_isCell_35
/-! cell(III)I -/
def FX1_cell_s (S : Sx) (N : Sx) (p1 : Int32) (p2 : Int32) (p3 : Int32) : Option Int32 :=
  fx_b1 (FX1_isCell_s S N p1 p2 p3) (fun r_1 => if r_1 = 0 then (some (-1 : Int32)) else (fx_b1 (FX7_isThere N p1 p2) (fun r_4 => if r_4 = 0 then (some (-1000000 : Int32)) else (fx_b1 (FX1_cellOf p1 p2 p3) (fun r_7 => fx_gd (fx_in r_7 384) (some (gx_A N 0 r_7.toNatClampNeg)))))))
set_option maxHeartbeats 4000000 in
set_option maxRecDepth 100000 in
theorem mX1_cell_s (l : Launch) (g : Gx) (A : Nat → Prop) (Rs Rn : Nat → Nat) (im : Option Nat) (X : va_W) (S : Sx) (N : Sx) (p1 : Int32) (p2 : Int32) (p3 : Int32) {o : Int32} (hF : FX1_cell_s S N p1 p2 p3 = some o) :
    cx_i l yX1_cell cX1_cell 4 .int rmX1_cell [.ref (Rs 100), .int p1, .int p2, .int p3] g A (sC g Rs (some (Rn 100)) im S ++ (stC g Rn N ++ X)) o (sC g Rs (some (Rn 100)) im S ++ (stC g Rn N ++ X)) 0 0 := by
  refine cx_i_of (by decide) (Nat.le_of_ble_eq_true rfl) ?_
  intro p e s m av below meth c Q E hret H hw ls hl
  have E : cx_E p m meth c cX1_cell 4 s av RX1 g A := E
  have hx := E.1.1
  have hb := E.1.2.1
  have hl : lv_has ls 4 [(0, .ref (Rs 100)), (1, .int p1), (2, .int p2), (3, .int p3)] := hl
  generalize hlc : ([] : List Loc) = locs at hw ⊢
  clear hlc
  unfold FX1_cell_s at hF
  refine lv_aload_n hx hb dX1_cell_0 rfl (lv_at hl 0 rfl) ?_
  refine lv_iload_n hx hb dX1_cell_1 rfl (lv_at hl 1 rfl) ?_
  refine lv_iload_n hx hb dX1_cell_2 rfl (lv_at hl 2 rfl) ?_
  refine lv_iload_n hx hb dX1_cell_3 rfl (lv_at hl 3 rfl) ?_
  replace hF := fx_b1_e hF
  obtain ⟨r_1, h_2, hF⟩ := hF
  refine cx_cVi (r := r_1) (ws := sC g Rs (some (Rn 100)) im S ++ (stC g Rn N ++ X)) (ws' := sC g Rs (some (Rn 100)) im S ++ (stC g Rn N ++ X)) (As := [.int p1, .int p2, .int p3]) (rest := []) E (mX1_isCell_s l g A Rs Rn _ _ S N p1 p2 p3 h_2) (kwX1_X1_isCell E ⟨Nat.le_of_ble_eq_true rfl, Nat.le_of_ble_eq_true rfl⟩) 0 1 rfl rfl rfl hw rfl hl.1 rfl (Nat.le_of_ble_eq_true rfl) dX1_cell_4 ⟨Nat.le_of_ble_eq_true rfl, Nat.le_of_ble_eq_true rfl⟩ (fun H locs hw => ?_)
  refine lv_if_ne (tgt := 14) hx hb dX1_cell_7 (by decide) (fun c_3 => ?_) (fun c_3 => ?_)
  · replace hF := fx_ff c_3 hF
    refine lv_aload_n hx hb dX1_cell_14 rfl (lv_at hl 0 rfl) ?_
    refine gX1_19s E hw dX1_cell_15 ?_
    refine lv_iload_n hx hb dX1_cell_18 rfl (lv_at hl 1 rfl) ?_
    refine lv_iload_n hx hb dX1_cell_19 rfl (lv_at hl 2 rfl) ?_
    replace hF := fx_b1_e hF
    obtain ⟨r_4, h_5, hF⟩ := hF
    have hw : cx_W g A s (stC g Rn N ++ (sC g Rs (some (Rn 100)) im S ++ X)) H locs := cx_W.perm hw (List.perm_append_comm_assoc _ _ _)
    refine cx_cVi (r := r_4) (ws := stC g Rn N ++ (sC g Rs (some (Rn 100)) im S ++ X)) (ws' := stC g Rn N ++ (sC g Rs (some (Rn 100)) im S ++ X)) (As := [.int p1, .int p2]) (rest := []) E (mX7_isThere l g A Rn _ N p1 p2 h_5) (kwX1_X7_isThere E ⟨Nat.le_of_ble_eq_true rfl, Nat.le_of_ble_eq_true rfl⟩) 0 2 rfl rfl rfl hw rfl hl.1 rfl (Nat.le_of_ble_eq_true rfl) dX1_cell_20 ⟨Nat.le_of_ble_eq_true rfl, Nat.le_of_ble_eq_true rfl⟩ (fun H locs hw => ?_)
    have hw : cx_W g A s (sC g Rs (some (Rn 100)) im S ++ (stC g Rn N ++ X)) H locs := cx_W.perm hw (List.perm_append_comm_assoc _ _ _)
    refine lv_if_eq (tgt := 43) hx hb dX1_cell_23 (by decide) (fun c_6 => ?_) (fun c_6 => ?_)
    · replace hF := fx_tt c_6 hF
      refine lv_ldcw (own := RX1) (v := (-1000000 : Int32)) hx hb E.1.2.2.2.1 (E.1.2.2.2.2 _ q844) dX1_cell_43 ?_
      obtain rfl := Option.some.inj hF
      exact hret _ _ _ _ _ rfl rfl hw dX1_cell_46
    · replace hF := fx_ff c_6 hF
      refine lv_aload_n hx hb dX1_cell_26 rfl (lv_at hl 0 rfl) ?_
      refine gX1_19s E hw dX1_cell_27 ?_
      refine gNX7_0 E hw dX1_cell_30 ?_
      refine lv_iload_n hx hb dX1_cell_33 rfl (lv_at hl 1 rfl) ?_
      refine lv_iload_n hx hb dX1_cell_34 rfl (lv_at hl 2 rfl) ?_
      refine lv_iload_n hx hb dX1_cell_35 rfl (lv_at hl 3 rfl) ?_
      replace hF := fx_b1_e hF
      obtain ⟨r_7, h_8, hF⟩ := hF
      refine cx_cSi (r := r_7) (ws := sC g Rs (some (Rn 100)) im S ++ (stC g Rn N ++ X)) (ws' := sC g Rs (some (Rn 100)) im S ++ (stC g Rn N ++ X)) (As := [.int p1, .int p2, .int p3]) (rest := [.ref (Rn 0)]) E (mX1_cellOf l g A (sC g Rs (some (Rn 100)) im S ++ (stC g Rn N ++ X)) p1 p2 p3 h_8) (kwX1_X1_cellOf E ⟨Nat.le_of_ble_eq_true rfl, Nat.le_of_ble_eq_true rfl⟩) hw rfl hl.1 rfl (Nat.le_of_ble_eq_true rfl) dX1_cell_36 ⟨Nat.le_of_ble_eq_true rfl, Nat.le_of_ble_eq_true rfl⟩ (fun H locs hw => ?_)
      replace hF := fx_gd_e hF
      obtain ⟨h_9, hF⟩ := hF
      refine raX7_0 E hw (fx_in_e h_9) dX1_cell_39 ?_
      refine lv_goto (tgt := 46) hx hb dX1_cell_40 (by decide) ?_
      obtain rfl := Option.some.inj hF
      exact hret _ _ _ _ _ rfl rfl hw dX1_cell_46
  · replace hF := fx_tt c_3 hF
    refine lv_iconst (v := (-1 : Int32)) hx hb dX1_cell_10 (by decide) ?_
    refine lv_goto (tgt := 46) hx hb dX1_cell_11 (by decide) ?_
    obtain rfl := Option.some.inj hF
    exact hret _ _ _ _ _ rfl rfl hw dX1_cell_46
/-! cell(III)I -/
def FX1_cell_n (S : Sx) (p1 : Int32) (p2 : Int32) (p3 : Int32) : Option Int32 :=
  some (-1 : Int32)
set_option maxHeartbeats 4000000 in
set_option maxRecDepth 100000 in
theorem mX1_cell_n (l : Launch) (g : Gx) (A : Nat → Prop) (Rs : Nat → Nat) (im : Option Nat) (X : va_W) (S : Sx) (p1 : Int32) (p2 : Int32) (p3 : Int32) {o : Int32} (hF : FX1_cell_n S p1 p2 p3 = some o) :
    cx_i l yX1_cell cX1_cell 4 .int rmX1_cell [.ref (Rs 100), .int p1, .int p2, .int p3] g A (sC g Rs none im S ++ X) o (sC g Rs none im S ++ X) 0 0 := by
  refine cx_i_of (by decide) (Nat.le_of_ble_eq_true rfl) ?_
  intro p e s m av below meth c Q E hret H hw ls hl
  have E : cx_E p m meth c cX1_cell 4 s av RX1 g A := E
  have hx := E.1.1
  have hb := E.1.2.1
  have hl : lv_has ls 4 [(0, .ref (Rs 100)), (1, .int p1), (2, .int p2), (3, .int p3)] := hl
  generalize hlc : ([] : List Loc) = locs at hw ⊢
  clear hlc
  unfold FX1_cell_n at hF
  refine lv_aload_n hx hb dX1_cell_0 rfl (lv_at hl 0 rfl) ?_
  refine lv_iload_n hx hb dX1_cell_1 rfl (lv_at hl 1 rfl) ?_
  refine lv_iload_n hx hb dX1_cell_2 rfl (lv_at hl 2 rfl) ?_
  refine lv_iload_n hx hb dX1_cell_3 rfl (lv_at hl 3 rfl) ?_
  refine cx_cVi (r := (0 : Int32)) (ws := sC g Rs none im S ++ X) (ws' := sC g Rs none im S ++ X) (As := [.int p1, .int p2, .int p3]) (rest := []) E (mX1_isCell_n l g A Rs _ _ S p1 p2 p3 (o := (0 : Int32)) rfl) (kwX1_X1_isCell E ⟨Nat.le_of_ble_eq_true rfl, Nat.le_of_ble_eq_true rfl⟩) 0 1 rfl rfl rfl hw rfl hl.1 rfl (Nat.le_of_ble_eq_true rfl) dX1_cell_4 ⟨Nat.le_of_ble_eq_true rfl, Nat.le_of_ble_eq_true rfl⟩ (fun H locs hw => ?_)
  refine lv_if_ne (tgt := 14) hx hb dX1_cell_7 (by decide) (fun c_ => absurd c_ (by decide)) (fun _ => ?_)
  refine lv_iconst (v := (-1 : Int32)) hx hb dX1_cell_10 (by decide) ?_
  refine lv_goto (tgt := 46) hx hb dX1_cell_11 (by decide) ?_
  obtain rfl := Option.some.inj hF
  exact hret _ _ _ _ _ rfl rfl hw dX1_cell_46
/-! disk(II)I -/
def FX1_disk_s (S : Sx) (N : Sx) (p1 : Int32) (p2 : Int32) : Option Int32 :=
  fx_b1 (FX1_isDisk_s S N p1) (fun r_1 => if r_1 = 0 then (some (-1 : Int32)) else (fx_b1 (FX1_in p2 (0 : Int32) (4 : Int32)) (fun r_4 => if r_4 = 0 then (some (-1 : Int32)) else (if p2 = (0 : Int32) then (fx_gd (fx_in p1 8) (some (gx_A N 1 p1.toNatClampNeg))) else if p2 = (1 : Int32) then (fx_b1 (FX1_doneOf_s S N p1) (fun r_10 => some r_10)) else if p2 = (2 : Int32) then (fx_gd (fx_in p1 8) (some (gx_A N 3 p1.toNatClampNeg))) else if p2 = (3 : Int32) then (fx_gd (fx_in p1 8) (some (gx_A N 4 p1.toNatClampNeg))) else (fx_gd (fx_in p1 8) (some (gx_A N 5 p1.toNatClampNeg)))))))
set_option maxHeartbeats 4000000 in
set_option maxRecDepth 100000 in
theorem mX1_disk_s (l : Launch) (g : Gx) (A : Nat → Prop) (Rs Rn : Nat → Nat) (im : Option Nat) (X : va_W) (S : Sx) (N : Sx) (p1 : Int32) (p2 : Int32) {o : Int32} (hF : FX1_disk_s S N p1 p2 = some o) :
    cx_i l yX1_disk cX1_disk 3 .int rmX1_disk [.ref (Rs 100), .int p1, .int p2] g A (sC g Rs (some (Rn 100)) im S ++ (stC g Rn N ++ X)) o (sC g Rs (some (Rn 100)) im S ++ (stC g Rn N ++ X)) 0 0 := by
  refine cx_i_of (by decide) (Nat.le_of_ble_eq_true rfl) ?_
  intro p e s m av below meth c Q E hret H hw ls hl
  have E : cx_E p m meth c cX1_disk 3 s av RX1 g A := E
  have hx := E.1.1
  have hb := E.1.2.1
  have hl : lv_has ls 3 [(0, .ref (Rs 100)), (1, .int p1), (2, .int p2)] := hl
  generalize hlc : ([] : List Loc) = locs at hw ⊢
  clear hlc
  unfold FX1_disk_s at hF
  refine lv_aload_n hx hb dX1_disk_0 rfl (lv_at hl 0 rfl) ?_
  refine lv_iload_n hx hb dX1_disk_1 rfl (lv_at hl 1 rfl) ?_
  replace hF := fx_b1_e hF
  obtain ⟨r_1, h_2, hF⟩ := hF
  refine cx_cVi (r := r_1) (ws := sC g Rs (some (Rn 100)) im S ++ (stC g Rn N ++ X)) (ws' := sC g Rs (some (Rn 100)) im S ++ (stC g Rn N ++ X)) (As := [.int p1]) (rest := []) E (mX1_isDisk_s l g A Rs Rn _ _ S N p1 h_2) (kwX1_X1_isDisk E ⟨Nat.le_of_ble_eq_true rfl, Nat.le_of_ble_eq_true rfl⟩) 0 1 rfl rfl rfl hw rfl hl.1 rfl (Nat.le_of_ble_eq_true rfl) dX1_disk_2 ⟨Nat.le_of_ble_eq_true rfl, Nat.le_of_ble_eq_true rfl⟩ (fun H locs hw => ?_)
  refine lv_if_eq (tgt := 17) hx hb dX1_disk_5 (by decide) (fun c_3 => ?_) (fun c_3 => ?_)
  · replace hF := fx_tt c_3 hF
    refine lv_iconst (v := (-1 : Int32)) hx hb dX1_disk_17 (by decide) ?_
    obtain rfl := Option.some.inj hF
    exact hret _ _ _ _ _ rfl rfl hw dX1_disk_18
  · replace hF := fx_ff c_3 hF
    refine lv_iload_n hx hb dX1_disk_8 rfl (lv_at hl 2 rfl) ?_
    refine lv_iconst (v := (0 : Int32)) hx hb dX1_disk_9 (by decide) ?_
    refine lv_iconst (v := (4 : Int32)) hx hb dX1_disk_10 (by decide) ?_
    replace hF := fx_b1_e hF
    obtain ⟨r_4, h_5, hF⟩ := hF
    refine cx_cSi (r := r_4) (ws := sC g Rs (some (Rn 100)) im S ++ (stC g Rn N ++ X)) (ws' := sC g Rs (some (Rn 100)) im S ++ (stC g Rn N ++ X)) (As := [.int p2, .int (0 : Int32), .int (4 : Int32)]) (rest := []) E (mX1_in l g A (sC g Rs (some (Rn 100)) im S ++ (stC g Rn N ++ X)) p2 (0 : Int32) (4 : Int32) h_5) (kwX1_X1_in E ⟨Nat.le_of_ble_eq_true rfl, Nat.le_of_ble_eq_true rfl⟩) hw rfl hl.1 rfl (Nat.le_of_ble_eq_true rfl) dX1_disk_11 ⟨Nat.le_of_ble_eq_true rfl, Nat.le_of_ble_eq_true rfl⟩ (fun H locs hw => ?_)
    refine lv_if_ne (tgt := 19) hx hb dX1_disk_14 (by decide) (fun c_6 => ?_) (fun c_6 => ?_)
    · replace hF := fx_ff c_6 hF
      refine lv_iload_n hx hb dX1_disk_19 rfl (lv_at hl 2 rfl) ?_
      by_cases c_7 : p2 = (0 : Int32)
      · replace hF := fx_tt c_7 hF
        refine lv_tableIn (off := 32) (tgt := 52) hx hb dX1_disk_20 (by rw [c_7]; decide) (by rw [c_7]; decide) (by rw [c_7]; rfl) (by decide) ?_
        refine lv_aload_n hx hb dX1_disk_52 rfl (lv_at hl 0 rfl) ?_
        refine gX1_19s E hw dX1_disk_53 ?_
        refine gNX7_1 E hw dX1_disk_56 ?_
        refine lv_iload_n hx hb dX1_disk_59 rfl (lv_at hl 1 rfl) ?_
        replace hF := fx_gd_e hF
        obtain ⟨h_8, hF⟩ := hF
        refine raX7_1 E hw (fx_in_e h_8) dX1_disk_60 ?_
        obtain rfl := Option.some.inj hF
        exact hret _ _ _ _ _ rfl rfl hw dX1_disk_61
      replace hF := fx_ff c_7 hF
      by_cases c_9 : p2 = (1 : Int32)
      · replace hF := fx_tt c_9 hF
        refine lv_tableIn (off := 42) (tgt := 62) hx hb dX1_disk_20 (by rw [c_9]; decide) (by rw [c_9]; decide) (by rw [c_9]; rfl) (by decide) ?_
        refine lv_aload_n hx hb dX1_disk_62 rfl (lv_at hl 0 rfl) ?_
        refine lv_iload_n hx hb dX1_disk_63 rfl (lv_at hl 1 rfl) ?_
        replace hF := fx_b1_e hF
        obtain ⟨r_10, h_11, hF⟩ := hF
        refine cx_cVi (r := r_10) (ws := sC g Rs (some (Rn 100)) im S ++ (stC g Rn N ++ X)) (ws' := sC g Rs (some (Rn 100)) im S ++ (stC g Rn N ++ X)) (As := [.int p1]) (rest := []) E (mX1_doneOf_s l g A Rs Rn _ _ S N p1 h_11) (kwX1_X1_doneOf E ⟨Nat.le_of_ble_eq_true rfl, Nat.le_of_ble_eq_true rfl⟩) 0 1 rfl rfl rfl hw rfl hl.1 rfl (Nat.le_of_ble_eq_true rfl) dX1_disk_64 ⟨Nat.le_of_ble_eq_true rfl, Nat.le_of_ble_eq_true rfl⟩ (fun H locs hw => ?_)
        obtain rfl := Option.some.inj hF
        exact hret _ _ _ _ _ rfl rfl hw dX1_disk_67
      replace hF := fx_ff c_9 hF
      by_cases c_12 : p2 = (2 : Int32)
      · replace hF := fx_tt c_12 hF
        refine lv_tableIn (off := 48) (tgt := 68) hx hb dX1_disk_20 (by rw [c_12]; decide) (by rw [c_12]; decide) (by rw [c_12]; rfl) (by decide) ?_
        refine lv_aload_n hx hb dX1_disk_68 rfl (lv_at hl 0 rfl) ?_
        refine gX1_19s E hw dX1_disk_69 ?_
        refine gNX7_3 E hw dX1_disk_72 ?_
        refine lv_iload_n hx hb dX1_disk_75 rfl (lv_at hl 1 rfl) ?_
        replace hF := fx_gd_e hF
        obtain ⟨h_13, hF⟩ := hF
        refine raX7_3 E hw (fx_in_e h_13) dX1_disk_76 ?_
        obtain rfl := Option.some.inj hF
        exact hret _ _ _ _ _ rfl rfl hw dX1_disk_77
      replace hF := fx_ff c_12 hF
      by_cases c_14 : p2 = (3 : Int32)
      · replace hF := fx_tt c_14 hF
        refine lv_tableIn (off := 58) (tgt := 78) hx hb dX1_disk_20 (by rw [c_14]; decide) (by rw [c_14]; decide) (by rw [c_14]; rfl) (by decide) ?_
        refine lv_aload_n hx hb dX1_disk_78 rfl (lv_at hl 0 rfl) ?_
        refine gX1_19s E hw dX1_disk_79 ?_
        refine gNX7_4 E hw dX1_disk_82 ?_
        refine lv_iload_n hx hb dX1_disk_85 rfl (lv_at hl 1 rfl) ?_
        replace hF := fx_gd_e hF
        obtain ⟨h_15, hF⟩ := hF
        refine raX7_4 E hw (fx_in_e h_15) dX1_disk_86 ?_
        obtain rfl := Option.some.inj hF
        exact hret _ _ _ _ _ rfl rfl hw dX1_disk_87
      replace hF := fx_ff c_14 hF
      refine lv_tableOut (tgt := 88) hx hb dX1_disk_20 (by have z0 : p2.toInt ≠ 0 := fx_ne c_7; have z1 : p2.toInt ≠ 1 := fx_ne c_9; have z2 : p2.toInt ≠ 2 := fx_ne c_12; have z3 : p2.toInt ≠ 3 := fx_ne c_14; omega) (by decide) ?_
      refine lv_aload_n hx hb dX1_disk_88 rfl (lv_at hl 0 rfl) ?_
      refine gX1_19s E hw dX1_disk_89 ?_
      refine gNX7_5 E hw dX1_disk_92 ?_
      refine lv_iload_n hx hb dX1_disk_95 rfl (lv_at hl 1 rfl) ?_
      replace hF := fx_gd_e hF
      obtain ⟨h_16, hF⟩ := hF
      refine raX7_5 E hw (fx_in_e h_16) dX1_disk_96 ?_
      obtain rfl := Option.some.inj hF
      exact hret _ _ _ _ _ rfl rfl hw dX1_disk_97
    · replace hF := fx_tt c_6 hF
      refine lv_iconst (v := (-1 : Int32)) hx hb dX1_disk_17 (by decide) ?_
      obtain rfl := Option.some.inj hF
      exact hret _ _ _ _ _ rfl rfl hw dX1_disk_18
/-! disk(II)I -/
def FX1_disk_n (S : Sx) (p1 : Int32) (p2 : Int32) : Option Int32 :=
  some (-1 : Int32)
set_option maxHeartbeats 4000000 in
set_option maxRecDepth 100000 in
theorem mX1_disk_n (l : Launch) (g : Gx) (A : Nat → Prop) (Rs : Nat → Nat) (im : Option Nat) (X : va_W) (S : Sx) (p1 : Int32) (p2 : Int32) {o : Int32} (hF : FX1_disk_n S p1 p2 = some o) :
    cx_i l yX1_disk cX1_disk 3 .int rmX1_disk [.ref (Rs 100), .int p1, .int p2] g A (sC g Rs none im S ++ X) o (sC g Rs none im S ++ X) 0 0 := by
  refine cx_i_of (by decide) (Nat.le_of_ble_eq_true rfl) ?_
  intro p e s m av below meth c Q E hret H hw ls hl
  have E : cx_E p m meth c cX1_disk 3 s av RX1 g A := E
  have hx := E.1.1
  have hb := E.1.2.1
  have hl : lv_has ls 3 [(0, .ref (Rs 100)), (1, .int p1), (2, .int p2)] := hl
  generalize hlc : ([] : List Loc) = locs at hw ⊢
  clear hlc
  unfold FX1_disk_n at hF
  refine lv_aload_n hx hb dX1_disk_0 rfl (lv_at hl 0 rfl) ?_
  refine lv_iload_n hx hb dX1_disk_1 rfl (lv_at hl 1 rfl) ?_
  refine cx_cVi (r := (0 : Int32)) (ws := sC g Rs none im S ++ X) (ws' := sC g Rs none im S ++ X) (As := [.int p1]) (rest := []) E (mX1_isDisk_n l g A Rs _ _ S p1 (o := (0 : Int32)) rfl) (kwX1_X1_isDisk E ⟨Nat.le_of_ble_eq_true rfl, Nat.le_of_ble_eq_true rfl⟩) 0 1 rfl rfl rfl hw rfl hl.1 rfl (Nat.le_of_ble_eq_true rfl) dX1_disk_2 ⟨Nat.le_of_ble_eq_true rfl, Nat.le_of_ble_eq_true rfl⟩ (fun H locs hw => ?_)
  refine lv_if_eq (tgt := 17) hx hb dX1_disk_5 (by decide) (fun _ => ?_) (fun c_ => absurd c_ (by decide))
  refine lv_iconst (v := (-1 : Int32)) hx hb dX1_disk_17 (by decide) ?_
  obtain rfl := Option.some.inj hF
  exact hret _ _ _ _ _ rfl rfl hw dX1_disk_18
/-! told(IIIII)I -/
def JX1_told_s_42 (S : Sx) (p4 : Int32) (p2 : Int32) (p5 : Int32) (N : Sx) (p3 : Int32) (p1 : Int32) : Option (Int32 × Sx) :=
  fx_b1 (FX1_partOf S p4 p2) (fun r_10 => fx_b1 (FX1_partOf S p5 p2) (fun r_12 => fx_lt (((1 : Int32) <<< (r_10 &&& 31)) ||| ((1 : Int32) <<< (r_12 &&& 31))) (fun v_14 => fx_b1 (FX1_absent_s S N p2) (fun r_15 => if (r_15 &&& (v_14 ^^^ (-1 : Int32))) = 0 then (fx_b1 (FX1_solves_s S N p2 p3 v_14) (fun S_18 => fx_b1 (FX1_partOf S_18 p1 p2) (fun r_20 => fx_gd (fx_in r_20 8) (some ((gx_A S_18 27 r_20.toNatClampNeg), S_18))))) else (some ((-1000000 : Int32), S))))))
def FX1_told_s (S : Sx) (N : Sx) (p1 : Int32) (p2 : Int32) (p3 : Int32) (p4 : Int32) (p5 : Int32) : Option (Int32 × Sx) :=
  fx_b1 (FX1_isCell_s S N p1 p2 p3) (fun r_1 => if r_1 = 0 then (some ((-1 : Int32), S)) else (fx_b1 (FX1_isDisk_s S N p4) (fun r_4 => if r_4 = 0 then (some ((-1 : Int32), S)) else (fx_b1 (FX1_isDisk_s S N p5) (fun r_7 => if r_7 = 0 then (some ((-1 : Int32), S)) else (if p1 = p4 then (JX1_told_s_42 S p4 p2 p5 N p3 p1) else (if p1 = p5 then (JX1_told_s_42 S p4 p2 p5 N p3 p1) else (some ((-1 : Int32), S)))))))))
set_option maxHeartbeats 4000000 in
set_option maxRecDepth 100000 in
theorem mX1_told_s (l : Launch) (g : Gx) (A : Nat → Prop) (Rs Rn : Nat → Nat) (im : Option Nat) (X : va_W) (S : Sx) (N : Sx) (p1 : Int32) (p2 : Int32) (p3 : Int32) (p4 : Int32) (p5 : Int32) {o : Int32 × Sx} (hF : FX1_told_s S N p1 p2 p3 p4 p5 = some o) :
    cx_i l yX1_told cX1_told 7 .int rmX1_told [.ref (Rs 100), .int p1, .int p2, .int p3, .int p4, .int p5] g A (sC g Rs (some (Rn 100)) im S ++ (stC g Rn N ++ X)) o.1 (sC g Rs (some (Rn 100)) im o.2 ++ (stC g Rn N ++ X)) 0 0 := by
  refine cx_i_of (by decide) (Nat.le_of_ble_eq_true rfl) ?_
  intro p e s m av below meth c Q E hret H hw ls hl
  have E : cx_E p m meth c cX1_told 7 s av RX1 g A := E
  have hx := E.1.1
  have hb := E.1.2.1
  have hl : lv_has ls 7 [(0, .ref (Rs 100)), (1, .int p1), (2, .int p2), (3, .int p3), (4, .int p4), (5, .int p5)] := hl
  generalize hlc : ([] : List Loc) = locs at hw ⊢
  clear hlc
  unfold FX1_told_s at hF
  refine lv_aload_n hx hb dX1_told_0 rfl (lv_at hl 0 rfl) ?_
  refine lv_iload_n hx hb dX1_told_1 rfl (lv_at hl 1 rfl) ?_
  refine lv_iload_n hx hb dX1_told_2 rfl (lv_at hl 2 rfl) ?_
  refine lv_iload_n hx hb dX1_told_3 rfl (lv_at hl 3 rfl) ?_
  replace hF := fx_b1_e hF
  obtain ⟨r_1, h_2, hF⟩ := hF
  refine cx_cVi (r := r_1) (ws := sC g Rs (some (Rn 100)) im S ++ (stC g Rn N ++ X)) (ws' := sC g Rs (some (Rn 100)) im S ++ (stC g Rn N ++ X)) (As := [.int p1, .int p2, .int p3]) (rest := []) E (mX1_isCell_s l g A Rs Rn _ _ S N p1 p2 p3 h_2) (kwX1_X1_isCell E ⟨Nat.le_of_ble_eq_true rfl, Nat.le_of_ble_eq_true rfl⟩) 0 1 rfl rfl rfl hw rfl hl.1 rfl (Nat.le_of_ble_eq_true rfl) dX1_told_4 ⟨Nat.le_of_ble_eq_true rfl, Nat.le_of_ble_eq_true rfl⟩ (fun H locs hw => ?_)
  refine lv_if_eq (tgt := 40) hx hb dX1_told_7 (by decide) (fun c_3 => ?_) (fun c_3 => ?_)
  · replace hF := fx_tt c_3 hF
    refine lv_iconst (v := (-1 : Int32)) hx hb dX1_told_40 (by decide) ?_
    obtain rfl := Option.some.inj hF
    exact hret _ _ _ _ _ rfl rfl hw dX1_told_41
  · replace hF := fx_ff c_3 hF
    refine lv_aload_n hx hb dX1_told_10 rfl (lv_at hl 0 rfl) ?_
    refine lv_iload hx hb dX1_told_11 (lv_at hl 4 rfl) ?_
    replace hF := fx_b1_e hF
    obtain ⟨r_4, h_5, hF⟩ := hF
    refine cx_cVi (r := r_4) (ws := sC g Rs (some (Rn 100)) im S ++ (stC g Rn N ++ X)) (ws' := sC g Rs (some (Rn 100)) im S ++ (stC g Rn N ++ X)) (As := [.int p4]) (rest := []) E (mX1_isDisk_s l g A Rs Rn _ _ S N p4 h_5) (kwX1_X1_isDisk E ⟨Nat.le_of_ble_eq_true rfl, Nat.le_of_ble_eq_true rfl⟩) 0 1 rfl rfl rfl hw rfl hl.1 rfl (Nat.le_of_ble_eq_true rfl) dX1_told_13 ⟨Nat.le_of_ble_eq_true rfl, Nat.le_of_ble_eq_true rfl⟩ (fun H locs hw => ?_)
    refine lv_if_eq (tgt := 40) hx hb dX1_told_16 (by decide) (fun c_6 => ?_) (fun c_6 => ?_)
    · replace hF := fx_tt c_6 hF
      refine lv_iconst (v := (-1 : Int32)) hx hb dX1_told_40 (by decide) ?_
      obtain rfl := Option.some.inj hF
      exact hret _ _ _ _ _ rfl rfl hw dX1_told_41
    · replace hF := fx_ff c_6 hF
      refine lv_aload_n hx hb dX1_told_19 rfl (lv_at hl 0 rfl) ?_
      refine lv_iload hx hb dX1_told_20 (lv_at hl 5 rfl) ?_
      replace hF := fx_b1_e hF
      obtain ⟨r_7, h_8, hF⟩ := hF
      refine cx_cVi (r := r_7) (ws := sC g Rs (some (Rn 100)) im S ++ (stC g Rn N ++ X)) (ws' := sC g Rs (some (Rn 100)) im S ++ (stC g Rn N ++ X)) (As := [.int p5]) (rest := []) E (mX1_isDisk_s l g A Rs Rn _ _ S N p5 h_8) (kwX1_X1_isDisk E ⟨Nat.le_of_ble_eq_true rfl, Nat.le_of_ble_eq_true rfl⟩) 0 1 rfl rfl rfl hw rfl hl.1 rfl (Nat.le_of_ble_eq_true rfl) dX1_told_22 ⟨Nat.le_of_ble_eq_true rfl, Nat.le_of_ble_eq_true rfl⟩ (fun H locs hw => ?_)
      refine lv_if_eq (tgt := 40) hx hb dX1_told_25 (by decide) (fun c_9 => ?_) (fun c_9 => ?_)
      · replace hF := fx_tt c_9 hF
        refine lv_iconst (v := (-1 : Int32)) hx hb dX1_told_40 (by decide) ?_
        obtain rfl := Option.some.inj hF
        exact hret _ _ _ _ _ rfl rfl hw dX1_told_41
      · replace hF := fx_ff c_9 hF
        refine lv_iload_n hx hb dX1_told_28 rfl (lv_at hl 1 rfl) ?_
        refine lv_iload hx hb dX1_told_29 (lv_at hl 4 rfl) ?_
        have jn_42 : JX1_told_s_42 S p4 p2 p5 N p3 p1 = some o → ∀ (H : Heap) (locs : List Loc) (ls : Array Slot), cx_W g A s (sC g Rs (some (Rn 100)) im S ++ (stC g Rn N ++ X)) H locs → lv_has ls 7 [(0, .ref (Rs 100)), (1, .int p1), (2, .int p2), (3, .int p3), (4, .int p4), (5, .int p5)] → W p l e rmX1_told s m av below meth c H locs 0 0 Q (F0 m 42 ls []) := by
          intro  hJ_42 H locs ls hw hl
          unfold JX1_told_s_42 at hJ_42
          refine lv_iconst (v := (1 : Int32)) hx hb dX1_told_42 (by decide) ?_
          refine lv_aload_n hx hb dX1_told_43 rfl (lv_at hl 0 rfl) ?_
          refine lv_iload hx hb dX1_told_44 (lv_at hl 4 rfl) ?_
          refine lv_iload_n hx hb dX1_told_46 rfl (lv_at hl 2 rfl) ?_
          replace hJ_42 := fx_b1_e hJ_42
          obtain ⟨r_10, h_11, hJ_42⟩ := hJ_42
          refine cx_cVi (r := r_10) (ws := sC g Rs (some (Rn 100)) im S ++ (stC g Rn N ++ X)) (ws' := sC g Rs (some (Rn 100)) im S ++ (stC g Rn N ++ X)) (As := [.int p4, .int p2]) (rest := [.int (1 : Int32)]) E (mX1_partOf l g A Rs _ _ _ S p4 p2 h_11) (kwX1_X1_partOf E ⟨Nat.le_of_ble_eq_true rfl, Nat.le_of_ble_eq_true rfl⟩) 0 1 rfl rfl rfl hw rfl hl.1 rfl (Nat.le_of_ble_eq_true rfl) dX1_told_47 ⟨Nat.le_of_ble_eq_true rfl, Nat.le_of_ble_eq_true rfl⟩ (fun H locs hw => ?_)
          refine lv_ishl hx hb dX1_told_50 ?_
          refine lv_iconst (v := (1 : Int32)) hx hb dX1_told_51 (by decide) ?_
          refine lv_aload_n hx hb dX1_told_52 rfl (lv_at hl 0 rfl) ?_
          refine lv_iload hx hb dX1_told_53 (lv_at hl 5 rfl) ?_
          refine lv_iload_n hx hb dX1_told_55 rfl (lv_at hl 2 rfl) ?_
          replace hJ_42 := fx_b1_e hJ_42
          obtain ⟨r_12, h_13, hJ_42⟩ := hJ_42
          refine cx_cVi (r := r_12) (ws := sC g Rs (some (Rn 100)) im S ++ (stC g Rn N ++ X)) (ws' := sC g Rs (some (Rn 100)) im S ++ (stC g Rn N ++ X)) (As := [.int p5, .int p2]) (rest := [.int (1 : Int32), .int ((1 : Int32) <<< (r_10 &&& 31))]) E (mX1_partOf l g A Rs _ _ _ S p5 p2 h_13) (kwX1_X1_partOf E ⟨Nat.le_of_ble_eq_true rfl, Nat.le_of_ble_eq_true rfl⟩) 0 1 rfl rfl rfl hw rfl hl.1 rfl (Nat.le_of_ble_eq_true rfl) dX1_told_56 ⟨Nat.le_of_ble_eq_true rfl, Nat.le_of_ble_eq_true rfl⟩ (fun H locs hw => ?_)
          refine lv_ishl hx hb dX1_told_59 ?_
          refine lv_ior hx hb dX1_told_60 ?_
          refine lv_topi (fun v_14 ev_14 => ?_)
          replace hJ_42 := fx_lt_e ev_14 hJ_42
          refine lv_istore hx hb dX1_told_61 hl (by decide) rfl (fun ls hl => ?_)
          have hl : lv_has ls 7 [(6, .int v_14), (0, .ref (Rs 100)), (1, .int p1), (2, .int p2), (3, .int p3), (4, .int p4), (5, .int p5)] := hl
          refine lv_aload_n hx hb dX1_told_63 rfl (lv_at hl 1 rfl) ?_
          refine lv_iload_n hx hb dX1_told_64 rfl (lv_at hl 3 rfl) ?_
          replace hJ_42 := fx_b1_e hJ_42
          obtain ⟨r_15, h_16, hJ_42⟩ := hJ_42
          refine cx_cVi (r := r_15) (ws := sC g Rs (some (Rn 100)) im S ++ (stC g Rn N ++ X)) (ws' := sC g Rs (some (Rn 100)) im S ++ (stC g Rn N ++ X)) (As := [.int p2]) (rest := []) E (mX1_absent_s l g A Rs Rn _ _ S N p2 h_16) (kwX1_X1_absent E ⟨Nat.le_of_ble_eq_true rfl, Nat.le_of_ble_eq_true rfl⟩) 0 1 rfl rfl rfl hw rfl hl.1 rfl (Nat.le_of_ble_eq_true rfl) dX1_told_65 ⟨Nat.le_of_ble_eq_true rfl, Nat.le_of_ble_eq_true rfl⟩ (fun H locs hw => ?_)
          refine lv_iload hx hb dX1_told_68 (lv_at hl 0 rfl) ?_
          refine lv_iconst (v := (-1 : Int32)) hx hb dX1_told_70 (by decide) ?_
          refine lv_ixor hx hb dX1_told_71 ?_
          refine lv_iand hx hb dX1_told_72 ?_
          refine lv_if_eq (tgt := 80) hx hb dX1_told_73 (by decide) (fun c_17 => ?_) (fun c_17 => ?_)
          · replace hJ_42 := fx_tt c_17 hJ_42
            refine lv_aload_n hx hb dX1_told_80 rfl (lv_at hl 1 rfl) ?_
            refine lv_iload_n hx hb dX1_told_81 rfl (lv_at hl 3 rfl) ?_
            refine lv_iload_n hx hb dX1_told_82 rfl (lv_at hl 4 rfl) ?_
            refine lv_iload hx hb dX1_told_83 (lv_at hl 0 rfl) ?_
            replace hJ_42 := fx_b1_e hJ_42
            obtain ⟨S_18, h_19, hJ_42⟩ := hJ_42
            refine cx_cVv (ws := sC g Rs (some (Rn 100)) im S ++ (stC g Rn N ++ X)) (ws' := sC g Rs (some (Rn 100)) im S_18 ++ (stC g Rn N ++ X)) (As := [.int p2, .int p3, .int v_14]) (rest := []) E (mX1_solves_s l g A Rs Rn _ _ S N p2 p3 v_14 h_19) (kwX1_X1_solves E ⟨Nat.le_of_ble_eq_true rfl, Nat.le_of_ble_eq_true rfl⟩) 0 1 rfl rfl rfl hw rfl hl.1 rfl (Nat.le_of_ble_eq_true rfl) dX1_told_85 ⟨Nat.le_of_ble_eq_true rfl, Nat.le_of_ble_eq_true rfl⟩ (fun H locs hw => ?_)
            refine lv_aload_n hx hb dX1_told_88 rfl (lv_at hl 1 rfl) ?_
            refine gX1_27 E hw dX1_told_89 ?_
            refine lv_aload_n hx hb dX1_told_92 rfl (lv_at hl 1 rfl) ?_
            refine lv_iload_n hx hb dX1_told_93 rfl (lv_at hl 2 rfl) ?_
            refine lv_iload_n hx hb dX1_told_94 rfl (lv_at hl 3 rfl) ?_
            replace hJ_42 := fx_b1_e hJ_42
            obtain ⟨r_20, h_21, hJ_42⟩ := hJ_42
            refine cx_cVi (r := r_20) (ws := sC g Rs (some (Rn 100)) im S_18 ++ (stC g Rn N ++ X)) (ws' := sC g Rs (some (Rn 100)) im S_18 ++ (stC g Rn N ++ X)) (As := [.int p1, .int p2]) (rest := [.ref (Rs 27)]) E (mX1_partOf l g A Rs _ _ _ S_18 p1 p2 h_21) (kwX1_X1_partOf E ⟨Nat.le_of_ble_eq_true rfl, Nat.le_of_ble_eq_true rfl⟩) 0 1 rfl rfl rfl hw rfl hl.1 rfl (Nat.le_of_ble_eq_true rfl) dX1_told_95 ⟨Nat.le_of_ble_eq_true rfl, Nat.le_of_ble_eq_true rfl⟩ (fun H locs hw => ?_)
            replace hJ_42 := fx_gd_e hJ_42
            obtain ⟨h_22, hJ_42⟩ := hJ_42
            refine raX1_27 E hw (fx_in_e h_22) dX1_told_98 ?_
            obtain rfl := Option.some.inj hJ_42
            exact hret _ _ _ _ _ rfl rfl hw dX1_told_99
          · replace hJ_42 := fx_ff c_17 hJ_42
            refine lv_ldcw (own := RX1) (v := (-1000000 : Int32)) hx hb E.1.2.2.2.1 (E.1.2.2.2.2 _ q844) dX1_told_76 ?_
            obtain rfl := Option.some.inj hJ_42
            exact hret _ _ _ _ _ rfl rfl hw dX1_told_79
        refine lv_icmp_eq (tgt := 42) hx hb dX1_told_31 (by decide) (fun c_23 => ?_) (fun c_23 => ?_)
        · replace hF := fx_tt c_23 hF
          exact jn_42  hF _ _ _ hw hl
        · replace hF := fx_ff c_23 hF
          refine lv_iload_n hx hb dX1_told_34 rfl (lv_at hl 1 rfl) ?_
          refine lv_iload hx hb dX1_told_35 (lv_at hl 5 rfl) ?_
          refine lv_icmp_eq (tgt := 42) hx hb dX1_told_37 (by decide) (fun c_24 => ?_) (fun c_24 => ?_)
          · replace hF := fx_tt c_24 hF
            exact jn_42  hF _ _ _ hw hl
          · replace hF := fx_ff c_24 hF
            refine lv_iconst (v := (-1 : Int32)) hx hb dX1_told_40 (by decide) ?_
            obtain rfl := Option.some.inj hF
            exact hret _ _ _ _ _ rfl rfl hw dX1_told_41
/-! told(IIIII)I -/
def FX1_told_n (S : Sx) (p1 : Int32) (p2 : Int32) (p3 : Int32) (p4 : Int32) (p5 : Int32) : Option (Int32 × Sx) :=
  some ((-1 : Int32), S)
set_option maxHeartbeats 4000000 in
set_option maxRecDepth 100000 in
theorem mX1_told_n (l : Launch) (g : Gx) (A : Nat → Prop) (Rs : Nat → Nat) (im : Option Nat) (X : va_W) (S : Sx) (p1 : Int32) (p2 : Int32) (p3 : Int32) (p4 : Int32) (p5 : Int32) {o : Int32 × Sx} (hF : FX1_told_n S p1 p2 p3 p4 p5 = some o) :
    cx_i l yX1_told cX1_told 7 .int rmX1_told [.ref (Rs 100), .int p1, .int p2, .int p3, .int p4, .int p5] g A (sC g Rs none im S ++ X) o.1 (sC g Rs none im o.2 ++ X) 0 0 := by
  refine cx_i_of (by decide) (Nat.le_of_ble_eq_true rfl) ?_
  intro p e s m av below meth c Q E hret H hw ls hl
  have E : cx_E p m meth c cX1_told 7 s av RX1 g A := E
  have hx := E.1.1
  have hb := E.1.2.1
  have hl : lv_has ls 7 [(0, .ref (Rs 100)), (1, .int p1), (2, .int p2), (3, .int p3), (4, .int p4), (5, .int p5)] := hl
  generalize hlc : ([] : List Loc) = locs at hw ⊢
  clear hlc
  unfold FX1_told_n at hF
  refine lv_aload_n hx hb dX1_told_0 rfl (lv_at hl 0 rfl) ?_
  refine lv_iload_n hx hb dX1_told_1 rfl (lv_at hl 1 rfl) ?_
  refine lv_iload_n hx hb dX1_told_2 rfl (lv_at hl 2 rfl) ?_
  refine lv_iload_n hx hb dX1_told_3 rfl (lv_at hl 3 rfl) ?_
  refine cx_cVi (r := (0 : Int32)) (ws := sC g Rs none im S ++ X) (ws' := sC g Rs none im S ++ X) (As := [.int p1, .int p2, .int p3]) (rest := []) E (mX1_isCell_n l g A Rs _ _ S p1 p2 p3 (o := (0 : Int32)) rfl) (kwX1_X1_isCell E ⟨Nat.le_of_ble_eq_true rfl, Nat.le_of_ble_eq_true rfl⟩) 0 1 rfl rfl rfl hw rfl hl.1 rfl (Nat.le_of_ble_eq_true rfl) dX1_told_4 ⟨Nat.le_of_ble_eq_true rfl, Nat.le_of_ble_eq_true rfl⟩ (fun H locs hw => ?_)
  refine lv_if_eq (tgt := 40) hx hb dX1_told_7 (by decide) (fun _ => ?_) (fun c_ => absurd c_ (by decide))
  refine lv_iconst (v := (-1 : Int32)) hx hb dX1_told_40 (by decide) ?_
  obtain rfl := Option.some.inj hF
  exact hret _ _ _ _ _ rfl rfl hw dX1_told_41
/-! who(II)I -/
def JX1_who_s_30 (S : Sx) : Option (Int32 × Sx) :=
  some ((-1000000 : Int32), S)
def FX1_who_s (S : Sx) (N : Sx) (p1 : Int32) (p2 : Int32) : Option (Int32 × Sx) :=
  fx_b1 (FX1_isStripe_s S N p1) (fun r_1 => if r_1 = 0 then (JX1_who_s_30 S) else (fx_b1 (FX1_chunk S) (fun r_4 => fx_b1 (FX1_in p2 (0 : Int32) (r_4 - (1 : Int32))) (fun r_6 => if r_6 = 0 then (JX1_who_s_30 S) else (fx_b1 (FX1_isClear_s S N p1) (fun r_9 => if r_9 = 0 then (JX1_who_s_30 S) else (fx_b2 (FX1_wrongPart_s S N p1 p2) (fun r_12 S_13 => if 0 ≤ r_12 then (fx_b1 (FX1_diskOf S_13 p1 r_12) (fun r_16 => some (r_16, S_13))) else (some (r_12, S_13))))))))))
set_option maxHeartbeats 4000000 in
set_option maxRecDepth 100000 in
theorem mX1_who_s (l : Launch) (g : Gx) (A : Nat → Prop) (Rs Rn : Nat → Nat) (im : Option Nat) (X : va_W) (S : Sx) (N : Sx) (p1 : Int32) (p2 : Int32) {o : Int32 × Sx} (hF : FX1_who_s S N p1 p2 = some o) :
    cx_i l yX1_who cX1_who 4 .int rmX1_who [.ref (Rs 100), .int p1, .int p2] g A (sC g Rs (some (Rn 100)) im S ++ (stC g Rn N ++ X)) o.1 (sC g Rs (some (Rn 100)) im o.2 ++ (stC g Rn N ++ X)) 0 0 := by
  refine cx_i_of (by decide) (Nat.le_of_ble_eq_true rfl) ?_
  intro p e s m av below meth c Q E hret H hw ls hl
  have E : cx_E p m meth c cX1_who 4 s av RX1 g A := E
  have hx := E.1.1
  have hb := E.1.2.1
  have hl : lv_has ls 4 [(0, .ref (Rs 100)), (1, .int p1), (2, .int p2)] := hl
  generalize hlc : ([] : List Loc) = locs at hw ⊢
  clear hlc
  unfold FX1_who_s at hF
  refine lv_aload_n hx hb dX1_who_0 rfl (lv_at hl 0 rfl) ?_
  refine lv_iload_n hx hb dX1_who_1 rfl (lv_at hl 1 rfl) ?_
  replace hF := fx_b1_e hF
  obtain ⟨r_1, h_2, hF⟩ := hF
  refine cx_cVi (r := r_1) (ws := sC g Rs (some (Rn 100)) im S ++ (stC g Rn N ++ X)) (ws' := sC g Rs (some (Rn 100)) im S ++ (stC g Rn N ++ X)) (As := [.int p1]) (rest := []) E (mX1_isStripe_s l g A Rs Rn _ _ S N p1 h_2) (kwX1_X1_isStripe E ⟨Nat.le_of_ble_eq_true rfl, Nat.le_of_ble_eq_true rfl⟩) 0 1 rfl rfl rfl hw rfl hl.1 rfl (Nat.le_of_ble_eq_true rfl) dX1_who_2 ⟨Nat.le_of_ble_eq_true rfl, Nat.le_of_ble_eq_true rfl⟩ (fun H locs hw => ?_)
  have jn_30 : JX1_who_s_30 S = some o → ∀ (H : Heap) (locs : List Loc) (ls : Array Slot), cx_W g A s (sC g Rs (some (Rn 100)) im S ++ (stC g Rn N ++ X)) H locs → lv_has ls 4 [] → W p l e rmX1_who s m av below meth c H locs 0 0 Q (F0 m 30 ls []) := by
    intro  hJ_30 H locs ls hw hl
    unfold JX1_who_s_30 at hJ_30
    refine lv_ldcw (own := RX1) (v := (-1000000 : Int32)) hx hb E.1.2.2.2.1 (E.1.2.2.2.2 _ q844) dX1_who_30 ?_
    obtain rfl := Option.some.inj hJ_30
    exact hret _ _ _ _ _ rfl rfl hw dX1_who_33
  refine lv_if_eq (tgt := 30) hx hb dX1_who_5 (by decide) (fun c_3 => ?_) (fun c_3 => ?_)
  · replace hF := fx_tt c_3 hF
    exact jn_30  hF _ _ _ hw (lv_sub hl [] rfl)
  · replace hF := fx_ff c_3 hF
    refine lv_iload_n hx hb dX1_who_8 rfl (lv_at hl 2 rfl) ?_
    refine lv_iconst (v := (0 : Int32)) hx hb dX1_who_9 (by decide) ?_
    refine lv_aload_n hx hb dX1_who_10 rfl (lv_at hl 0 rfl) ?_
    replace hF := fx_b1_e hF
    obtain ⟨r_4, h_5, hF⟩ := hF
    refine cx_cVi (r := r_4) (ws := sC g Rs (some (Rn 100)) im S ++ (stC g Rn N ++ X)) (ws' := sC g Rs (some (Rn 100)) im S ++ (stC g Rn N ++ X)) (As := []) (rest := [.int (0 : Int32), .int p2]) E (mX1_chunk l g A Rs _ _ _ S h_5) (kwX1_X1_chunk E ⟨Nat.le_of_ble_eq_true rfl, Nat.le_of_ble_eq_true rfl⟩) 0 1 rfl rfl rfl hw rfl hl.1 rfl (Nat.le_of_ble_eq_true rfl) dX1_who_11 ⟨Nat.le_of_ble_eq_true rfl, Nat.le_of_ble_eq_true rfl⟩ (fun H locs hw => ?_)
    refine lv_iconst (v := (1 : Int32)) hx hb dX1_who_14 (by decide) ?_
    refine lv_isub hx hb dX1_who_15 ?_
    replace hF := fx_b1_e hF
    obtain ⟨r_6, h_7, hF⟩ := hF
    refine cx_cSi (r := r_6) (ws := sC g Rs (some (Rn 100)) im S ++ (stC g Rn N ++ X)) (ws' := sC g Rs (some (Rn 100)) im S ++ (stC g Rn N ++ X)) (As := [.int p2, .int (0 : Int32), .int (r_4 - (1 : Int32))]) (rest := []) E (mX1_in l g A (sC g Rs (some (Rn 100)) im S ++ (stC g Rn N ++ X)) p2 (0 : Int32) (r_4 - (1 : Int32)) h_7) (kwX1_X1_in E ⟨Nat.le_of_ble_eq_true rfl, Nat.le_of_ble_eq_true rfl⟩) hw rfl hl.1 rfl (Nat.le_of_ble_eq_true rfl) dX1_who_16 ⟨Nat.le_of_ble_eq_true rfl, Nat.le_of_ble_eq_true rfl⟩ (fun H locs hw => ?_)
    refine lv_if_eq (tgt := 30) hx hb dX1_who_19 (by decide) (fun c_8 => ?_) (fun c_8 => ?_)
    · replace hF := fx_tt c_8 hF
      exact jn_30  hF _ _ _ hw (lv_sub hl [] rfl)
    · replace hF := fx_ff c_8 hF
      refine lv_aload_n hx hb dX1_who_22 rfl (lv_at hl 0 rfl) ?_
      refine lv_iload_n hx hb dX1_who_23 rfl (lv_at hl 1 rfl) ?_
      replace hF := fx_b1_e hF
      obtain ⟨r_9, h_10, hF⟩ := hF
      refine cx_cVi (r := r_9) (ws := sC g Rs (some (Rn 100)) im S ++ (stC g Rn N ++ X)) (ws' := sC g Rs (some (Rn 100)) im S ++ (stC g Rn N ++ X)) (As := [.int p1]) (rest := []) E (mX1_isClear_s l g A Rs Rn _ _ S N p1 h_10) (kwX1_X1_isClear E ⟨Nat.le_of_ble_eq_true rfl, Nat.le_of_ble_eq_true rfl⟩) 0 1 rfl rfl rfl hw rfl hl.1 rfl (Nat.le_of_ble_eq_true rfl) dX1_who_24 ⟨Nat.le_of_ble_eq_true rfl, Nat.le_of_ble_eq_true rfl⟩ (fun H locs hw => ?_)
      refine lv_if_ne (tgt := 34) hx hb dX1_who_27 (by decide) (fun c_11 => ?_) (fun c_11 => ?_)
      · replace hF := fx_ff c_11 hF
        refine lv_aload_n hx hb dX1_who_34 rfl (lv_at hl 0 rfl) ?_
        refine lv_iload_n hx hb dX1_who_35 rfl (lv_at hl 1 rfl) ?_
        refine lv_iload_n hx hb dX1_who_36 rfl (lv_at hl 2 rfl) ?_
        replace hF := fx_b2_e hF
        obtain ⟨r_12, S_13, h_14, hF⟩ := hF
        refine cx_cVi (r := r_12) (ws := sC g Rs (some (Rn 100)) im S ++ (stC g Rn N ++ X)) (ws' := sC g Rs (some (Rn 100)) im S_13 ++ (stC g Rn N ++ X)) (As := [.int p1, .int p2]) (rest := []) E (mX1_wrongPart_s l g A Rs Rn _ _ S N p1 p2 h_14) (kwX1_X1_wrongPart E ⟨Nat.le_of_ble_eq_true rfl, Nat.le_of_ble_eq_true rfl⟩) 0 1 rfl rfl rfl hw rfl hl.1 rfl (Nat.le_of_ble_eq_true rfl) dX1_who_37 ⟨Nat.le_of_ble_eq_true rfl, Nat.le_of_ble_eq_true rfl⟩ (fun H locs hw => ?_)
        refine lv_istore_n hx hb dX1_who_40 rfl hl (by decide) rfl (fun ls hl => ?_)
        have hl : lv_has ls 4 [(3, .int r_12), (0, .ref (Rs 100)), (1, .int p1), (2, .int p2)] := hl
        refine lv_iload_n hx hb dX1_who_41 rfl (lv_at hl 0 rfl) ?_
        refine lv_if_ge (tgt := 49) hx hb dX1_who_42 (by decide) (fun c_15 => ?_) (fun c_15 => ?_)
        · replace hF := fx_tt c_15 hF
          refine lv_aload_n hx hb dX1_who_49 rfl (lv_at hl 1 rfl) ?_
          refine lv_iload_n hx hb dX1_who_50 rfl (lv_at hl 2 rfl) ?_
          refine lv_iload_n hx hb dX1_who_51 rfl (lv_at hl 0 rfl) ?_
          replace hF := fx_b1_e hF
          obtain ⟨r_16, h_17, hF⟩ := hF
          refine cx_cVi (r := r_16) (ws := sC g Rs (some (Rn 100)) im S_13 ++ (stC g Rn N ++ X)) (ws' := sC g Rs (some (Rn 100)) im S_13 ++ (stC g Rn N ++ X)) (As := [.int p1, .int r_12]) (rest := []) E (mX1_diskOf l g A Rs _ _ _ S_13 p1 r_12 h_17) (kwX1_X1_diskOf E ⟨Nat.le_of_ble_eq_true rfl, Nat.le_of_ble_eq_true rfl⟩) 0 1 rfl rfl rfl hw rfl hl.1 rfl (Nat.le_of_ble_eq_true rfl) dX1_who_52 ⟨Nat.le_of_ble_eq_true rfl, Nat.le_of_ble_eq_true rfl⟩ (fun H locs hw => ?_)
          obtain rfl := Option.some.inj hF
          exact hret _ _ _ _ _ rfl rfl hw dX1_who_55
        · replace hF := fx_ff c_15 hF
          refine lv_iload_n hx hb dX1_who_45 rfl (lv_at hl 0 rfl) ?_
          refine lv_goto (tgt := 55) hx hb dX1_who_46 (by decide) ?_
          obtain rfl := Option.some.inj hF
          exact hret _ _ _ _ _ rfl rfl hw dX1_who_55
      · replace hF := fx_tt c_11 hF
        exact jn_30  hF _ _ _ hw (lv_sub hl [] rfl)
/-! who(II)I -/
def JX1_who_n_30 (S : Sx) : Option (Int32 × Sx) :=
  some ((-1000000 : Int32), S)
def FX1_who_n (S : Sx) (p1 : Int32) (p2 : Int32) : Option (Int32 × Sx) :=
  JX1_who_n_30 S
set_option maxHeartbeats 4000000 in
set_option maxRecDepth 100000 in
theorem mX1_who_n (l : Launch) (g : Gx) (A : Nat → Prop) (Rs : Nat → Nat) (im : Option Nat) (X : va_W) (S : Sx) (p1 : Int32) (p2 : Int32) {o : Int32 × Sx} (hF : FX1_who_n S p1 p2 = some o) :
    cx_i l yX1_who cX1_who 4 .int rmX1_who [.ref (Rs 100), .int p1, .int p2] g A (sC g Rs none im S ++ X) o.1 (sC g Rs none im o.2 ++ X) 0 0 := by
  refine cx_i_of (by decide) (Nat.le_of_ble_eq_true rfl) ?_
  intro p e s m av below meth c Q E hret H hw ls hl
  have E : cx_E p m meth c cX1_who 4 s av RX1 g A := E
  have hx := E.1.1
  have hb := E.1.2.1
  have hl : lv_has ls 4 [(0, .ref (Rs 100)), (1, .int p1), (2, .int p2)] := hl
  generalize hlc : ([] : List Loc) = locs at hw ⊢
  clear hlc
  unfold FX1_who_n at hF
  refine lv_aload_n hx hb dX1_who_0 rfl (lv_at hl 0 rfl) ?_
  refine lv_iload_n hx hb dX1_who_1 rfl (lv_at hl 1 rfl) ?_
  refine cx_cVi (r := (0 : Int32)) (ws := sC g Rs none im S ++ X) (ws' := sC g Rs none im S ++ X) (As := [.int p1]) (rest := []) E (mX1_isStripe_n l g A Rs _ _ S p1 (o := (0 : Int32)) rfl) (kwX1_X1_isStripe E ⟨Nat.le_of_ble_eq_true rfl, Nat.le_of_ble_eq_true rfl⟩) 0 1 rfl rfl rfl hw rfl hl.1 rfl (Nat.le_of_ble_eq_true rfl) dX1_who_2 ⟨Nat.le_of_ble_eq_true rfl, Nat.le_of_ble_eq_true rfl⟩ (fun H locs hw => ?_)
  have jn_30 : JX1_who_n_30 S = some o → ∀ (H : Heap) (locs : List Loc) (ls : Array Slot), cx_W g A s (sC g Rs none im S ++ X) H locs → lv_has ls 4 [] → W p l e rmX1_who s m av below meth c H locs 0 0 Q (F0 m 30 ls []) := by
    intro  hJ_30 H locs ls hw hl
    unfold JX1_who_n_30 at hJ_30
    refine lv_ldcw (own := RX1) (v := (-1000000 : Int32)) hx hb E.1.2.2.2.1 (E.1.2.2.2.2 _ q844) dX1_who_30 ?_
    obtain rfl := Option.some.inj hJ_30
    exact hret _ _ _ _ _ rfl rfl hw dX1_who_33
  refine lv_if_eq (tgt := 30) hx hb dX1_who_5 (by decide) (fun _ => ?_) (fun c_ => absurd c_ (by decide))
  exact jn_30  hF _ _ _ hw (lv_sub hl [] rfl)
/-! more()I -/
def JX1_more_s_46 (x1_3 : Int32) (S_4 : Sx) : Option (Int32 × Sx) :=
  some (x1_3, S_4)
def JX1_more_s_40 (x2_7 : Int32) (S_12 : Sx) (x1_14 : Int32) : Option ((Sx × Int32 × Int32) ⊕ (Sx × Int32)) :=
  fx_lt (x2_7 + (1 : Int32)) (fun v_15 => some (.inl (S_12, x1_14, v_15)))
def LX1_more_s_13 (N : Sx) (q_ : Sx × Int32 × Int32) : Option ((Sx × Int32 × Int32) ⊕ (Sx × Int32)) :=
  fx_u3 q_ (fun S_5 x1_6 x2_7 => fx_b1 (FX1_disks S_5) (fun r_8 => if r_8 ≤ x2_7 then (some (.inr (S_5, x1_6))) else (fx_b2 (FX1_whyNot_s S_5 N (1 : Int32) x2_7 (0 : Int32) (0 : Int32) (0 : Int32)) (fun r_11 S_12 => if r_11 = (-1 : Int32) then (fx_lt (x1_6 ||| ((1 : Int32) <<< (x2_7 &&& 31))) (fun v_17 => JX1_more_s_40 x2_7 S_12 v_17)) else (JX1_more_s_40 x2_7 S_12 x1_6)))))
def FX1_more_s (S : Sx) (N : Sx) : Option (Int32 × Sx) :=
  fx_b1 (fx_lp (LX1_more_s_13 N) 2000 (S, (0 : Int32), (0 : Int32))) (fun q_ => fx_u2 q_ (fun S_18 y1_19 => JX1_more_s_46 y1_19 S_18))
set_option maxHeartbeats 4000000 in
set_option maxRecDepth 100000 in
theorem mX1_more_s (l : Launch) (g : Gx) (A : Nat → Prop) (Rs Rn : Nat → Nat) (im : Option Nat) (X : va_W) (S : Sx) (N : Sx) {o : Int32 × Sx} (hF : FX1_more_s S N = some o) :
    cx_i l yX1_more cX1_more 3 .int rmX1_more [.ref (Rs 100)] g A (sC g Rs (some (Rn 100)) im S ++ (stC g Rn N ++ X)) o.1 (sC g Rs (some (Rn 100)) im o.2 ++ (stC g Rn N ++ X)) 0 0 := by
  refine cx_i_of (by decide) (Nat.le_of_ble_eq_true rfl) ?_
  intro p e s m av below meth c Q E hret H hw ls hl
  have E : cx_E p m meth c cX1_more 3 s av RX1 g A := E
  have hx := E.1.1
  have hb := E.1.2.1
  have hl : lv_has ls 3 [(0, .ref (Rs 100))] := hl
  generalize hlc : ([] : List Loc) = locs at hw ⊢
  clear hlc
  unfold FX1_more_s at hF
  refine lv_aload_n hx hb dX1_more_0 rfl (lv_at hl 0 rfl) ?_
  refine cx_cVi (r := (1 : Int32)) (ws := sC g Rs (some (Rn 100)) im S ++ (stC g Rn N ++ X)) (ws' := sC g Rs (some (Rn 100)) im S ++ (stC g Rn N ++ X)) (As := []) (rest := []) E (mX1_isShelf_s l g A Rs Rn _ _ S N (o := (1 : Int32)) rfl) (kwX1_X1_isShelf E ⟨Nat.le_of_ble_eq_true rfl, Nat.le_of_ble_eq_true rfl⟩) 0 1 rfl rfl rfl hw rfl hl.1 rfl (Nat.le_of_ble_eq_true rfl) dX1_more_1 ⟨Nat.le_of_ble_eq_true rfl, Nat.le_of_ble_eq_true rfl⟩ (fun H locs hw => ?_)
  refine lv_if_ne (tgt := 9) hx hb dX1_more_4 (by decide) (fun _ => ?_) (fun c_ => absurd c_ (by decide))
  refine lv_iconst (v := (0 : Int32)) hx hb dX1_more_9 (by decide) ?_
  refine lv_istore_n hx hb dX1_more_10 rfl hl (by decide) rfl (fun ls hl => ?_)
  have hl : lv_has ls 3 [(1, .int (0 : Int32)), (0, .ref (Rs 100))] := hl
  refine lv_iconst (v := (0 : Int32)) hx hb dX1_more_11 (by decide) ?_
  refine lv_istore_n hx hb dX1_more_12 rfl hl (by decide) rfl (fun ls hl => ?_)
  have hl : lv_has ls 3 [(2, .int (0 : Int32)), (1, .int (0 : Int32)), (0, .ref (Rs 100))] := hl
  have jn_46 : ∀ (S_4 : Sx) (x1_3 : Int32), JX1_more_s_46 x1_3 S_4 = some o → ∀ (H : Heap) (locs : List Loc) (ls : Array Slot), cx_W g A s (sC g Rs (some (Rn 100)) im S_4 ++ (stC g Rn N ++ X)) H locs → lv_has ls 3 [(1, .int x1_3)] → W p l e rmX1_more s m av below meth c H locs 0 0 Q (F0 m 46 ls []) := by
    intro S_4 x1_3 hJ_46 H locs ls hw hl
    unfold JX1_more_s_46 at hJ_46
    refine lv_iload_n hx hb dX1_more_46 rfl (lv_at hl 0 rfl) ?_
    obtain rfl := Option.some.inj hJ_46
    exact hret _ _ _ _ _ rfl rfl hw dX1_more_47
  replace hF := fx_b1_e hF
  obtain ⟨ex_13, hL_13, hF⟩ := hF
  have key_13 : ∀ (n_13 : Nat) (S_5 : Sx) (x1_6 : Int32) (x2_7 : Int32), fx_lp (LX1_more_s_13 N) n_13 (S_5, x1_6, x2_7) = some ex_13 → ∀ (H : Heap) (locs : List Loc) (ls : Array Slot), cx_W g A s (sC g Rs (some (Rn 100)) im S_5 ++ (stC g Rn N ++ X)) H locs → lv_has ls 3 [(0, .ref (Rs 100)), (1, .int x1_6), (2, .int x2_7)] → W p l e rmX1_more s m av below meth c H locs 0 0 Q (F0 m 13 ls []) := by
    intro n_13
    induction n_13 with
    | zero => intro S_5 x1_6 x2_7 hL_13; exact fx_lp_0 hL_13
    | succ n_13 ih_13 =>
      intro S_5 x1_6 x2_7 hL_13 H locs ls hw hl
      replace hL_13 := fx_lp_s hL_13
      obtain ⟨o_13, hB_13, hO_13⟩ := hL_13
      unfold LX1_more_s_13 at hB_13
      replace hB_13 := fx_u3_e hB_13
      refine lv_iload_n hx hb dX1_more_13 rfl (lv_at hl 2 rfl) ?_
      refine lv_aload_n hx hb dX1_more_14 rfl (lv_at hl 0 rfl) ?_
      replace hB_13 := fx_b1_e hB_13
      obtain ⟨r_8, h_9, hB_13⟩ := hB_13
      refine cx_cVi (r := r_8) (ws := sC g Rs (some (Rn 100)) im S_5 ++ (stC g Rn N ++ X)) (ws' := sC g Rs (some (Rn 100)) im S_5 ++ (stC g Rn N ++ X)) (As := []) (rest := [.int x2_7]) E (mX1_disks l g A Rs _ _ _ S_5 h_9) (kwX1_X1_disks E ⟨Nat.le_of_ble_eq_true rfl, Nat.le_of_ble_eq_true rfl⟩) 0 1 rfl rfl rfl hw rfl hl.1 rfl (Nat.le_of_ble_eq_true rfl) dX1_more_15 ⟨Nat.le_of_ble_eq_true rfl, Nat.le_of_ble_eq_true rfl⟩ (fun H locs hw => ?_)
      refine lv_icmp_ge (tgt := 46) hx hb dX1_more_18 (by decide) (fun c_10 => ?_) (fun c_10 => ?_)
      · replace hB_13 := fx_tt c_10 hB_13
        obtain rfl := fx_ex hB_13 hO_13
        replace hF := fx_u2_e hF
        exact jn_46 S_5 x1_6 hF _ _ _ hw (lv_sub hl [1] rfl)
      · replace hB_13 := fx_ff c_10 hB_13
        refine lv_aload_n hx hb dX1_more_21 rfl (lv_at hl 0 rfl) ?_
        refine lv_iconst (v := (1 : Int32)) hx hb dX1_more_22 (by decide) ?_
        refine lv_iload_n hx hb dX1_more_23 rfl (lv_at hl 2 rfl) ?_
        refine lv_iconst (v := (0 : Int32)) hx hb dX1_more_24 (by decide) ?_
        refine lv_iconst (v := (0 : Int32)) hx hb dX1_more_25 (by decide) ?_
        refine lv_iconst (v := (0 : Int32)) hx hb dX1_more_26 (by decide) ?_
        replace hB_13 := fx_b2_e hB_13
        obtain ⟨r_11, S_12, h_13, hB_13⟩ := hB_13
        refine cx_cVi (r := r_11) (ws := sC g Rs (some (Rn 100)) im S_5 ++ (stC g Rn N ++ X)) (ws' := sC g Rs (some (Rn 100)) im S_12 ++ (stC g Rn N ++ X)) (As := [.int (1 : Int32), .int x2_7, .int (0 : Int32), .int (0 : Int32), .int (0 : Int32)]) (rest := []) E (mX1_whyNot_s l g A Rs Rn _ _ S_5 N (1 : Int32) x2_7 (0 : Int32) (0 : Int32) (0 : Int32) h_13) (kwX1_X1_whyNot E ⟨Nat.le_of_ble_eq_true rfl, Nat.le_of_ble_eq_true rfl⟩) 0 1 rfl rfl rfl hw rfl hl.1 rfl (Nat.le_of_ble_eq_true rfl) dX1_more_27 ⟨Nat.le_of_ble_eq_true rfl, Nat.le_of_ble_eq_true rfl⟩ (fun H locs hw => ?_)
        refine lv_iconst (v := (-1 : Int32)) hx hb dX1_more_30 (by decide) ?_
        have jn_40 : ∀ (x1_14 : Int32), JX1_more_s_40 x2_7 S_12 x1_14 = some o_13 → ∀ (H : Heap) (locs : List Loc) (ls : Array Slot), cx_W g A s (sC g Rs (some (Rn 100)) im S_12 ++ (stC g Rn N ++ X)) H locs → lv_has ls 3 [(0, .ref (Rs 100)), (1, .int x1_14), (2, .int x2_7)] → W p l e rmX1_more s m av below meth c H locs 0 0 Q (F0 m 40 ls []) := by
          intro x1_14 hJ_40 H locs ls hw hl
          unfold JX1_more_s_40 at hJ_40
          obtain ⟨v_15, ev_15⟩ : ∃ z : Int32, z = x2_7 + (1 : Int32) := ⟨_, rfl⟩
          replace hJ_40 := fx_lt_e ev_15 hJ_40
          refine cx_iinc (z := (1 : Int32)) (v := v_15) hx hb dX1_more_40 hl (k := 2) rfl (by decide) ev_15 (by decide) rfl (fun ls hl => ?_)
          have hl : lv_has ls 3 [(2, .int v_15), (0, .ref (Rs 100)), (1, .int x1_14)] := hl
          refine lv_goto (tgt := 13) hx hb dX1_more_43 (by decide) ?_
          exact ih_13 S_12 x1_14 v_15 (fx_bk hJ_40 hO_13) _ _ _ hw (lv_sub hl [1, 2, 0] rfl)
        refine lv_icmp_ne (tgt := 40) hx hb dX1_more_31 (by decide) (fun c_16 => ?_) (fun c_16 => ?_)
        · replace hB_13 := fx_ff c_16 hB_13
          exact jn_40 x1_6 hB_13 _ _ _ hw hl
        · replace hB_13 := fx_tt c_16 hB_13
          refine lv_iload_n hx hb dX1_more_34 rfl (lv_at hl 1 rfl) ?_
          refine lv_iconst (v := (1 : Int32)) hx hb dX1_more_35 (by decide) ?_
          refine lv_iload_n hx hb dX1_more_36 rfl (lv_at hl 2 rfl) ?_
          refine lv_ishl hx hb dX1_more_37 ?_
          refine lv_ior hx hb dX1_more_38 ?_
          refine lv_topi (fun v_17 ev_17 => ?_)
          replace hB_13 := fx_lt_e ev_17 hB_13
          refine lv_istore_n hx hb dX1_more_39 rfl hl (by decide) rfl (fun ls hl => ?_)
          have hl : lv_has ls 3 [(1, .int v_17), (0, .ref (Rs 100)), (2, .int x2_7)] := hl
          exact jn_40 v_17 hB_13 _ _ _ hw (lv_sub hl [1, 0, 2] rfl)
  exact key_13 _ S (0 : Int32) (0 : Int32) hL_13 _ _ _ hw (lv_sub hl [2, 1, 0] rfl)
/-! more()I -/
def FX1_more_n (S : Sx) : Option (Int32 × Sx) :=
  some ((-1 : Int32), S)
set_option maxHeartbeats 4000000 in
set_option maxRecDepth 100000 in
theorem mX1_more_n (l : Launch) (g : Gx) (A : Nat → Prop) (Rs : Nat → Nat) (im : Option Nat) (X : va_W) (S : Sx) {o : Int32 × Sx} (hF : FX1_more_n S = some o) :
    cx_i l yX1_more cX1_more 3 .int rmX1_more [.ref (Rs 100)] g A (sC g Rs none im S ++ X) o.1 (sC g Rs none im o.2 ++ X) 0 0 := by
  refine cx_i_of (by decide) (Nat.le_of_ble_eq_true rfl) ?_
  intro p e s m av below meth c Q E hret H hw ls hl
  have E : cx_E p m meth c cX1_more 3 s av RX1 g A := E
  have hx := E.1.1
  have hb := E.1.2.1
  have hl : lv_has ls 3 [(0, .ref (Rs 100))] := hl
  generalize hlc : ([] : List Loc) = locs at hw ⊢
  clear hlc
  unfold FX1_more_n at hF
  refine lv_aload_n hx hb dX1_more_0 rfl (lv_at hl 0 rfl) ?_
  refine cx_cVi (r := (0 : Int32)) (ws := sC g Rs none im S ++ X) (ws' := sC g Rs none im S ++ X) (As := []) (rest := []) E (mX1_isShelf_n l g A Rs _ _ S (o := (0 : Int32)) rfl) (kwX1_X1_isShelf E ⟨Nat.le_of_ble_eq_true rfl, Nat.le_of_ble_eq_true rfl⟩) 0 1 rfl rfl rfl hw rfl hl.1 rfl (Nat.le_of_ble_eq_true rfl) dX1_more_1 ⟨Nat.le_of_ble_eq_true rfl, Nat.le_of_ble_eq_true rfl⟩ (fun H locs hw => ?_)
  refine lv_if_ne (tgt := 9) hx hb dX1_more_4 (by decide) (fun c_ => absurd c_ (by decide)) (fun _ => ?_)
  refine lv_iconst (v := (-1 : Int32)) hx hb dX1_more_7 (by decide) ?_
  obtain rfl := Option.some.inj hF
  exact hret _ _ _ _ _ rfl rfl hw dX1_more_8
/-! fit()I -/
def JX1_fit_s_90 (x1_3 : Int32) (S_4 : Sx) : Option (Int32 × Sx) :=
  some (x1_3, S_4)
def JX1_fit_s_84 (x2_7 : Int32) (S_15 : Sx) (x1_16 : Int32) : Option ((Sx × Int32 × Int32) ⊕ (Sx × Int32)) :=
  fx_lt (x2_7 + (1 : Int32)) (fun v_17 => some (.inl (S_15, x1_16, v_17)))
def JX1_fit_s_74 (x3_14 : Int32) (x2_7 : Int32) (S_15 : Sx) (x1_6 : Int32) : Option ((Sx × Int32 × Int32) ⊕ (Sx × Int32)) :=
  if x3_14 = 0 then (JX1_fit_s_84 x2_7 S_15 x1_6) else (fx_lt (x1_6 ||| ((1 : Int32) <<< (x2_7 &&& 31))) (fun v_19 => JX1_fit_s_84 x2_7 S_15 v_19))
def JX1_fit_s_67 (x4_22 : Int32) (S_28 : Sx) (t_30 : Int32) : Option ((Sx × Int32 × Int32) ⊕ (Sx × Int32)) :=
  fx_lt (x4_22 + (1 : Int32)) (fun v_31 => some (.inl (S_28, t_30, v_31)))
def LX1_fit_s_38 (N : Sx) (x2_7 : Int32) (q_ : Sx × Int32 × Int32) : Option ((Sx × Int32 × Int32) ⊕ (Sx × Int32)) :=
  fx_u3 q_ (fun S_20 x3_21 x4_22 => fx_b1 (FX1_chunk S_20) (fun r_23 => if r_23 ≤ x4_22 then (some (.inr (S_20, x3_21))) else (if x3_21 = 0 then (some (.inr (S_20, x3_21))) else (fx_b2 (FX1_wrongPart_s S_20 N x2_7 x4_22) (fun r_27 S_28 => if r_27 = (-1 : Int32) then (JX1_fit_s_67 x4_22 S_28 (1 : Int32)) else (JX1_fit_s_67 x4_22 S_28 (0 : Int32)))))))
def JX1_fit_s_34 (N : Sx) (x2_7 : Int32) (S_5 : Sx) (t_13 : Int32) (x1_6 : Int32) : Option ((Sx × Int32 × Int32) ⊕ (Sx × Int32)) :=
  fx_b1 (fx_lp (LX1_fit_s_38 N x2_7) 2000 (S_5, t_13, (0 : Int32))) (fun q_ => fx_u2 q_ (fun S_33 y3_34 => JX1_fit_s_74 y3_34 x2_7 S_33 x1_6))
def LX1_fit_s_13 (N : Sx) (q_ : Sx × Int32 × Int32) : Option ((Sx × Int32 × Int32) ⊕ (Sx × Int32)) :=
  fx_u3 q_ (fun S_5 x1_6 x2_7 => fx_b1 (FX1_stripes S_5) (fun r_8 => if r_8 ≤ x2_7 then (some (.inr (S_5, x1_6))) else (fx_b1 (FX1_absent_s S_5 N x2_7) (fun r_11 => if r_11 = 0 then (JX1_fit_s_34 N x2_7 S_5 (1 : Int32) x1_6) else (JX1_fit_s_34 N x2_7 S_5 (0 : Int32) x1_6)))))
def FX1_fit_s (S : Sx) (N : Sx) : Option (Int32 × Sx) :=
  fx_b1 (fx_lp (LX1_fit_s_13 N) 2000 (S, (0 : Int32), (0 : Int32))) (fun q_ => fx_u2 q_ (fun S_36 y1_37 => JX1_fit_s_90 y1_37 S_36))
set_option maxHeartbeats 4000000 in
set_option maxRecDepth 100000 in
theorem mX1_fit_s (l : Launch) (g : Gx) (A : Nat → Prop) (Rs Rn : Nat → Nat) (im : Option Nat) (X : va_W) (S : Sx) (N : Sx) {o : Int32 × Sx} (hF : FX1_fit_s S N = some o) :
    cx_i l yX1_fit cX1_fit 5 .int rmX1_fit [.ref (Rs 100)] g A (sC g Rs (some (Rn 100)) im S ++ (stC g Rn N ++ X)) o.1 (sC g Rs (some (Rn 100)) im o.2 ++ (stC g Rn N ++ X)) 0 0 := by
  refine cx_i_of (by decide) (Nat.le_of_ble_eq_true rfl) ?_
  intro p e s m av below meth c Q E hret H hw ls hl
  have E : cx_E p m meth c cX1_fit 5 s av RX1 g A := E
  have hx := E.1.1
  have hb := E.1.2.1
  have hl : lv_has ls 5 [(0, .ref (Rs 100))] := hl
  generalize hlc : ([] : List Loc) = locs at hw ⊢
  clear hlc
  unfold FX1_fit_s at hF
  refine lv_aload_n hx hb dX1_fit_0 rfl (lv_at hl 0 rfl) ?_
  refine cx_cVi (r := (1 : Int32)) (ws := sC g Rs (some (Rn 100)) im S ++ (stC g Rn N ++ X)) (ws' := sC g Rs (some (Rn 100)) im S ++ (stC g Rn N ++ X)) (As := []) (rest := []) E (mX1_isShelf_s l g A Rs Rn _ _ S N (o := (1 : Int32)) rfl) (kwX1_X1_isShelf E ⟨Nat.le_of_ble_eq_true rfl, Nat.le_of_ble_eq_true rfl⟩) 0 1 rfl rfl rfl hw rfl hl.1 rfl (Nat.le_of_ble_eq_true rfl) dX1_fit_1 ⟨Nat.le_of_ble_eq_true rfl, Nat.le_of_ble_eq_true rfl⟩ (fun H locs hw => ?_)
  refine lv_if_ne (tgt := 9) hx hb dX1_fit_4 (by decide) (fun _ => ?_) (fun c_ => absurd c_ (by decide))
  refine lv_iconst (v := (0 : Int32)) hx hb dX1_fit_9 (by decide) ?_
  refine lv_istore_n hx hb dX1_fit_10 rfl hl (by decide) rfl (fun ls hl => ?_)
  have hl : lv_has ls 5 [(1, .int (0 : Int32)), (0, .ref (Rs 100))] := hl
  refine lv_iconst (v := (0 : Int32)) hx hb dX1_fit_11 (by decide) ?_
  refine lv_istore_n hx hb dX1_fit_12 rfl hl (by decide) rfl (fun ls hl => ?_)
  have hl : lv_has ls 5 [(2, .int (0 : Int32)), (1, .int (0 : Int32)), (0, .ref (Rs 100))] := hl
  have jn_90 : ∀ (S_4 : Sx) (x1_3 : Int32), JX1_fit_s_90 x1_3 S_4 = some o → ∀ (H : Heap) (locs : List Loc) (ls : Array Slot), cx_W g A s (sC g Rs (some (Rn 100)) im S_4 ++ (stC g Rn N ++ X)) H locs → lv_has ls 5 [(1, .int x1_3)] → W p l e rmX1_fit s m av below meth c H locs 0 0 Q (F0 m 90 ls []) := by
    intro S_4 x1_3 hJ_90 H locs ls hw hl
    unfold JX1_fit_s_90 at hJ_90
    refine lv_iload_n hx hb dX1_fit_90 rfl (lv_at hl 0 rfl) ?_
    obtain rfl := Option.some.inj hJ_90
    exact hret _ _ _ _ _ rfl rfl hw dX1_fit_91
  replace hF := fx_b1_e hF
  obtain ⟨ex_13, hL_13, hF⟩ := hF
  have key_13 : ∀ (n_13 : Nat) (S_5 : Sx) (x1_6 : Int32) (x2_7 : Int32), fx_lp (LX1_fit_s_13 N) n_13 (S_5, x1_6, x2_7) = some ex_13 → ∀ (H : Heap) (locs : List Loc) (ls : Array Slot), cx_W g A s (sC g Rs (some (Rn 100)) im S_5 ++ (stC g Rn N ++ X)) H locs → lv_has ls 5 [(0, .ref (Rs 100)), (1, .int x1_6), (2, .int x2_7)] → W p l e rmX1_fit s m av below meth c H locs 0 0 Q (F0 m 13 ls []) := by
    intro n_13
    induction n_13 with
    | zero => intro S_5 x1_6 x2_7 hL_13; exact fx_lp_0 hL_13
    | succ n_13 ih_13 =>
      intro S_5 x1_6 x2_7 hL_13 H locs ls hw hl
      replace hL_13 := fx_lp_s hL_13
      obtain ⟨o_13, hB_13, hO_13⟩ := hL_13
      unfold LX1_fit_s_13 at hB_13
      replace hB_13 := fx_u3_e hB_13
      refine lv_iload_n hx hb dX1_fit_13 rfl (lv_at hl 2 rfl) ?_
      refine lv_aload_n hx hb dX1_fit_14 rfl (lv_at hl 0 rfl) ?_
      replace hB_13 := fx_b1_e hB_13
      obtain ⟨r_8, h_9, hB_13⟩ := hB_13
      refine cx_cVi (r := r_8) (ws := sC g Rs (some (Rn 100)) im S_5 ++ (stC g Rn N ++ X)) (ws' := sC g Rs (some (Rn 100)) im S_5 ++ (stC g Rn N ++ X)) (As := []) (rest := [.int x2_7]) E (mX1_stripes l g A Rs _ _ _ S_5 h_9) (kwX1_X1_stripes E ⟨Nat.le_of_ble_eq_true rfl, Nat.le_of_ble_eq_true rfl⟩) 0 1 rfl rfl rfl hw rfl hl.1 rfl (Nat.le_of_ble_eq_true rfl) dX1_fit_15 ⟨Nat.le_of_ble_eq_true rfl, Nat.le_of_ble_eq_true rfl⟩ (fun H locs hw => ?_)
      refine lv_icmp_ge (tgt := 90) hx hb dX1_fit_18 (by decide) (fun c_10 => ?_) (fun c_10 => ?_)
      · replace hB_13 := fx_tt c_10 hB_13
        obtain rfl := fx_ex hB_13 hO_13
        replace hF := fx_u2_e hF
        exact jn_90 S_5 x1_6 hF _ _ _ hw (lv_sub hl [1] rfl)
      · replace hB_13 := fx_ff c_10 hB_13
        refine lv_aload_n hx hb dX1_fit_21 rfl (lv_at hl 0 rfl) ?_
        refine lv_iload_n hx hb dX1_fit_22 rfl (lv_at hl 2 rfl) ?_
        replace hB_13 := fx_b1_e hB_13
        obtain ⟨r_11, h_12, hB_13⟩ := hB_13
        refine cx_cVi (r := r_11) (ws := sC g Rs (some (Rn 100)) im S_5 ++ (stC g Rn N ++ X)) (ws' := sC g Rs (some (Rn 100)) im S_5 ++ (stC g Rn N ++ X)) (As := [.int x2_7]) (rest := []) E (mX1_absent_s l g A Rs Rn _ _ S_5 N x2_7 h_12) (kwX1_X1_absent E ⟨Nat.le_of_ble_eq_true rfl, Nat.le_of_ble_eq_true rfl⟩) 0 1 rfl rfl rfl hw rfl hl.1 rfl (Nat.le_of_ble_eq_true rfl) dX1_fit_23 ⟨Nat.le_of_ble_eq_true rfl, Nat.le_of_ble_eq_true rfl⟩ (fun H locs hw => ?_)
        have jn_34 : ∀ (t_13 : Int32), JX1_fit_s_34 N x2_7 S_5 t_13 x1_6 = some o_13 → ∀ (H : Heap) (locs : List Loc) (ls : Array Slot), cx_W g A s (sC g Rs (some (Rn 100)) im S_5 ++ (stC g Rn N ++ X)) H locs → lv_has ls 5 [(0, .ref (Rs 100)), (1, .int x1_6), (2, .int x2_7)] → W p l e rmX1_fit s m av below meth c H locs 0 0 Q (F0 m 34 ls [.int t_13]) := by
          intro t_13 hJ_34 H locs ls hw hl
          unfold JX1_fit_s_34 at hJ_34
          refine lv_istore_n hx hb dX1_fit_34 rfl hl (by decide) rfl (fun ls hl => ?_)
          have hl : lv_has ls 5 [(3, .int t_13), (0, .ref (Rs 100)), (1, .int x1_6), (2, .int x2_7)] := hl
          refine lv_iconst (v := (0 : Int32)) hx hb dX1_fit_35 (by decide) ?_
          refine lv_istore hx hb dX1_fit_36 hl (by decide) rfl (fun ls hl => ?_)
          have hl : lv_has ls 5 [(4, .int (0 : Int32)), (3, .int t_13), (0, .ref (Rs 100)), (1, .int x1_6), (2, .int x2_7)] := hl
          have jn_74 : ∀ (S_15 : Sx) (x3_14 : Int32), JX1_fit_s_74 x3_14 x2_7 S_15 x1_6 = some o_13 → ∀ (H : Heap) (locs : List Loc) (ls : Array Slot), cx_W g A s (sC g Rs (some (Rn 100)) im S_15 ++ (stC g Rn N ++ X)) H locs → lv_has ls 5 [(0, .ref (Rs 100)), (1, .int x1_6), (2, .int x2_7), (3, .int x3_14)] → W p l e rmX1_fit s m av below meth c H locs 0 0 Q (F0 m 74 ls []) := by
            intro S_15 x3_14 hJ_74 H locs ls hw hl
            unfold JX1_fit_s_74 at hJ_74
            refine lv_iload_n hx hb dX1_fit_74 rfl (lv_at hl 3 rfl) ?_
            have jn_84 : ∀ (x1_16 : Int32), JX1_fit_s_84 x2_7 S_15 x1_16 = some o_13 → ∀ (H : Heap) (locs : List Loc) (ls : Array Slot), cx_W g A s (sC g Rs (some (Rn 100)) im S_15 ++ (stC g Rn N ++ X)) H locs → lv_has ls 5 [(0, .ref (Rs 100)), (1, .int x1_16), (2, .int x2_7)] → W p l e rmX1_fit s m av below meth c H locs 0 0 Q (F0 m 84 ls []) := by
              intro x1_16 hJ_84 H locs ls hw hl
              unfold JX1_fit_s_84 at hJ_84
              obtain ⟨v_17, ev_17⟩ : ∃ z : Int32, z = x2_7 + (1 : Int32) := ⟨_, rfl⟩
              replace hJ_84 := fx_lt_e ev_17 hJ_84
              refine cx_iinc (z := (1 : Int32)) (v := v_17) hx hb dX1_fit_84 hl (k := 2) rfl (by decide) ev_17 (by decide) rfl (fun ls hl => ?_)
              have hl : lv_has ls 5 [(2, .int v_17), (0, .ref (Rs 100)), (1, .int x1_16)] := hl
              refine lv_goto (tgt := 13) hx hb dX1_fit_87 (by decide) ?_
              exact ih_13 S_15 x1_16 v_17 (fx_bk hJ_84 hO_13) _ _ _ hw (lv_sub hl [1, 2, 0] rfl)
            refine lv_if_eq (tgt := 84) hx hb dX1_fit_75 (by decide) (fun c_18 => ?_) (fun c_18 => ?_)
            · replace hJ_74 := fx_tt c_18 hJ_74
              exact jn_84 x1_6 hJ_74 _ _ _ hw (lv_sub hl [0, 1, 2] rfl)
            · replace hJ_74 := fx_ff c_18 hJ_74
              refine lv_iload_n hx hb dX1_fit_78 rfl (lv_at hl 1 rfl) ?_
              refine lv_iconst (v := (1 : Int32)) hx hb dX1_fit_79 (by decide) ?_
              refine lv_iload_n hx hb dX1_fit_80 rfl (lv_at hl 2 rfl) ?_
              refine lv_ishl hx hb dX1_fit_81 ?_
              refine lv_ior hx hb dX1_fit_82 ?_
              refine lv_topi (fun v_19 ev_19 => ?_)
              replace hJ_74 := fx_lt_e ev_19 hJ_74
              refine lv_istore_n hx hb dX1_fit_83 rfl hl (by decide) rfl (fun ls hl => ?_)
              have hl : lv_has ls 5 [(1, .int v_19), (0, .ref (Rs 100)), (2, .int x2_7), (3, .int x3_14)] := hl
              exact jn_84 v_19 hJ_74 _ _ _ hw (lv_sub hl [1, 0, 2] rfl)
          replace hJ_34 := fx_b1_e hJ_34
          obtain ⟨ex_38, hL_38, hJ_34⟩ := hJ_34
          have key_38 : ∀ (n_38 : Nat) (S_20 : Sx) (x3_21 : Int32) (x4_22 : Int32), fx_lp (LX1_fit_s_38 N x2_7) n_38 (S_20, x3_21, x4_22) = some ex_38 → ∀ (H : Heap) (locs : List Loc) (ls : Array Slot), cx_W g A s (sC g Rs (some (Rn 100)) im S_20 ++ (stC g Rn N ++ X)) H locs → lv_has ls 5 [(0, .ref (Rs 100)), (1, .int x1_6), (2, .int x2_7), (3, .int x3_21), (4, .int x4_22)] → W p l e rmX1_fit s m av below meth c H locs 0 0 Q (F0 m 38 ls []) := by
            intro n_38
            induction n_38 with
            | zero => intro S_20 x3_21 x4_22 hL_38; exact fx_lp_0 hL_38
            | succ n_38 ih_38 =>
              intro S_20 x3_21 x4_22 hL_38 H locs ls hw hl
              replace hL_38 := fx_lp_s hL_38
              obtain ⟨o_38, hB_38, hO_38⟩ := hL_38
              unfold LX1_fit_s_38 at hB_38
              replace hB_38 := fx_u3_e hB_38
              refine lv_iload hx hb dX1_fit_38 (lv_at hl 4 rfl) ?_
              refine lv_aload_n hx hb dX1_fit_40 rfl (lv_at hl 0 rfl) ?_
              replace hB_38 := fx_b1_e hB_38
              obtain ⟨r_23, h_24, hB_38⟩ := hB_38
              refine cx_cVi (r := r_23) (ws := sC g Rs (some (Rn 100)) im S_20 ++ (stC g Rn N ++ X)) (ws' := sC g Rs (some (Rn 100)) im S_20 ++ (stC g Rn N ++ X)) (As := []) (rest := [.int x4_22]) E (mX1_chunk l g A Rs _ _ _ S_20 h_24) (kwX1_X1_chunk E ⟨Nat.le_of_ble_eq_true rfl, Nat.le_of_ble_eq_true rfl⟩) 0 1 rfl rfl rfl hw rfl hl.1 rfl (Nat.le_of_ble_eq_true rfl) dX1_fit_41 ⟨Nat.le_of_ble_eq_true rfl, Nat.le_of_ble_eq_true rfl⟩ (fun H locs hw => ?_)
              refine lv_icmp_ge (tgt := 74) hx hb dX1_fit_44 (by decide) (fun c_25 => ?_) (fun c_25 => ?_)
              · replace hB_38 := fx_tt c_25 hB_38
                obtain rfl := fx_ex hB_38 hO_38
                replace hJ_34 := fx_u2_e hJ_34
                exact jn_74 S_20 x3_21 hJ_34 _ _ _ hw (lv_sub hl [0, 1, 2, 3] rfl)
              · replace hB_38 := fx_ff c_25 hB_38
                refine lv_iload_n hx hb dX1_fit_47 rfl (lv_at hl 3 rfl) ?_
                refine lv_if_eq (tgt := 74) hx hb dX1_fit_48 (by decide) (fun c_26 => ?_) (fun c_26 => ?_)
                · replace hB_38 := fx_tt c_26 hB_38
                  obtain rfl := fx_ex hB_38 hO_38
                  replace hJ_34 := fx_u2_e hJ_34
                  exact jn_74 S_20 x3_21 hJ_34 _ _ _ hw (lv_sub hl [0, 1, 2, 3] rfl)
                · replace hB_38 := fx_ff c_26 hB_38
                  refine lv_aload_n hx hb dX1_fit_51 rfl (lv_at hl 0 rfl) ?_
                  refine lv_iload_n hx hb dX1_fit_52 rfl (lv_at hl 2 rfl) ?_
                  refine lv_iload hx hb dX1_fit_53 (lv_at hl 4 rfl) ?_
                  replace hB_38 := fx_b2_e hB_38
                  obtain ⟨r_27, S_28, h_29, hB_38⟩ := hB_38
                  refine cx_cVi (r := r_27) (ws := sC g Rs (some (Rn 100)) im S_20 ++ (stC g Rn N ++ X)) (ws' := sC g Rs (some (Rn 100)) im S_28 ++ (stC g Rn N ++ X)) (As := [.int x2_7, .int x4_22]) (rest := []) E (mX1_wrongPart_s l g A Rs Rn _ _ S_20 N x2_7 x4_22 h_29) (kwX1_X1_wrongPart E ⟨Nat.le_of_ble_eq_true rfl, Nat.le_of_ble_eq_true rfl⟩) 0 1 rfl rfl rfl hw rfl hl.1 rfl (Nat.le_of_ble_eq_true rfl) dX1_fit_55 ⟨Nat.le_of_ble_eq_true rfl, Nat.le_of_ble_eq_true rfl⟩ (fun H locs hw => ?_)
                  refine lv_iconst (v := (-1 : Int32)) hx hb dX1_fit_58 (by decide) ?_
                  have jn_67 : ∀ (t_30 : Int32), JX1_fit_s_67 x4_22 S_28 t_30 = some o_38 → ∀ (H : Heap) (locs : List Loc) (ls : Array Slot), cx_W g A s (sC g Rs (some (Rn 100)) im S_28 ++ (stC g Rn N ++ X)) H locs → lv_has ls 5 [(0, .ref (Rs 100)), (1, .int x1_6), (2, .int x2_7), (4, .int x4_22)] → W p l e rmX1_fit s m av below meth c H locs 0 0 Q (F0 m 67 ls [.int t_30]) := by
                    intro t_30 hJ_67 H locs ls hw hl
                    unfold JX1_fit_s_67 at hJ_67
                    refine lv_istore_n hx hb dX1_fit_67 rfl hl (by decide) rfl (fun ls hl => ?_)
                    have hl : lv_has ls 5 [(3, .int t_30), (0, .ref (Rs 100)), (1, .int x1_6), (2, .int x2_7), (4, .int x4_22)] := hl
                    obtain ⟨v_31, ev_31⟩ : ∃ z : Int32, z = x4_22 + (1 : Int32) := ⟨_, rfl⟩
                    replace hJ_67 := fx_lt_e ev_31 hJ_67
                    refine cx_iinc (z := (1 : Int32)) (v := v_31) hx hb dX1_fit_68 hl (k := 4) rfl (by decide) ev_31 (by decide) rfl (fun ls hl => ?_)
                    have hl : lv_has ls 5 [(4, .int v_31), (3, .int t_30), (0, .ref (Rs 100)), (1, .int x1_6), (2, .int x2_7)] := hl
                    refine lv_goto (tgt := 38) hx hb dX1_fit_71 (by decide) ?_
                    exact ih_38 S_28 t_30 v_31 (fx_bk hJ_67 hO_38) _ _ _ hw (lv_sub hl [2, 3, 4, 1, 0] rfl)
                  refine lv_icmp_ne (tgt := 66) hx hb dX1_fit_59 (by decide) (fun c_32 => ?_) (fun c_32 => ?_)
                  · replace hB_38 := fx_ff c_32 hB_38
                    refine lv_iconst (v := (0 : Int32)) hx hb dX1_fit_66 (by decide) ?_
                    exact jn_67 (0 : Int32) hB_38 _ _ _ hw (lv_sub hl [0, 1, 2, 4] rfl)
                  · replace hB_38 := fx_tt c_32 hB_38
                    refine lv_iconst (v := (1 : Int32)) hx hb dX1_fit_62 (by decide) ?_
                    refine lv_goto (tgt := 67) hx hb dX1_fit_63 (by decide) ?_
                    exact jn_67 (1 : Int32) hB_38 _ _ _ hw (lv_sub hl [0, 1, 2, 4] rfl)
          exact key_38 _ S_5 t_13 (0 : Int32) hL_38 _ _ _ hw (lv_sub hl [2, 3, 4, 1, 0] rfl)
        refine lv_if_ne (tgt := 33) hx hb dX1_fit_26 (by decide) (fun c_35 => ?_) (fun c_35 => ?_)
        · replace hB_13 := fx_ff c_35 hB_13
          refine lv_iconst (v := (0 : Int32)) hx hb dX1_fit_33 (by decide) ?_
          exact jn_34 (0 : Int32) hB_13 _ _ _ hw hl
        · replace hB_13 := fx_tt c_35 hB_13
          refine lv_iconst (v := (1 : Int32)) hx hb dX1_fit_29 (by decide) ?_
          refine lv_goto (tgt := 34) hx hb dX1_fit_30 (by decide) ?_
          exact jn_34 (1 : Int32) hB_13 _ _ _ hw hl
  exact key_13 _ S (0 : Int32) (0 : Int32) hL_13 _ _ _ hw (lv_sub hl [2, 1, 0] rfl)
/-! fit()I -/
def FX1_fit_n (S : Sx) : Option (Int32 × Sx) :=
  some ((-1 : Int32), S)
set_option maxHeartbeats 4000000 in
set_option maxRecDepth 100000 in
theorem mX1_fit_n (l : Launch) (g : Gx) (A : Nat → Prop) (Rs : Nat → Nat) (im : Option Nat) (X : va_W) (S : Sx) {o : Int32 × Sx} (hF : FX1_fit_n S = some o) :
    cx_i l yX1_fit cX1_fit 5 .int rmX1_fit [.ref (Rs 100)] g A (sC g Rs none im S ++ X) o.1 (sC g Rs none im o.2 ++ X) 0 0 := by
  refine cx_i_of (by decide) (Nat.le_of_ble_eq_true rfl) ?_
  intro p e s m av below meth c Q E hret H hw ls hl
  have E : cx_E p m meth c cX1_fit 5 s av RX1 g A := E
  have hx := E.1.1
  have hb := E.1.2.1
  have hl : lv_has ls 5 [(0, .ref (Rs 100))] := hl
  generalize hlc : ([] : List Loc) = locs at hw ⊢
  clear hlc
  unfold FX1_fit_n at hF
  refine lv_aload_n hx hb dX1_fit_0 rfl (lv_at hl 0 rfl) ?_
  refine cx_cVi (r := (0 : Int32)) (ws := sC g Rs none im S ++ X) (ws' := sC g Rs none im S ++ X) (As := []) (rest := []) E (mX1_isShelf_n l g A Rs _ _ S (o := (0 : Int32)) rfl) (kwX1_X1_isShelf E ⟨Nat.le_of_ble_eq_true rfl, Nat.le_of_ble_eq_true rfl⟩) 0 1 rfl rfl rfl hw rfl hl.1 rfl (Nat.le_of_ble_eq_true rfl) dX1_fit_1 ⟨Nat.le_of_ble_eq_true rfl, Nat.le_of_ble_eq_true rfl⟩ (fun H locs hw => ?_)
  refine lv_if_ne (tgt := 9) hx hb dX1_fit_4 (by decide) (fun c_ => absurd c_ (by decide)) (fun _ => ?_)
  refine lv_iconst (v := (-1 : Int32)) hx hb dX1_fit_7 (by decide) ?_
  obtain rfl := Option.some.inj hF
  exact hret _ _ _ _ _ rfl rfl hw dX1_fit_8
/-! checked(I)I -/
def FX1_checked_s (S : Sx) (N : Sx) (p1 : Int32) : Option (Int32 × Sx) :=
  fx_b1 (FX1_isAddress_s S N p1) (fun r_1 => if r_1 = 0 then (some ((-1 : Int32), S)) else (fx_b2 (FX1_readAt_s S N p1) (fun r_4 S_5 => fx_b1 (FX1_isClear_s S_5 N (gx_I S_5 24)) (fun r_7 => if r_7 = 0 then (some (r_4, S_5)) else (fx_b2 (FX1_wrongPart_s S_5 N (gx_I S_5 24) (gx_I S_5 25)) (fun r_10 S_11 => if r_10 = (gx_I S_11 26) then (some ((r_4 ^^^ (gx_I S_11 29)), S_11)) else (some (r_4, S_11))))))))
set_option maxHeartbeats 4000000 in
set_option maxRecDepth 100000 in
theorem mX1_checked_s (l : Launch) (g : Gx) (A : Nat → Prop) (Rs Rn : Nat → Nat) (im : Option Nat) (X : va_W) (S : Sx) (N : Sx) (p1 : Int32) {o : Int32 × Sx} (hF : FX1_checked_s S N p1 = some o) :
    cx_i l yX1_checked cX1_checked 3 .int rmX1_checked [.ref (Rs 100), .int p1] g A (sC g Rs (some (Rn 100)) im S ++ (stC g Rn N ++ X)) o.1 (sC g Rs (some (Rn 100)) im o.2 ++ (stC g Rn N ++ X)) 0 0 := by
  refine cx_i_of (by decide) (Nat.le_of_ble_eq_true rfl) ?_
  intro p e s m av below meth c Q E hret H hw ls hl
  have E : cx_E p m meth c cX1_checked 3 s av RX1 g A := E
  have hx := E.1.1
  have hb := E.1.2.1
  have hl : lv_has ls 3 [(0, .ref (Rs 100)), (1, .int p1)] := hl
  generalize hlc : ([] : List Loc) = locs at hw ⊢
  clear hlc
  unfold FX1_checked_s at hF
  refine lv_aload_n hx hb dX1_checked_0 rfl (lv_at hl 0 rfl) ?_
  refine lv_iload_n hx hb dX1_checked_1 rfl (lv_at hl 1 rfl) ?_
  replace hF := fx_b1_e hF
  obtain ⟨r_1, h_2, hF⟩ := hF
  refine cx_cVi (r := r_1) (ws := sC g Rs (some (Rn 100)) im S ++ (stC g Rn N ++ X)) (ws' := sC g Rs (some (Rn 100)) im S ++ (stC g Rn N ++ X)) (As := [.int p1]) (rest := []) E (mX1_isAddress_s l g A Rs Rn _ _ S N p1 h_2) (kwX1_X1_isAddress E ⟨Nat.le_of_ble_eq_true rfl, Nat.le_of_ble_eq_true rfl⟩) 0 1 rfl rfl rfl hw rfl hl.1 rfl (Nat.le_of_ble_eq_true rfl) dX1_checked_2 ⟨Nat.le_of_ble_eq_true rfl, Nat.le_of_ble_eq_true rfl⟩ (fun H locs hw => ?_)
  refine lv_if_ne (tgt := 10) hx hb dX1_checked_5 (by decide) (fun c_3 => ?_) (fun c_3 => ?_)
  · replace hF := fx_ff c_3 hF
    refine lv_aload_n hx hb dX1_checked_10 rfl (lv_at hl 0 rfl) ?_
    refine lv_iload_n hx hb dX1_checked_11 rfl (lv_at hl 1 rfl) ?_
    replace hF := fx_b2_e hF
    obtain ⟨r_4, S_5, h_6, hF⟩ := hF
    refine cx_cVi (r := r_4) (ws := sC g Rs (some (Rn 100)) im S ++ (stC g Rn N ++ X)) (ws' := sC g Rs (some (Rn 100)) im S_5 ++ (stC g Rn N ++ X)) (As := [.int p1]) (rest := []) E (mX1_readAt_s l g A Rs Rn _ _ S N p1 h_6) (kwX1_X1_readAt E ⟨Nat.le_of_ble_eq_true rfl, Nat.le_of_ble_eq_true rfl⟩) 0 1 rfl rfl rfl hw rfl hl.1 rfl (Nat.le_of_ble_eq_true rfl) dX1_checked_12 ⟨Nat.le_of_ble_eq_true rfl, Nat.le_of_ble_eq_true rfl⟩ (fun H locs hw => ?_)
    refine lv_istore_n hx hb dX1_checked_15 rfl hl (by decide) rfl (fun ls hl => ?_)
    have hl : lv_has ls 3 [(2, .int r_4), (0, .ref (Rs 100)), (1, .int p1)] := hl
    refine lv_aload_n hx hb dX1_checked_16 rfl (lv_at hl 1 rfl) ?_
    refine lv_aload_n hx hb dX1_checked_17 rfl (lv_at hl 1 rfl) ?_
    refine gX1_24 E hw dX1_checked_18 ?_
    replace hF := fx_b1_e hF
    obtain ⟨r_7, h_8, hF⟩ := hF
    refine cx_cVi (r := r_7) (ws := sC g Rs (some (Rn 100)) im S_5 ++ (stC g Rn N ++ X)) (ws' := sC g Rs (some (Rn 100)) im S_5 ++ (stC g Rn N ++ X)) (As := [.int (gx_I S_5 24)]) (rest := []) E (mX1_isClear_s l g A Rs Rn _ _ S_5 N (gx_I S_5 24) h_8) (kwX1_X1_isClear E ⟨Nat.le_of_ble_eq_true rfl, Nat.le_of_ble_eq_true rfl⟩) 0 1 rfl rfl rfl hw rfl hl.1 rfl (Nat.le_of_ble_eq_true rfl) dX1_checked_21 ⟨Nat.le_of_ble_eq_true rfl, Nat.le_of_ble_eq_true rfl⟩ (fun H locs hw => ?_)
    refine lv_if_ne (tgt := 29) hx hb dX1_checked_24 (by decide) (fun c_9 => ?_) (fun c_9 => ?_)
    · replace hF := fx_ff c_9 hF
      refine lv_aload_n hx hb dX1_checked_29 rfl (lv_at hl 1 rfl) ?_
      refine lv_aload_n hx hb dX1_checked_30 rfl (lv_at hl 1 rfl) ?_
      refine gX1_24 E hw dX1_checked_31 ?_
      refine lv_aload_n hx hb dX1_checked_34 rfl (lv_at hl 1 rfl) ?_
      refine gX1_25 E hw dX1_checked_35 ?_
      replace hF := fx_b2_e hF
      obtain ⟨r_10, S_11, h_12, hF⟩ := hF
      refine cx_cVi (r := r_10) (ws := sC g Rs (some (Rn 100)) im S_5 ++ (stC g Rn N ++ X)) (ws' := sC g Rs (some (Rn 100)) im S_11 ++ (stC g Rn N ++ X)) (As := [.int (gx_I S_5 24), .int (gx_I S_5 25)]) (rest := []) E (mX1_wrongPart_s l g A Rs Rn _ _ S_5 N (gx_I S_5 24) (gx_I S_5 25) h_12) (kwX1_X1_wrongPart E ⟨Nat.le_of_ble_eq_true rfl, Nat.le_of_ble_eq_true rfl⟩) 0 1 rfl rfl rfl hw rfl hl.1 rfl (Nat.le_of_ble_eq_true rfl) dX1_checked_38 ⟨Nat.le_of_ble_eq_true rfl, Nat.le_of_ble_eq_true rfl⟩ (fun H locs hw => ?_)
      refine lv_aload_n hx hb dX1_checked_41 rfl (lv_at hl 1 rfl) ?_
      refine gX1_26 E hw dX1_checked_42 ?_
      refine lv_icmp_ne (tgt := 57) hx hb dX1_checked_45 (by decide) (fun c_13 => ?_) (fun c_13 => ?_)
      · replace hF := fx_ff c_13 hF
        refine lv_iload_n hx hb dX1_checked_57 rfl (lv_at hl 0 rfl) ?_
        obtain rfl := Option.some.inj hF
        exact hret _ _ _ _ _ rfl rfl hw dX1_checked_58
      · replace hF := fx_tt c_13 hF
        refine lv_iload_n hx hb dX1_checked_48 rfl (lv_at hl 0 rfl) ?_
        refine lv_aload_n hx hb dX1_checked_49 rfl (lv_at hl 1 rfl) ?_
        refine gX1_29 E hw dX1_checked_50 ?_
        refine lv_ixor hx hb dX1_checked_53 ?_
        refine lv_goto (tgt := 58) hx hb dX1_checked_54 (by decide) ?_
        obtain rfl := Option.some.inj hF
        exact hret _ _ _ _ _ rfl rfl hw dX1_checked_58
    · replace hF := fx_tt c_9 hF
      refine lv_iload_n hx hb dX1_checked_27 rfl (lv_at hl 0 rfl) ?_
      obtain rfl := Option.some.inj hF
      exact hret _ _ _ _ _ rfl rfl hw dX1_checked_28
  · replace hF := fx_tt c_3 hF
    refine lv_iconst (v := (-1 : Int32)) hx hb dX1_checked_8 (by decide) ?_
    obtain rfl := Option.some.inj hF
    exact hret _ _ _ _ _ rfl rfl hw dX1_checked_9
/-! checked(I)I -/
def FX1_checked_n (S : Sx) (p1 : Int32) : Option (Int32 × Sx) :=
  some ((-1 : Int32), S)
set_option maxHeartbeats 4000000 in
set_option maxRecDepth 100000 in
theorem mX1_checked_n (l : Launch) (g : Gx) (A : Nat → Prop) (Rs : Nat → Nat) (im : Option Nat) (X : va_W) (S : Sx) (p1 : Int32) {o : Int32 × Sx} (hF : FX1_checked_n S p1 = some o) :
    cx_i l yX1_checked cX1_checked 3 .int rmX1_checked [.ref (Rs 100), .int p1] g A (sC g Rs none im S ++ X) o.1 (sC g Rs none im o.2 ++ X) 0 0 := by
  refine cx_i_of (by decide) (Nat.le_of_ble_eq_true rfl) ?_
  intro p e s m av below meth c Q E hret H hw ls hl
  have E : cx_E p m meth c cX1_checked 3 s av RX1 g A := E
  have hx := E.1.1
  have hb := E.1.2.1
  have hl : lv_has ls 3 [(0, .ref (Rs 100)), (1, .int p1)] := hl
  generalize hlc : ([] : List Loc) = locs at hw ⊢
  clear hlc
  unfold FX1_checked_n at hF
  refine lv_aload_n hx hb dX1_checked_0 rfl (lv_at hl 0 rfl) ?_
  refine lv_iload_n hx hb dX1_checked_1 rfl (lv_at hl 1 rfl) ?_
  refine cx_cVi (r := (0 : Int32)) (ws := sC g Rs none im S ++ X) (ws' := sC g Rs none im S ++ X) (As := [.int p1]) (rest := []) E (mX1_isAddress_n l g A Rs _ _ S p1 (o := (0 : Int32)) rfl) (kwX1_X1_isAddress E ⟨Nat.le_of_ble_eq_true rfl, Nat.le_of_ble_eq_true rfl⟩) 0 1 rfl rfl rfl hw rfl hl.1 rfl (Nat.le_of_ble_eq_true rfl) dX1_checked_2 ⟨Nat.le_of_ble_eq_true rfl, Nat.le_of_ble_eq_true rfl⟩ (fun H locs hw => ?_)
  refine lv_if_ne (tgt := 10) hx hb dX1_checked_5 (by decide) (fun c_ => absurd c_ (by decide)) (fun _ => ?_)
  refine lv_iconst (v := (-1 : Int32)) hx hb dX1_checked_8 (by decide) ?_
  obtain rfl := Option.some.inj hF
  exact hret _ _ _ _ _ rfl rfl hw dX1_checked_9
/-! risk()I -/
def JX1_risk_s_116 (x1_3 : Int32) : Option Int32 :=
  some x1_3
def JX1_risk_s_110 (x2_5 : Int32) (x1_9 : Int32) : Option ((Int32 × Int32) ⊕ (Int32)) :=
  fx_lt (x2_5 + (1 : Int32)) (fun v_10 => some (.inl (x1_9, v_10)))
def JX1_risk_s_104 (x3_12 : Int32) (x1_15 : Int32) : Option ((Int32 × Int32) ⊕ (Int32)) :=
  fx_lt (x3_12 + (1 : Int32)) (fun v_16 => some (.inl (x1_15, v_16)))
def JX1_risk_s_96 (t_26 : Int32) (t_27 : Int32) (x3_12 : Int32) (x1_11 : Int32) : Option ((Int32 × Int32) ⊕ (Int32)) :=
  if (2 : Int32) < (t_26 + t_27) then (JX1_risk_s_104 x3_12 x1_11) else (fx_lt (x1_11 + (1 : Int32)) (fun v_29 => JX1_risk_s_104 x3_12 v_29))
def JX1_risk_s_78 (x3_12 : Int32) (N : Sx) (t_23 : Int32) (t_24 : Int32) (x1_11 : Int32) : Option ((Int32 × Int32) ⊕ (Int32)) :=
  fx_gd (fx_in x3_12 8) (if (gx_A N 1 x3_12.toNatClampNeg) = 0 then (JX1_risk_s_96 (t_23 + t_24) (1 : Int32) x3_12 x1_11) else (JX1_risk_s_96 (t_23 + t_24) (0 : Int32) x3_12 x1_11))
def LX1_risk_s_23 (x2_5 : Int32) (N : Sx) (S : Sx) (q_ : Int32 × Int32) : Option ((Int32 × Int32) ⊕ (Int32)) :=
  fx_u2 q_ (fun x1_11 x3_12 => if x2_5 ≤ x3_12 then (some (.inr x1_11)) else (fx_gd (fx_in x2_5 8) (if (gx_A N 1 x2_5.toNatClampNeg) = (1 : Int32) then (JX1_risk_s_104 x3_12 x1_11) else (fx_gd (fx_in x3_12 8) (if (gx_A N 1 x3_12.toNatClampNeg) = (1 : Int32) then (JX1_risk_s_104 x3_12 x1_11) else (fx_b1 (FX1_lostMany_s S N) (fun r_20 => fx_gd (fx_in x2_5 8) (if (gx_A N 1 x2_5.toNatClampNeg) = 0 then (JX1_risk_s_78 x3_12 N r_20 (1 : Int32) x1_11) else (JX1_risk_s_78 x3_12 N r_20 (0 : Int32) x1_11)))))))))
def LX1_risk_s_13 (S : Sx) (N : Sx) (q_ : Int32 × Int32) : Option ((Int32 × Int32) ⊕ (Int32)) :=
  fx_u2 q_ (fun x1_4 x2_5 => fx_b1 (FX1_disks S) (fun r_6 => if r_6 ≤ x2_5 then (some (.inr x1_4)) else (fx_b1 (fx_lp (LX1_risk_s_23 x2_5 N S) 2000 (x1_4, (0 : Int32))) (fun y1_32 => JX1_risk_s_110 x2_5 y1_32))))
def FX1_risk_s (S : Sx) (N : Sx) : Option Int32 :=
  fx_b1 (fx_lp (LX1_risk_s_13 S N) 2000 ((0 : Int32), (0 : Int32))) (fun y1_33 => JX1_risk_s_116 y1_33)
set_option maxHeartbeats 4000000 in
set_option maxRecDepth 100000 in
theorem mX1_risk_s (l : Launch) (g : Gx) (A : Nat → Prop) (Rs Rn : Nat → Nat) (im : Option Nat) (X : va_W) (S : Sx) (N : Sx) {o : Int32} (hF : FX1_risk_s S N = some o) :
    cx_i l yX1_risk cX1_risk 4 .int rmX1_risk [.ref (Rs 100)] g A (sC g Rs (some (Rn 100)) im S ++ (stC g Rn N ++ X)) o (sC g Rs (some (Rn 100)) im S ++ (stC g Rn N ++ X)) 0 0 := by
  refine cx_i_of (by decide) (Nat.le_of_ble_eq_true rfl) ?_
  intro p e s m av below meth c Q E hret H hw ls hl
  have E : cx_E p m meth c cX1_risk 4 s av RX1 g A := E
  have hx := E.1.1
  have hb := E.1.2.1
  have hl : lv_has ls 4 [(0, .ref (Rs 100))] := hl
  generalize hlc : ([] : List Loc) = locs at hw ⊢
  clear hlc
  unfold FX1_risk_s at hF
  refine lv_aload_n hx hb dX1_risk_0 rfl (lv_at hl 0 rfl) ?_
  refine cx_cVi (r := (1 : Int32)) (ws := sC g Rs (some (Rn 100)) im S ++ (stC g Rn N ++ X)) (ws' := sC g Rs (some (Rn 100)) im S ++ (stC g Rn N ++ X)) (As := []) (rest := []) E (mX1_isShelf_s l g A Rs Rn _ _ S N (o := (1 : Int32)) rfl) (kwX1_X1_isShelf E ⟨Nat.le_of_ble_eq_true rfl, Nat.le_of_ble_eq_true rfl⟩) 0 1 rfl rfl rfl hw rfl hl.1 rfl (Nat.le_of_ble_eq_true rfl) dX1_risk_1 ⟨Nat.le_of_ble_eq_true rfl, Nat.le_of_ble_eq_true rfl⟩ (fun H locs hw => ?_)
  refine lv_if_ne (tgt := 9) hx hb dX1_risk_4 (by decide) (fun _ => ?_) (fun c_ => absurd c_ (by decide))
  refine lv_iconst (v := (0 : Int32)) hx hb dX1_risk_9 (by decide) ?_
  refine lv_istore_n hx hb dX1_risk_10 rfl hl (by decide) rfl (fun ls hl => ?_)
  have hl : lv_has ls 4 [(1, .int (0 : Int32)), (0, .ref (Rs 100))] := hl
  refine lv_iconst (v := (0 : Int32)) hx hb dX1_risk_11 (by decide) ?_
  refine lv_istore_n hx hb dX1_risk_12 rfl hl (by decide) rfl (fun ls hl => ?_)
  have hl : lv_has ls 4 [(2, .int (0 : Int32)), (1, .int (0 : Int32)), (0, .ref (Rs 100))] := hl
  have jn_116 : ∀ (x1_3 : Int32), JX1_risk_s_116 x1_3 = some o → ∀ (H : Heap) (locs : List Loc) (ls : Array Slot), cx_W g A s (sC g Rs (some (Rn 100)) im S ++ (stC g Rn N ++ X)) H locs → lv_has ls 4 [(1, .int x1_3)] → W p l e rmX1_risk s m av below meth c H locs 0 0 Q (F0 m 116 ls []) := by
    intro x1_3 hJ_116 H locs ls hw hl
    unfold JX1_risk_s_116 at hJ_116
    refine lv_iload_n hx hb dX1_risk_116 rfl (lv_at hl 0 rfl) ?_
    obtain rfl := Option.some.inj hJ_116
    exact hret _ _ _ _ _ rfl rfl hw dX1_risk_117
  replace hF := fx_b1_e hF
  obtain ⟨ex_13, hL_13, hF⟩ := hF
  have key_13 : ∀ (n_13 : Nat) (x1_4 : Int32) (x2_5 : Int32), fx_lp (LX1_risk_s_13 S N) n_13 (x1_4, x2_5) = some ex_13 → ∀ (H : Heap) (locs : List Loc) (ls : Array Slot), cx_W g A s (sC g Rs (some (Rn 100)) im S ++ (stC g Rn N ++ X)) H locs → lv_has ls 4 [(0, .ref (Rs 100)), (1, .int x1_4), (2, .int x2_5)] → W p l e rmX1_risk s m av below meth c H locs 0 0 Q (F0 m 13 ls []) := by
    intro n_13
    induction n_13 with
    | zero => intro x1_4 x2_5 hL_13; exact fx_lp_0 hL_13
    | succ n_13 ih_13 =>
      intro x1_4 x2_5 hL_13 H locs ls hw hl
      replace hL_13 := fx_lp_s hL_13
      obtain ⟨o_13, hB_13, hO_13⟩ := hL_13
      unfold LX1_risk_s_13 at hB_13
      replace hB_13 := fx_u2_e hB_13
      refine lv_iload_n hx hb dX1_risk_13 rfl (lv_at hl 2 rfl) ?_
      refine lv_aload_n hx hb dX1_risk_14 rfl (lv_at hl 0 rfl) ?_
      replace hB_13 := fx_b1_e hB_13
      obtain ⟨r_6, h_7, hB_13⟩ := hB_13
      refine cx_cVi (r := r_6) (ws := sC g Rs (some (Rn 100)) im S ++ (stC g Rn N ++ X)) (ws' := sC g Rs (some (Rn 100)) im S ++ (stC g Rn N ++ X)) (As := []) (rest := [.int x2_5]) E (mX1_disks l g A Rs _ _ _ S h_7) (kwX1_X1_disks E ⟨Nat.le_of_ble_eq_true rfl, Nat.le_of_ble_eq_true rfl⟩) 0 1 rfl rfl rfl hw rfl hl.1 rfl (Nat.le_of_ble_eq_true rfl) dX1_risk_15 ⟨Nat.le_of_ble_eq_true rfl, Nat.le_of_ble_eq_true rfl⟩ (fun H locs hw => ?_)
      refine lv_icmp_ge (tgt := 116) hx hb dX1_risk_18 (by decide) (fun c_8 => ?_) (fun c_8 => ?_)
      · replace hB_13 := fx_tt c_8 hB_13
        obtain rfl := fx_ex hB_13 hO_13
        exact jn_116 x1_4 hF _ _ _ hw (lv_sub hl [1] rfl)
      · replace hB_13 := fx_ff c_8 hB_13
        refine lv_iconst (v := (0 : Int32)) hx hb dX1_risk_21 (by decide) ?_
        refine lv_istore_n hx hb dX1_risk_22 rfl hl (by decide) rfl (fun ls hl => ?_)
        have hl : lv_has ls 4 [(3, .int (0 : Int32)), (0, .ref (Rs 100)), (1, .int x1_4), (2, .int x2_5)] := hl
        have jn_110 : ∀ (x1_9 : Int32), JX1_risk_s_110 x2_5 x1_9 = some o_13 → ∀ (H : Heap) (locs : List Loc) (ls : Array Slot), cx_W g A s (sC g Rs (some (Rn 100)) im S ++ (stC g Rn N ++ X)) H locs → lv_has ls 4 [(0, .ref (Rs 100)), (1, .int x1_9), (2, .int x2_5)] → W p l e rmX1_risk s m av below meth c H locs 0 0 Q (F0 m 110 ls []) := by
          intro x1_9 hJ_110 H locs ls hw hl
          unfold JX1_risk_s_110 at hJ_110
          obtain ⟨v_10, ev_10⟩ : ∃ z : Int32, z = x2_5 + (1 : Int32) := ⟨_, rfl⟩
          replace hJ_110 := fx_lt_e ev_10 hJ_110
          refine cx_iinc (z := (1 : Int32)) (v := v_10) hx hb dX1_risk_110 hl (k := 2) rfl (by decide) ev_10 (by decide) rfl (fun ls hl => ?_)
          have hl : lv_has ls 4 [(2, .int v_10), (0, .ref (Rs 100)), (1, .int x1_9)] := hl
          refine lv_goto (tgt := 13) hx hb dX1_risk_113 (by decide) ?_
          exact ih_13 x1_9 v_10 (fx_bk hJ_110 hO_13) _ _ _ hw (lv_sub hl [1, 2, 0] rfl)
        replace hB_13 := fx_b1_e hB_13
        obtain ⟨ex_23, hL_23, hB_13⟩ := hB_13
        have key_23 : ∀ (n_23 : Nat) (x1_11 : Int32) (x3_12 : Int32), fx_lp (LX1_risk_s_23 x2_5 N S) n_23 (x1_11, x3_12) = some ex_23 → ∀ (H : Heap) (locs : List Loc) (ls : Array Slot), cx_W g A s (sC g Rs (some (Rn 100)) im S ++ (stC g Rn N ++ X)) H locs → lv_has ls 4 [(0, .ref (Rs 100)), (1, .int x1_11), (2, .int x2_5), (3, .int x3_12)] → W p l e rmX1_risk s m av below meth c H locs 0 0 Q (F0 m 23 ls []) := by
          intro n_23
          induction n_23 with
          | zero => intro x1_11 x3_12 hL_23; exact fx_lp_0 hL_23
          | succ n_23 ih_23 =>
            intro x1_11 x3_12 hL_23 H locs ls hw hl
            replace hL_23 := fx_lp_s hL_23
            obtain ⟨o_23, hB_23, hO_23⟩ := hL_23
            unfold LX1_risk_s_23 at hB_23
            replace hB_23 := fx_u2_e hB_23
            refine lv_iload_n hx hb dX1_risk_23 rfl (lv_at hl 3 rfl) ?_
            refine lv_iload_n hx hb dX1_risk_24 rfl (lv_at hl 2 rfl) ?_
            refine lv_icmp_ge (tgt := 110) hx hb dX1_risk_25 (by decide) (fun c_13 => ?_) (fun c_13 => ?_)
            · replace hB_23 := fx_tt c_13 hB_23
              obtain rfl := fx_ex hB_23 hO_23
              exact jn_110 x1_11 hB_13 _ _ _ hw (lv_sub hl [0, 1, 2] rfl)
            · replace hB_23 := fx_ff c_13 hB_23
              refine lv_aload_n hx hb dX1_risk_28 rfl (lv_at hl 0 rfl) ?_
              refine gX1_19s E hw dX1_risk_29 ?_
              refine gNX7_1 E hw dX1_risk_32 ?_
              refine lv_iload_n hx hb dX1_risk_35 rfl (lv_at hl 2 rfl) ?_
              replace hB_23 := fx_gd_e hB_23
              obtain ⟨h_14, hB_23⟩ := hB_23
              refine raX7_1 E hw (fx_in_e h_14) dX1_risk_36 ?_
              refine lv_iconst (v := (1 : Int32)) hx hb dX1_risk_37 (by decide) ?_
              have jn_104 : ∀ (x1_15 : Int32), JX1_risk_s_104 x3_12 x1_15 = some o_23 → ∀ (H : Heap) (locs : List Loc) (ls : Array Slot), cx_W g A s (sC g Rs (some (Rn 100)) im S ++ (stC g Rn N ++ X)) H locs → lv_has ls 4 [(0, .ref (Rs 100)), (1, .int x1_15), (2, .int x2_5), (3, .int x3_12)] → W p l e rmX1_risk s m av below meth c H locs 0 0 Q (F0 m 104 ls []) := by
                intro x1_15 hJ_104 H locs ls hw hl
                unfold JX1_risk_s_104 at hJ_104
                obtain ⟨v_16, ev_16⟩ : ∃ z : Int32, z = x3_12 + (1 : Int32) := ⟨_, rfl⟩
                replace hJ_104 := fx_lt_e ev_16 hJ_104
                refine cx_iinc (z := (1 : Int32)) (v := v_16) hx hb dX1_risk_104 hl (k := 3) rfl (by decide) ev_16 (by decide) rfl (fun ls hl => ?_)
                have hl : lv_has ls 4 [(3, .int v_16), (0, .ref (Rs 100)), (1, .int x1_15), (2, .int x2_5)] := hl
                refine lv_goto (tgt := 23) hx hb dX1_risk_107 (by decide) ?_
                exact ih_23 x1_15 v_16 (fx_bk hJ_104 hO_23) _ _ _ hw (lv_sub hl [1, 2, 3, 0] rfl)
              refine lv_icmp_eq (tgt := 104) hx hb dX1_risk_38 (by decide) (fun c_17 => ?_) (fun c_17 => ?_)
              · replace hB_23 := fx_tt c_17 hB_23
                exact jn_104 x1_11 hB_23 _ _ _ hw hl
              · replace hB_23 := fx_ff c_17 hB_23
                refine lv_aload_n hx hb dX1_risk_41 rfl (lv_at hl 0 rfl) ?_
                refine gX1_19s E hw dX1_risk_42 ?_
                refine gNX7_1 E hw dX1_risk_45 ?_
                refine lv_iload_n hx hb dX1_risk_48 rfl (lv_at hl 3 rfl) ?_
                replace hB_23 := fx_gd_e hB_23
                obtain ⟨h_18, hB_23⟩ := hB_23
                refine raX7_1 E hw (fx_in_e h_18) dX1_risk_49 ?_
                refine lv_iconst (v := (1 : Int32)) hx hb dX1_risk_50 (by decide) ?_
                refine lv_icmp_ne (tgt := 57) hx hb dX1_risk_51 (by decide) (fun c_19 => ?_) (fun c_19 => ?_)
                · replace hB_23 := fx_ff c_19 hB_23
                  refine lv_aload_n hx hb dX1_risk_57 rfl (lv_at hl 0 rfl) ?_
                  replace hB_23 := fx_b1_e hB_23
                  obtain ⟨r_20, h_21, hB_23⟩ := hB_23
                  refine cx_cVi (r := r_20) (ws := sC g Rs (some (Rn 100)) im S ++ (stC g Rn N ++ X)) (ws' := sC g Rs (some (Rn 100)) im S ++ (stC g Rn N ++ X)) (As := []) (rest := []) E (mX1_lostMany_s l g A Rs Rn _ _ S N h_21) (kwX1_X1_lostMany E ⟨Nat.le_of_ble_eq_true rfl, Nat.le_of_ble_eq_true rfl⟩) 0 1 rfl rfl rfl hw rfl hl.1 rfl (Nat.le_of_ble_eq_true rfl) dX1_risk_58 ⟨Nat.le_of_ble_eq_true rfl, Nat.le_of_ble_eq_true rfl⟩ (fun H locs hw => ?_)
                  refine lv_aload_n hx hb dX1_risk_61 rfl (lv_at hl 0 rfl) ?_
                  refine gX1_19s E hw dX1_risk_62 ?_
                  refine gNX7_1 E hw dX1_risk_65 ?_
                  refine lv_iload_n hx hb dX1_risk_68 rfl (lv_at hl 2 rfl) ?_
                  replace hB_23 := fx_gd_e hB_23
                  obtain ⟨h_22, hB_23⟩ := hB_23
                  refine raX7_1 E hw (fx_in_e h_22) dX1_risk_69 ?_
                  have jn_78 : ∀ (t_23 : Int32) (t_24 : Int32), JX1_risk_s_78 x3_12 N t_23 t_24 x1_11 = some o_23 → ∀ (H : Heap) (locs : List Loc) (ls : Array Slot), cx_W g A s (sC g Rs (some (Rn 100)) im S ++ (stC g Rn N ++ X)) H locs → lv_has ls 4 [(0, .ref (Rs 100)), (1, .int x1_11), (2, .int x2_5), (3, .int x3_12)] → W p l e rmX1_risk s m av below meth c H locs 0 0 Q (F0 m 78 ls [.int t_24, .int t_23]) := by
                    intro t_23 t_24 hJ_78 H locs ls hw hl
                    unfold JX1_risk_s_78 at hJ_78
                    refine lv_iadd hx hb dX1_risk_78 ?_
                    refine lv_aload_n hx hb dX1_risk_79 rfl (lv_at hl 0 rfl) ?_
                    refine gX1_19s E hw dX1_risk_80 ?_
                    refine gNX7_1 E hw dX1_risk_83 ?_
                    refine lv_iload_n hx hb dX1_risk_86 rfl (lv_at hl 3 rfl) ?_
                    replace hJ_78 := fx_gd_e hJ_78
                    obtain ⟨h_25, hJ_78⟩ := hJ_78
                    refine raX7_1 E hw (fx_in_e h_25) dX1_risk_87 ?_
                    have jn_96 : ∀ (t_26 : Int32) (t_27 : Int32), JX1_risk_s_96 t_26 t_27 x3_12 x1_11 = some o_23 → ∀ (H : Heap) (locs : List Loc) (ls : Array Slot), cx_W g A s (sC g Rs (some (Rn 100)) im S ++ (stC g Rn N ++ X)) H locs → lv_has ls 4 [(0, .ref (Rs 100)), (1, .int x1_11), (2, .int x2_5), (3, .int x3_12)] → W p l e rmX1_risk s m av below meth c H locs 0 0 Q (F0 m 96 ls [.int t_27, .int t_26]) := by
                      intro t_26 t_27 hJ_96 H locs ls hw hl
                      unfold JX1_risk_s_96 at hJ_96
                      refine lv_iadd hx hb dX1_risk_96 ?_
                      refine lv_iconst (v := (2 : Int32)) hx hb dX1_risk_97 (by decide) ?_
                      refine lv_icmp_gt (tgt := 104) hx hb dX1_risk_98 (by decide) (fun c_28 => ?_) (fun c_28 => ?_)
                      · replace hJ_96 := fx_tt c_28 hJ_96
                        exact jn_104 x1_11 hJ_96 _ _ _ hw hl
                      · replace hJ_96 := fx_ff c_28 hJ_96
                        obtain ⟨v_29, ev_29⟩ : ∃ z : Int32, z = x1_11 + (1 : Int32) := ⟨_, rfl⟩
                        replace hJ_96 := fx_lt_e ev_29 hJ_96
                        refine cx_iinc (z := (1 : Int32)) (v := v_29) hx hb dX1_risk_101 hl (k := 1) rfl (by decide) ev_29 (by decide) rfl (fun ls hl => ?_)
                        have hl : lv_has ls 4 [(1, .int v_29), (0, .ref (Rs 100)), (2, .int x2_5), (3, .int x3_12)] := hl
                        exact jn_104 v_29 hJ_96 _ _ _ hw (lv_sub hl [1, 0, 2, 3] rfl)
                    refine lv_if_ne (tgt := 95) hx hb dX1_risk_88 (by decide) (fun c_30 => ?_) (fun c_30 => ?_)
                    · replace hJ_78 := fx_ff c_30 hJ_78
                      refine lv_iconst (v := (0 : Int32)) hx hb dX1_risk_95 (by decide) ?_
                      exact jn_96 (t_23 + t_24) (0 : Int32) hJ_78 _ _ _ hw hl
                    · replace hJ_78 := fx_tt c_30 hJ_78
                      refine lv_iconst (v := (1 : Int32)) hx hb dX1_risk_91 (by decide) ?_
                      refine lv_goto (tgt := 96) hx hb dX1_risk_92 (by decide) ?_
                      exact jn_96 (t_23 + t_24) (1 : Int32) hJ_78 _ _ _ hw hl
                  refine lv_if_ne (tgt := 77) hx hb dX1_risk_70 (by decide) (fun c_31 => ?_) (fun c_31 => ?_)
                  · replace hB_23 := fx_ff c_31 hB_23
                    refine lv_iconst (v := (0 : Int32)) hx hb dX1_risk_77 (by decide) ?_
                    exact jn_78 r_20 (0 : Int32) hB_23 _ _ _ hw hl
                  · replace hB_23 := fx_tt c_31 hB_23
                    refine lv_iconst (v := (1 : Int32)) hx hb dX1_risk_73 (by decide) ?_
                    refine lv_goto (tgt := 78) hx hb dX1_risk_74 (by decide) ?_
                    exact jn_78 r_20 (1 : Int32) hB_23 _ _ _ hw hl
                · replace hB_23 := fx_tt c_19 hB_23
                  refine lv_goto (tgt := 104) hx hb dX1_risk_54 (by decide) ?_
                  exact jn_104 x1_11 hB_23 _ _ _ hw hl
        exact key_23 _ x1_4 (0 : Int32) hL_23 _ _ _ hw (lv_sub hl [1, 2, 3, 0] rfl)
  exact key_13 _ (0 : Int32) (0 : Int32) hL_13 _ _ _ hw (lv_sub hl [2, 1, 0] rfl)
/-! risk()I -/
def FX1_risk_n (S : Sx) : Option Int32 :=
  some (-1 : Int32)
set_option maxHeartbeats 4000000 in
set_option maxRecDepth 100000 in
theorem mX1_risk_n (l : Launch) (g : Gx) (A : Nat → Prop) (Rs : Nat → Nat) (im : Option Nat) (X : va_W) (S : Sx) {o : Int32} (hF : FX1_risk_n S = some o) :
    cx_i l yX1_risk cX1_risk 4 .int rmX1_risk [.ref (Rs 100)] g A (sC g Rs none im S ++ X) o (sC g Rs none im S ++ X) 0 0 := by
  refine cx_i_of (by decide) (Nat.le_of_ble_eq_true rfl) ?_
  intro p e s m av below meth c Q E hret H hw ls hl
  have E : cx_E p m meth c cX1_risk 4 s av RX1 g A := E
  have hx := E.1.1
  have hb := E.1.2.1
  have hl : lv_has ls 4 [(0, .ref (Rs 100))] := hl
  generalize hlc : ([] : List Loc) = locs at hw ⊢
  clear hlc
  unfold FX1_risk_n at hF
  refine lv_aload_n hx hb dX1_risk_0 rfl (lv_at hl 0 rfl) ?_
  refine cx_cVi (r := (0 : Int32)) (ws := sC g Rs none im S ++ X) (ws' := sC g Rs none im S ++ X) (As := []) (rest := []) E (mX1_isShelf_n l g A Rs _ _ S (o := (0 : Int32)) rfl) (kwX1_X1_isShelf E ⟨Nat.le_of_ble_eq_true rfl, Nat.le_of_ble_eq_true rfl⟩) 0 1 rfl rfl rfl hw rfl hl.1 rfl (Nat.le_of_ble_eq_true rfl) dX1_risk_1 ⟨Nat.le_of_ble_eq_true rfl, Nat.le_of_ble_eq_true rfl⟩ (fun H locs hw => ?_)
  refine lv_if_ne (tgt := 9) hx hb dX1_risk_4 (by decide) (fun c_ => absurd c_ (by decide)) (fun _ => ?_)
  refine lv_iconst (v := (-1 : Int32)) hx hb dX1_risk_7 (by decide) ?_
  obtain rfl := Option.some.inj hF
  exact hret _ _ _ _ _ rfl rfl hw dX1_risk_8
/-! votes(II)I -/
def JX1_votes_s_125 (x4_11 : Int32) (S_12 : Sx) : Option (Int32 × Sx) :=
  some (x4_11, S_12)
def JX1_votes_s_119 (x5_15 : Int32) (S_20 : Sx) (x4_19 : Int32) : Option ((Sx × Int32 × Int32) ⊕ (Sx × Int32)) :=
  fx_lt (x5_15 + (1 : Int32)) (fun v_21 => some (.inl (S_20, x4_19, v_21)))
def JX1_votes_s_113 (x6_24 : Int32) (S_28 : Sx) (x4_27 : Int32) : Option ((Sx × Int32 × Int32) ⊕ (Sx × Int32)) :=
  fx_lt (x6_24 + (1 : Int32)) (fun v_29 => some (.inl (S_28, x4_27, v_29)))
def LX1_votes_s_53 (x5_15 : Int32) (r_9 : Int32) (N : Sx) (p2 : Int32) (q_ : Sx × Int32 × Int32) : Option ((Sx × Int32 × Int32) ⊕ (Sx × Int32)) :=
  fx_u3 q_ (fun S_22 x4_23 x6_24 => if x5_15 ≤ x6_24 then (some (.inr (S_22, x4_23))) else (fx_lt (((1 : Int32) <<< (x5_15 &&& 31)) ||| ((1 : Int32) <<< (x6_24 &&& 31))) (fun v_26 => if (r_9 &&& (v_26 ^^^ (-1 : Int32))) = 0 then (fx_b1 (FX1_solves_s S_22 N (gx_I S_22 24) (gx_I S_22 25) v_26) (fun S_31 => fx_gd (fx_in (gx_I S_31 26) 8) (if (gx_A S_31 27 (gx_I S_31 26).toNatClampNeg) = p2 then (fx_lt (x4_23 + (1 : Int32)) (fun v_35 => JX1_votes_s_113 x6_24 S_31 v_35)) else (JX1_votes_s_113 x6_24 S_31 x4_23)))) else (JX1_votes_s_113 x6_24 S_22 x4_23))))
def LX1_votes_s_41 (r_9 : Int32) (N : Sx) (p2 : Int32) (q_ : Sx × Int32 × Int32) : Option ((Sx × Int32 × Int32) ⊕ (Sx × Int32)) :=
  fx_u3 q_ (fun S_13 x4_14 x5_15 => fx_b1 (FX1_disks S_13) (fun r_16 => if r_16 ≤ x5_15 then (some (.inr (S_13, x4_14))) else (fx_b1 (fx_lp (LX1_votes_s_53 x5_15 r_9 N p2) 2000 (S_13, x4_14, (0 : Int32))) (fun q_ => fx_u2 q_ (fun S_36 y4_37 => JX1_votes_s_119 x5_15 S_36 y4_37)))))
def FX1_votes_s (S : Sx) (N : Sx) (p1 : Int32) (p2 : Int32) : Option (Int32 × Sx) :=
  fx_b1 (FX1_isAddress_s S N p1) (fun r_1 => if r_1 = 0 then (some ((-1 : Int32), S)) else (fx_b1 (FX1_in p2 (0 : Int32) (255 : Int32)) (fun r_4 => if r_4 = 0 then (some ((-1 : Int32), S)) else (fx_b1 (FX1_lays S p1) (fun S_7 => fx_b1 (FX1_absent_s S_7 N (gx_I S_7 24)) (fun r_9 => fx_b1 (fx_lp (LX1_votes_s_41 r_9 N p2) 2000 (S_7, (0 : Int32), (0 : Int32))) (fun q_ => fx_u2 q_ (fun S_38 y4_39 => JX1_votes_s_125 y4_39 S_38))))))))
set_option maxHeartbeats 4000000 in
set_option maxRecDepth 100000 in
theorem mX1_votes_s (l : Launch) (g : Gx) (A : Nat → Prop) (Rs Rn : Nat → Nat) (im : Option Nat) (X : va_W) (S : Sx) (N : Sx) (p1 : Int32) (p2 : Int32) {o : Int32 × Sx} (hF : FX1_votes_s S N p1 p2 = some o) :
    cx_i l yX1_votes cX1_votes 8 .int rmX1_votes [.ref (Rs 100), .int p1, .int p2] g A (sC g Rs (some (Rn 100)) im S ++ (stC g Rn N ++ X)) o.1 (sC g Rs (some (Rn 100)) im o.2 ++ (stC g Rn N ++ X)) 0 0 := by
  refine cx_i_of (by decide) (Nat.le_of_ble_eq_true rfl) ?_
  intro p e s m av below meth c Q E hret H hw ls hl
  have E : cx_E p m meth c cX1_votes 8 s av RX1 g A := E
  have hx := E.1.1
  have hb := E.1.2.1
  have hl : lv_has ls 8 [(0, .ref (Rs 100)), (1, .int p1), (2, .int p2)] := hl
  generalize hlc : ([] : List Loc) = locs at hw ⊢
  clear hlc
  unfold FX1_votes_s at hF
  refine lv_aload_n hx hb dX1_votes_0 rfl (lv_at hl 0 rfl) ?_
  refine lv_iload_n hx hb dX1_votes_1 rfl (lv_at hl 1 rfl) ?_
  replace hF := fx_b1_e hF
  obtain ⟨r_1, h_2, hF⟩ := hF
  refine cx_cVi (r := r_1) (ws := sC g Rs (some (Rn 100)) im S ++ (stC g Rn N ++ X)) (ws' := sC g Rs (some (Rn 100)) im S ++ (stC g Rn N ++ X)) (As := [.int p1]) (rest := []) E (mX1_isAddress_s l g A Rs Rn _ _ S N p1 h_2) (kwX1_X1_isAddress E ⟨Nat.le_of_ble_eq_true rfl, Nat.le_of_ble_eq_true rfl⟩) 0 1 rfl rfl rfl hw rfl hl.1 rfl (Nat.le_of_ble_eq_true rfl) dX1_votes_2 ⟨Nat.le_of_ble_eq_true rfl, Nat.le_of_ble_eq_true rfl⟩ (fun H locs hw => ?_)
  refine lv_if_eq (tgt := 19) hx hb dX1_votes_5 (by decide) (fun c_3 => ?_) (fun c_3 => ?_)
  · replace hF := fx_tt c_3 hF
    refine lv_iconst (v := (-1 : Int32)) hx hb dX1_votes_19 (by decide) ?_
    obtain rfl := Option.some.inj hF
    exact hret _ _ _ _ _ rfl rfl hw dX1_votes_20
  · replace hF := fx_ff c_3 hF
    refine lv_iload_n hx hb dX1_votes_8 rfl (lv_at hl 2 rfl) ?_
    refine lv_iconst (v := (0 : Int32)) hx hb dX1_votes_9 (by decide) ?_
    refine lv_sipush (v := (255 : Int32)) hx hb dX1_votes_10 (by decide) ?_
    replace hF := fx_b1_e hF
    obtain ⟨r_4, h_5, hF⟩ := hF
    refine cx_cSi (r := r_4) (ws := sC g Rs (some (Rn 100)) im S ++ (stC g Rn N ++ X)) (ws' := sC g Rs (some (Rn 100)) im S ++ (stC g Rn N ++ X)) (As := [.int p2, .int (0 : Int32), .int (255 : Int32)]) (rest := []) E (mX1_in l g A (sC g Rs (some (Rn 100)) im S ++ (stC g Rn N ++ X)) p2 (0 : Int32) (255 : Int32) h_5) (kwX1_X1_in E ⟨Nat.le_of_ble_eq_true rfl, Nat.le_of_ble_eq_true rfl⟩) hw rfl hl.1 rfl (Nat.le_of_ble_eq_true rfl) dX1_votes_13 ⟨Nat.le_of_ble_eq_true rfl, Nat.le_of_ble_eq_true rfl⟩ (fun H locs hw => ?_)
    refine lv_if_ne (tgt := 21) hx hb dX1_votes_16 (by decide) (fun c_6 => ?_) (fun c_6 => ?_)
    · replace hF := fx_ff c_6 hF
      refine lv_aload_n hx hb dX1_votes_21 rfl (lv_at hl 0 rfl) ?_
      refine lv_iload_n hx hb dX1_votes_22 rfl (lv_at hl 1 rfl) ?_
      replace hF := fx_b1_e hF
      obtain ⟨S_7, h_8, hF⟩ := hF
      refine cx_cVv (ws := sC g Rs (some (Rn 100)) im S ++ (stC g Rn N ++ X)) (ws' := sC g Rs (some (Rn 100)) im S_7 ++ (stC g Rn N ++ X)) (As := [.int p1]) (rest := []) E (mX1_lays l g A Rs _ _ _ S p1 h_8) (kwX1_X1_lays E ⟨Nat.le_of_ble_eq_true rfl, Nat.le_of_ble_eq_true rfl⟩) 0 1 rfl rfl rfl hw rfl hl.1 rfl (Nat.le_of_ble_eq_true rfl) dX1_votes_23 ⟨Nat.le_of_ble_eq_true rfl, Nat.le_of_ble_eq_true rfl⟩ (fun H locs hw => ?_)
      refine lv_aload_n hx hb dX1_votes_26 rfl (lv_at hl 0 rfl) ?_
      refine lv_aload_n hx hb dX1_votes_27 rfl (lv_at hl 0 rfl) ?_
      refine gX1_24 E hw dX1_votes_28 ?_
      replace hF := fx_b1_e hF
      obtain ⟨r_9, h_10, hF⟩ := hF
      refine cx_cVi (r := r_9) (ws := sC g Rs (some (Rn 100)) im S_7 ++ (stC g Rn N ++ X)) (ws' := sC g Rs (some (Rn 100)) im S_7 ++ (stC g Rn N ++ X)) (As := [.int (gx_I S_7 24)]) (rest := []) E (mX1_absent_s l g A Rs Rn _ _ S_7 N (gx_I S_7 24) h_10) (kwX1_X1_absent E ⟨Nat.le_of_ble_eq_true rfl, Nat.le_of_ble_eq_true rfl⟩) 0 1 rfl rfl rfl hw rfl hl.1 rfl (Nat.le_of_ble_eq_true rfl) dX1_votes_31 ⟨Nat.le_of_ble_eq_true rfl, Nat.le_of_ble_eq_true rfl⟩ (fun H locs hw => ?_)
      refine lv_istore_n hx hb dX1_votes_34 rfl hl (by decide) rfl (fun ls hl => ?_)
      have hl : lv_has ls 8 [(3, .int r_9), (0, .ref (Rs 100)), (1, .int p1), (2, .int p2)] := hl
      refine lv_iconst (v := (0 : Int32)) hx hb dX1_votes_35 (by decide) ?_
      refine lv_istore hx hb dX1_votes_36 hl (by decide) rfl (fun ls hl => ?_)
      have hl : lv_has ls 8 [(4, .int (0 : Int32)), (3, .int r_9), (0, .ref (Rs 100)), (1, .int p1), (2, .int p2)] := hl
      refine lv_iconst (v := (0 : Int32)) hx hb dX1_votes_38 (by decide) ?_
      refine lv_istore hx hb dX1_votes_39 hl (by decide) rfl (fun ls hl => ?_)
      have hl : lv_has ls 8 [(5, .int (0 : Int32)), (4, .int (0 : Int32)), (3, .int r_9), (0, .ref (Rs 100)), (1, .int p1), (2, .int p2)] := hl
      have jn_125 : ∀ (S_12 : Sx) (x4_11 : Int32), JX1_votes_s_125 x4_11 S_12 = some o → ∀ (H : Heap) (locs : List Loc) (ls : Array Slot), cx_W g A s (sC g Rs (some (Rn 100)) im S_12 ++ (stC g Rn N ++ X)) H locs → lv_has ls 8 [(4, .int x4_11)] → W p l e rmX1_votes s m av below meth c H locs 0 0 Q (F0 m 125 ls []) := by
        intro S_12 x4_11 hJ_125 H locs ls hw hl
        unfold JX1_votes_s_125 at hJ_125
        refine lv_iload hx hb dX1_votes_125 (lv_at hl 0 rfl) ?_
        obtain rfl := Option.some.inj hJ_125
        exact hret _ _ _ _ _ rfl rfl hw dX1_votes_127
      replace hF := fx_b1_e hF
      obtain ⟨ex_41, hL_41, hF⟩ := hF
      have key_41 : ∀ (n_41 : Nat) (S_13 : Sx) (x4_14 : Int32) (x5_15 : Int32), fx_lp (LX1_votes_s_41 r_9 N p2) n_41 (S_13, x4_14, x5_15) = some ex_41 → ∀ (H : Heap) (locs : List Loc) (ls : Array Slot), cx_W g A s (sC g Rs (some (Rn 100)) im S_13 ++ (stC g Rn N ++ X)) H locs → lv_has ls 8 [(0, .ref (Rs 100)), (2, .int p2), (3, .int r_9), (4, .int x4_14), (5, .int x5_15)] → W p l e rmX1_votes s m av below meth c H locs 0 0 Q (F0 m 41 ls []) := by
        intro n_41
        induction n_41 with
        | zero => intro S_13 x4_14 x5_15 hL_41; exact fx_lp_0 hL_41
        | succ n_41 ih_41 =>
          intro S_13 x4_14 x5_15 hL_41 H locs ls hw hl
          replace hL_41 := fx_lp_s hL_41
          obtain ⟨o_41, hB_41, hO_41⟩ := hL_41
          unfold LX1_votes_s_41 at hB_41
          replace hB_41 := fx_u3_e hB_41
          refine lv_iload hx hb dX1_votes_41 (lv_at hl 4 rfl) ?_
          refine lv_aload_n hx hb dX1_votes_43 rfl (lv_at hl 0 rfl) ?_
          replace hB_41 := fx_b1_e hB_41
          obtain ⟨r_16, h_17, hB_41⟩ := hB_41
          refine cx_cVi (r := r_16) (ws := sC g Rs (some (Rn 100)) im S_13 ++ (stC g Rn N ++ X)) (ws' := sC g Rs (some (Rn 100)) im S_13 ++ (stC g Rn N ++ X)) (As := []) (rest := [.int x5_15]) E (mX1_disks l g A Rs _ _ _ S_13 h_17) (kwX1_X1_disks E ⟨Nat.le_of_ble_eq_true rfl, Nat.le_of_ble_eq_true rfl⟩) 0 1 rfl rfl rfl hw rfl hl.1 rfl (Nat.le_of_ble_eq_true rfl) dX1_votes_44 ⟨Nat.le_of_ble_eq_true rfl, Nat.le_of_ble_eq_true rfl⟩ (fun H locs hw => ?_)
          refine lv_icmp_ge (tgt := 125) hx hb dX1_votes_47 (by decide) (fun c_18 => ?_) (fun c_18 => ?_)
          · replace hB_41 := fx_tt c_18 hB_41
            obtain rfl := fx_ex hB_41 hO_41
            replace hF := fx_u2_e hF
            exact jn_125 S_13 x4_14 hF _ _ _ hw (lv_sub hl [3] rfl)
          · replace hB_41 := fx_ff c_18 hB_41
            refine lv_iconst (v := (0 : Int32)) hx hb dX1_votes_50 (by decide) ?_
            refine lv_istore hx hb dX1_votes_51 hl (by decide) rfl (fun ls hl => ?_)
            have hl : lv_has ls 8 [(6, .int (0 : Int32)), (0, .ref (Rs 100)), (2, .int p2), (3, .int r_9), (4, .int x4_14), (5, .int x5_15)] := hl
            have jn_119 : ∀ (S_20 : Sx) (x4_19 : Int32), JX1_votes_s_119 x5_15 S_20 x4_19 = some o_41 → ∀ (H : Heap) (locs : List Loc) (ls : Array Slot), cx_W g A s (sC g Rs (some (Rn 100)) im S_20 ++ (stC g Rn N ++ X)) H locs → lv_has ls 8 [(0, .ref (Rs 100)), (2, .int p2), (3, .int r_9), (4, .int x4_19), (5, .int x5_15)] → W p l e rmX1_votes s m av below meth c H locs 0 0 Q (F0 m 119 ls []) := by
              intro S_20 x4_19 hJ_119 H locs ls hw hl
              unfold JX1_votes_s_119 at hJ_119
              obtain ⟨v_21, ev_21⟩ : ∃ z : Int32, z = x5_15 + (1 : Int32) := ⟨_, rfl⟩
              replace hJ_119 := fx_lt_e ev_21 hJ_119
              refine cx_iinc (z := (1 : Int32)) (v := v_21) hx hb dX1_votes_119 hl (k := 4) rfl (by decide) ev_21 (by decide) rfl (fun ls hl => ?_)
              have hl : lv_has ls 8 [(5, .int v_21), (0, .ref (Rs 100)), (2, .int p2), (3, .int r_9), (4, .int x4_19)] := hl
              refine lv_goto (tgt := 41) hx hb dX1_votes_122 (by decide) ?_
              exact ih_41 S_20 x4_19 v_21 (fx_bk hJ_119 hO_41) _ _ _ hw (lv_sub hl [1, 2, 3, 4, 0] rfl)
            replace hB_41 := fx_b1_e hB_41
            obtain ⟨ex_53, hL_53, hB_41⟩ := hB_41
            have key_53 : ∀ (n_53 : Nat) (S_22 : Sx) (x4_23 : Int32) (x6_24 : Int32), fx_lp (LX1_votes_s_53 x5_15 r_9 N p2) n_53 (S_22, x4_23, x6_24) = some ex_53 → ∀ (H : Heap) (locs : List Loc) (ls : Array Slot), cx_W g A s (sC g Rs (some (Rn 100)) im S_22 ++ (stC g Rn N ++ X)) H locs → lv_has ls 8 [(0, .ref (Rs 100)), (2, .int p2), (3, .int r_9), (4, .int x4_23), (5, .int x5_15), (6, .int x6_24)] → W p l e rmX1_votes s m av below meth c H locs 0 0 Q (F0 m 53 ls []) := by
              intro n_53
              induction n_53 with
              | zero => intro S_22 x4_23 x6_24 hL_53; exact fx_lp_0 hL_53
              | succ n_53 ih_53 =>
                intro S_22 x4_23 x6_24 hL_53 H locs ls hw hl
                replace hL_53 := fx_lp_s hL_53
                obtain ⟨o_53, hB_53, hO_53⟩ := hL_53
                unfold LX1_votes_s_53 at hB_53
                replace hB_53 := fx_u3_e hB_53
                refine lv_iload hx hb dX1_votes_53 (lv_at hl 5 rfl) ?_
                refine lv_iload hx hb dX1_votes_55 (lv_at hl 4 rfl) ?_
                refine lv_icmp_ge (tgt := 119) hx hb dX1_votes_57 (by decide) (fun c_25 => ?_) (fun c_25 => ?_)
                · replace hB_53 := fx_tt c_25 hB_53
                  obtain rfl := fx_ex hB_53 hO_53
                  replace hB_41 := fx_u2_e hB_41
                  exact jn_119 S_22 x4_23 hB_41 _ _ _ hw (lv_sub hl [0, 1, 2, 3, 4] rfl)
                · replace hB_53 := fx_ff c_25 hB_53
                  refine lv_iconst (v := (1 : Int32)) hx hb dX1_votes_60 (by decide) ?_
                  refine lv_iload hx hb dX1_votes_61 (lv_at hl 4 rfl) ?_
                  refine lv_ishl hx hb dX1_votes_63 ?_
                  refine lv_iconst (v := (1 : Int32)) hx hb dX1_votes_64 (by decide) ?_
                  refine lv_iload hx hb dX1_votes_65 (lv_at hl 5 rfl) ?_
                  refine lv_ishl hx hb dX1_votes_67 ?_
                  refine lv_ior hx hb dX1_votes_68 ?_
                  refine lv_topi (fun v_26 ev_26 => ?_)
                  replace hB_53 := fx_lt_e ev_26 hB_53
                  refine lv_istore hx hb dX1_votes_69 hl (by decide) rfl (fun ls hl => ?_)
                  have hl : lv_has ls 8 [(7, .int v_26), (0, .ref (Rs 100)), (2, .int p2), (3, .int r_9), (4, .int x4_23), (5, .int x5_15), (6, .int x6_24)] := hl
                  refine lv_iload_n hx hb dX1_votes_71 rfl (lv_at hl 3 rfl) ?_
                  refine lv_iload hx hb dX1_votes_72 (lv_at hl 0 rfl) ?_
                  refine lv_iconst (v := (-1 : Int32)) hx hb dX1_votes_74 (by decide) ?_
                  refine lv_ixor hx hb dX1_votes_75 ?_
                  refine lv_iand hx hb dX1_votes_76 ?_
                  have jn_113 : ∀ (S_28 : Sx) (x4_27 : Int32), JX1_votes_s_113 x6_24 S_28 x4_27 = some o_53 → ∀ (H : Heap) (locs : List Loc) (ls : Array Slot), cx_W g A s (sC g Rs (some (Rn 100)) im S_28 ++ (stC g Rn N ++ X)) H locs → lv_has ls 8 [(0, .ref (Rs 100)), (2, .int p2), (3, .int r_9), (4, .int x4_27), (5, .int x5_15), (6, .int x6_24)] → W p l e rmX1_votes s m av below meth c H locs 0 0 Q (F0 m 113 ls []) := by
                    intro S_28 x4_27 hJ_113 H locs ls hw hl
                    unfold JX1_votes_s_113 at hJ_113
                    obtain ⟨v_29, ev_29⟩ : ∃ z : Int32, z = x6_24 + (1 : Int32) := ⟨_, rfl⟩
                    replace hJ_113 := fx_lt_e ev_29 hJ_113
                    refine cx_iinc (z := (1 : Int32)) (v := v_29) hx hb dX1_votes_113 hl (k := 5) rfl (by decide) ev_29 (by decide) rfl (fun ls hl => ?_)
                    have hl : lv_has ls 8 [(6, .int v_29), (0, .ref (Rs 100)), (2, .int p2), (3, .int r_9), (4, .int x4_27), (5, .int x5_15)] := hl
                    refine lv_goto (tgt := 53) hx hb dX1_votes_116 (by decide) ?_
                    exact ih_53 S_28 x4_27 v_29 (fx_bk hJ_113 hO_53) _ _ _ hw (lv_sub hl [1, 2, 3, 4, 5, 0] rfl)
                  refine lv_if_eq (tgt := 83) hx hb dX1_votes_77 (by decide) (fun c_30 => ?_) (fun c_30 => ?_)
                  · replace hB_53 := fx_tt c_30 hB_53
                    refine lv_aload_n hx hb dX1_votes_83 rfl (lv_at hl 1 rfl) ?_
                    refine lv_aload_n hx hb dX1_votes_84 rfl (lv_at hl 1 rfl) ?_
                    refine gX1_24 E hw dX1_votes_85 ?_
                    refine lv_aload_n hx hb dX1_votes_88 rfl (lv_at hl 1 rfl) ?_
                    refine gX1_25 E hw dX1_votes_89 ?_
                    refine lv_iload hx hb dX1_votes_92 (lv_at hl 0 rfl) ?_
                    replace hB_53 := fx_b1_e hB_53
                    obtain ⟨S_31, h_32, hB_53⟩ := hB_53
                    refine cx_cVv (ws := sC g Rs (some (Rn 100)) im S_22 ++ (stC g Rn N ++ X)) (ws' := sC g Rs (some (Rn 100)) im S_31 ++ (stC g Rn N ++ X)) (As := [.int (gx_I S_22 24), .int (gx_I S_22 25), .int v_26]) (rest := []) E (mX1_solves_s l g A Rs Rn _ _ S_22 N (gx_I S_22 24) (gx_I S_22 25) v_26 h_32) (kwX1_X1_solves E ⟨Nat.le_of_ble_eq_true rfl, Nat.le_of_ble_eq_true rfl⟩) 0 1 rfl rfl rfl hw rfl hl.1 rfl (Nat.le_of_ble_eq_true rfl) dX1_votes_94 ⟨Nat.le_of_ble_eq_true rfl, Nat.le_of_ble_eq_true rfl⟩ (fun H locs hw => ?_)
                    refine lv_aload_n hx hb dX1_votes_97 rfl (lv_at hl 1 rfl) ?_
                    refine gX1_27 E hw dX1_votes_98 ?_
                    refine lv_aload_n hx hb dX1_votes_101 rfl (lv_at hl 1 rfl) ?_
                    refine gX1_26 E hw dX1_votes_102 ?_
                    replace hB_53 := fx_gd_e hB_53
                    obtain ⟨h_33, hB_53⟩ := hB_53
                    refine raX1_27 E hw (fx_in_e h_33) dX1_votes_105 ?_
                    refine lv_iload_n hx hb dX1_votes_106 rfl (lv_at hl 2 rfl) ?_
                    refine lv_icmp_ne (tgt := 113) hx hb dX1_votes_107 (by decide) (fun c_34 => ?_) (fun c_34 => ?_)
                    · replace hB_53 := fx_ff c_34 hB_53
                      exact jn_113 S_31 x4_23 hB_53 _ _ _ hw (lv_sub hl [1, 2, 3, 4, 5, 6] rfl)
                    · replace hB_53 := fx_tt c_34 hB_53
                      obtain ⟨v_35, ev_35⟩ : ∃ z : Int32, z = x4_23 + (1 : Int32) := ⟨_, rfl⟩
                      replace hB_53 := fx_lt_e ev_35 hB_53
                      refine cx_iinc (z := (1 : Int32)) (v := v_35) hx hb dX1_votes_110 hl (k := 4) rfl (by decide) ev_35 (by decide) rfl (fun ls hl => ?_)
                      have hl : lv_has ls 8 [(4, .int v_35), (7, .int v_26), (0, .ref (Rs 100)), (2, .int p2), (3, .int r_9), (5, .int x5_15), (6, .int x6_24)] := hl
                      exact jn_113 S_31 v_35 hB_53 _ _ _ hw (lv_sub hl [2, 3, 4, 0, 5, 6] rfl)
                  · replace hB_53 := fx_ff c_30 hB_53
                    refine lv_goto (tgt := 113) hx hb dX1_votes_80 (by decide) ?_
                    exact jn_113 S_22 x4_23 hB_53 _ _ _ hw (lv_sub hl [1, 2, 3, 4, 5, 6] rfl)
            exact key_53 _ S_13 x4_14 (0 : Int32) hL_53 _ _ _ hw (lv_sub hl [1, 2, 3, 4, 5, 0] rfl)
      exact key_41 _ S_7 (0 : Int32) (0 : Int32) hL_41 _ _ _ hw (lv_sub hl [3, 5, 2, 1, 0] rfl)
    · replace hF := fx_tt c_6 hF
      refine lv_iconst (v := (-1 : Int32)) hx hb dX1_votes_19 (by decide) ?_
      obtain rfl := Option.some.inj hF
      exact hret _ _ _ _ _ rfl rfl hw dX1_votes_20
/-! votes(II)I -/
def FX1_votes_n (S : Sx) (p1 : Int32) (p2 : Int32) : Option (Int32 × Sx) :=
  some ((-1 : Int32), S)
set_option maxHeartbeats 4000000 in
set_option maxRecDepth 100000 in
theorem mX1_votes_n (l : Launch) (g : Gx) (A : Nat → Prop) (Rs : Nat → Nat) (im : Option Nat) (X : va_W) (S : Sx) (p1 : Int32) (p2 : Int32) {o : Int32 × Sx} (hF : FX1_votes_n S p1 p2 = some o) :
    cx_i l yX1_votes cX1_votes 8 .int rmX1_votes [.ref (Rs 100), .int p1, .int p2] g A (sC g Rs none im S ++ X) o.1 (sC g Rs none im o.2 ++ X) 0 0 := by
  refine cx_i_of (by decide) (Nat.le_of_ble_eq_true rfl) ?_
  intro p e s m av below meth c Q E hret H hw ls hl
  have E : cx_E p m meth c cX1_votes 8 s av RX1 g A := E
  have hx := E.1.1
  have hb := E.1.2.1
  have hl : lv_has ls 8 [(0, .ref (Rs 100)), (1, .int p1), (2, .int p2)] := hl
  generalize hlc : ([] : List Loc) = locs at hw ⊢
  clear hlc
  unfold FX1_votes_n at hF
  refine lv_aload_n hx hb dX1_votes_0 rfl (lv_at hl 0 rfl) ?_
  refine lv_iload_n hx hb dX1_votes_1 rfl (lv_at hl 1 rfl) ?_
  refine cx_cVi (r := (0 : Int32)) (ws := sC g Rs none im S ++ X) (ws' := sC g Rs none im S ++ X) (As := [.int p1]) (rest := []) E (mX1_isAddress_n l g A Rs _ _ S p1 (o := (0 : Int32)) rfl) (kwX1_X1_isAddress E ⟨Nat.le_of_ble_eq_true rfl, Nat.le_of_ble_eq_true rfl⟩) 0 1 rfl rfl rfl hw rfl hl.1 rfl (Nat.le_of_ble_eq_true rfl) dX1_votes_2 ⟨Nat.le_of_ble_eq_true rfl, Nat.le_of_ble_eq_true rfl⟩ (fun H locs hw => ?_)
  refine lv_if_eq (tgt := 19) hx hb dX1_votes_5 (by decide) (fun _ => ?_) (fun c_ => absurd c_ (by decide))
  refine lv_iconst (v := (-1 : Int32)) hx hb dX1_votes_19 (by decide) ?_
  obtain rfl := Option.some.inj hF
  exact hret _ _ _ _ _ rfl rfl hw dX1_votes_20
/-! span(I)I -/
def JX1_span_s_97 (p1 : Int32) (x2_6 : Int32) (S_8 : Sx) (x3_7 : Int32) : Option (Int32 × Sx) :=
  if p1 = 0 then (some (x2_6, S_8)) else (some (x3_7, S_8))
def JX1_span_s_91 (x5_14 : Int32) (S_18 : Sx) (x2_23 : Int32) (x3_24 : Int32) (t_22 : Int32) : Option ((Sx × Int32 × Int32 × Int32 × Int32) ⊕ (Sx × Int32 × Int32)) :=
  fx_lt (x5_14 + (1 : Int32)) (fun v_25 => some (.inl (S_18, x2_23, x3_24, t_22, v_25)))
def JX1_span_s_69 (x2_11 : Int32) (t_22 : Int32) (x5_14 : Int32) (S_18 : Sx) (x3_12 : Int32) : Option ((Sx × Int32 × Int32 × Int32 × Int32) ⊕ (Sx × Int32 × Int32)) :=
  if x2_11 < t_22 then (fx_lt ((x5_14 + (1 : Int32)) - t_22) (fun v_27 => JX1_span_s_91 x5_14 S_18 t_22 v_27 t_22)) else (JX1_span_s_91 x5_14 S_18 x2_11 x3_12 t_22)
def LX1_span_s_28 (N : Sx) (q_ : Sx × Int32 × Int32 × Int32 × Int32) : Option ((Sx × Int32 × Int32 × Int32 × Int32) ⊕ (Sx × Int32 × Int32)) :=
  fx_u5 q_ (fun S_10 x2_11 x3_12 x4_13 x5_14 => fx_b1 (FX1_addresses S_10) (fun r_15 => if r_15 ≤ x5_14 then (some (.inr (S_10, x2_11, x3_12))) else (fx_b1 (FX1_lays S_10 x5_14) (fun S_18 => fx_b1 (FX7_isThere N (gx_I S_18 23) (gx_I S_18 24)) (fun r_20 => if r_20 = 0 then (JX1_span_s_69 x2_11 (x4_13 + (1 : Int32)) x5_14 S_18 x3_12) else (JX1_span_s_69 x2_11 (0 : Int32) x5_14 S_18 x3_12))))))
def FX1_span_s (S : Sx) (N : Sx) (p1 : Int32) : Option (Int32 × Sx) :=
  fx_b1 (FX1_in p1 (0 : Int32) (1 : Int32)) (fun r_3 => if r_3 = 0 then (some ((-1 : Int32), S)) else (fx_b1 (fx_lp (LX1_span_s_28 N) 2000 (S, (0 : Int32), (-1 : Int32), (0 : Int32), (0 : Int32))) (fun q_ => fx_u3 q_ (fun S_29 y2_30 y3_31 => JX1_span_s_97 p1 y2_30 S_29 y3_31))))
set_option maxHeartbeats 4000000 in
set_option maxRecDepth 100000 in
theorem mX1_span_s (l : Launch) (g : Gx) (A : Nat → Prop) (Rs Rn : Nat → Nat) (im : Option Nat) (X : va_W) (S : Sx) (N : Sx) (p1 : Int32) {o : Int32 × Sx} (hF : FX1_span_s S N p1 = some o) :
    cx_i l yX1_span cX1_span 6 .int rmX1_span [.ref (Rs 100), .int p1] g A (sC g Rs (some (Rn 100)) im S ++ (stC g Rn N ++ X)) o.1 (sC g Rs (some (Rn 100)) im o.2 ++ (stC g Rn N ++ X)) 0 0 := by
  refine cx_i_of (by decide) (Nat.le_of_ble_eq_true rfl) ?_
  intro p e s m av below meth c Q E hret H hw ls hl
  have E : cx_E p m meth c cX1_span 6 s av RX1 g A := E
  have hx := E.1.1
  have hb := E.1.2.1
  have hl : lv_has ls 6 [(0, .ref (Rs 100)), (1, .int p1)] := hl
  generalize hlc : ([] : List Loc) = locs at hw ⊢
  clear hlc
  unfold FX1_span_s at hF
  refine lv_aload_n hx hb dX1_span_0 rfl (lv_at hl 0 rfl) ?_
  refine cx_cVi (r := (1 : Int32)) (ws := sC g Rs (some (Rn 100)) im S ++ (stC g Rn N ++ X)) (ws' := sC g Rs (some (Rn 100)) im S ++ (stC g Rn N ++ X)) (As := []) (rest := []) E (mX1_isShelf_s l g A Rs Rn _ _ S N (o := (1 : Int32)) rfl) (kwX1_X1_isShelf E ⟨Nat.le_of_ble_eq_true rfl, Nat.le_of_ble_eq_true rfl⟩) 0 1 rfl rfl rfl hw rfl hl.1 rfl (Nat.le_of_ble_eq_true rfl) dX1_span_1 ⟨Nat.le_of_ble_eq_true rfl, Nat.le_of_ble_eq_true rfl⟩ (fun H locs hw => ?_)
  refine lv_if_eq (tgt := 16) hx hb dX1_span_4 (by decide) (fun c_ => absurd c_ (by decide)) (fun _ => ?_)
  refine lv_iload_n hx hb dX1_span_7 rfl (lv_at hl 1 rfl) ?_
  refine lv_iconst (v := (0 : Int32)) hx hb dX1_span_8 (by decide) ?_
  refine lv_iconst (v := (1 : Int32)) hx hb dX1_span_9 (by decide) ?_
  replace hF := fx_b1_e hF
  obtain ⟨r_3, h_4, hF⟩ := hF
  refine cx_cSi (r := r_3) (ws := sC g Rs (some (Rn 100)) im S ++ (stC g Rn N ++ X)) (ws' := sC g Rs (some (Rn 100)) im S ++ (stC g Rn N ++ X)) (As := [.int p1, .int (0 : Int32), .int (1 : Int32)]) (rest := []) E (mX1_in l g A (sC g Rs (some (Rn 100)) im S ++ (stC g Rn N ++ X)) p1 (0 : Int32) (1 : Int32) h_4) (kwX1_X1_in E ⟨Nat.le_of_ble_eq_true rfl, Nat.le_of_ble_eq_true rfl⟩) hw rfl hl.1 rfl (Nat.le_of_ble_eq_true rfl) dX1_span_10 ⟨Nat.le_of_ble_eq_true rfl, Nat.le_of_ble_eq_true rfl⟩ (fun H locs hw => ?_)
  refine lv_if_ne (tgt := 18) hx hb dX1_span_13 (by decide) (fun c_5 => ?_) (fun c_5 => ?_)
  · replace hF := fx_ff c_5 hF
    refine lv_iconst (v := (0 : Int32)) hx hb dX1_span_18 (by decide) ?_
    refine lv_istore_n hx hb dX1_span_19 rfl hl (by decide) rfl (fun ls hl => ?_)
    have hl : lv_has ls 6 [(2, .int (0 : Int32)), (0, .ref (Rs 100)), (1, .int p1)] := hl
    refine lv_iconst (v := (-1 : Int32)) hx hb dX1_span_20 (by decide) ?_
    refine lv_istore_n hx hb dX1_span_21 rfl hl (by decide) rfl (fun ls hl => ?_)
    have hl : lv_has ls 6 [(3, .int (-1 : Int32)), (2, .int (0 : Int32)), (0, .ref (Rs 100)), (1, .int p1)] := hl
    refine lv_iconst (v := (0 : Int32)) hx hb dX1_span_22 (by decide) ?_
    refine lv_istore hx hb dX1_span_23 hl (by decide) rfl (fun ls hl => ?_)
    have hl : lv_has ls 6 [(4, .int (0 : Int32)), (3, .int (-1 : Int32)), (2, .int (0 : Int32)), (0, .ref (Rs 100)), (1, .int p1)] := hl
    refine lv_iconst (v := (0 : Int32)) hx hb dX1_span_25 (by decide) ?_
    refine lv_istore hx hb dX1_span_26 hl (by decide) rfl (fun ls hl => ?_)
    have hl : lv_has ls 6 [(5, .int (0 : Int32)), (4, .int (0 : Int32)), (3, .int (-1 : Int32)), (2, .int (0 : Int32)), (0, .ref (Rs 100)), (1, .int p1)] := hl
    have jn_97 : ∀ (S_8 : Sx) (x2_6 : Int32) (x3_7 : Int32), JX1_span_s_97 p1 x2_6 S_8 x3_7 = some o → ∀ (H : Heap) (locs : List Loc) (ls : Array Slot), cx_W g A s (sC g Rs (some (Rn 100)) im S_8 ++ (stC g Rn N ++ X)) H locs → lv_has ls 6 [(1, .int p1), (2, .int x2_6), (3, .int x3_7)] → W p l e rmX1_span s m av below meth c H locs 0 0 Q (F0 m 97 ls []) := by
      intro S_8 x2_6 x3_7 hJ_97 H locs ls hw hl
      unfold JX1_span_s_97 at hJ_97
      refine lv_iload_n hx hb dX1_span_97 rfl (lv_at hl 0 rfl) ?_
      refine lv_if_ne (tgt := 105) hx hb dX1_span_98 (by decide) (fun c_9 => ?_) (fun c_9 => ?_)
      · replace hJ_97 := fx_ff c_9 hJ_97
        refine lv_iload_n hx hb dX1_span_105 rfl (lv_at hl 2 rfl) ?_
        obtain rfl := Option.some.inj hJ_97
        exact hret _ _ _ _ _ rfl rfl hw dX1_span_106
      · replace hJ_97 := fx_tt c_9 hJ_97
        refine lv_iload_n hx hb dX1_span_101 rfl (lv_at hl 1 rfl) ?_
        refine lv_goto (tgt := 106) hx hb dX1_span_102 (by decide) ?_
        obtain rfl := Option.some.inj hJ_97
        exact hret _ _ _ _ _ rfl rfl hw dX1_span_106
    replace hF := fx_b1_e hF
    obtain ⟨ex_28, hL_28, hF⟩ := hF
    have key_28 : ∀ (n_28 : Nat) (S_10 : Sx) (x2_11 : Int32) (x3_12 : Int32) (x4_13 : Int32) (x5_14 : Int32), fx_lp (LX1_span_s_28 N) n_28 (S_10, x2_11, x3_12, x4_13, x5_14) = some ex_28 → ∀ (H : Heap) (locs : List Loc) (ls : Array Slot), cx_W g A s (sC g Rs (some (Rn 100)) im S_10 ++ (stC g Rn N ++ X)) H locs → lv_has ls 6 [(0, .ref (Rs 100)), (1, .int p1), (2, .int x2_11), (3, .int x3_12), (4, .int x4_13), (5, .int x5_14)] → W p l e rmX1_span s m av below meth c H locs 0 0 Q (F0 m 28 ls []) := by
      intro n_28
      induction n_28 with
      | zero => intro S_10 x2_11 x3_12 x4_13 x5_14 hL_28; exact fx_lp_0 hL_28
      | succ n_28 ih_28 =>
        intro S_10 x2_11 x3_12 x4_13 x5_14 hL_28 H locs ls hw hl
        replace hL_28 := fx_lp_s hL_28
        obtain ⟨o_28, hB_28, hO_28⟩ := hL_28
        unfold LX1_span_s_28 at hB_28
        replace hB_28 := fx_u5_e hB_28
        refine lv_iload hx hb dX1_span_28 (lv_at hl 5 rfl) ?_
        refine lv_aload_n hx hb dX1_span_30 rfl (lv_at hl 0 rfl) ?_
        replace hB_28 := fx_b1_e hB_28
        obtain ⟨r_15, h_16, hB_28⟩ := hB_28
        refine cx_cVi (r := r_15) (ws := sC g Rs (some (Rn 100)) im S_10 ++ (stC g Rn N ++ X)) (ws' := sC g Rs (some (Rn 100)) im S_10 ++ (stC g Rn N ++ X)) (As := []) (rest := [.int x5_14]) E (mX1_addresses l g A Rs _ _ _ S_10 h_16) (kwX1_X1_addresses E ⟨Nat.le_of_ble_eq_true rfl, Nat.le_of_ble_eq_true rfl⟩) 0 1 rfl rfl rfl hw rfl hl.1 rfl (Nat.le_of_ble_eq_true rfl) dX1_span_31 ⟨Nat.le_of_ble_eq_true rfl, Nat.le_of_ble_eq_true rfl⟩ (fun H locs hw => ?_)
        refine lv_icmp_ge (tgt := 97) hx hb dX1_span_34 (by decide) (fun c_17 => ?_) (fun c_17 => ?_)
        · replace hB_28 := fx_tt c_17 hB_28
          obtain rfl := fx_ex hB_28 hO_28
          replace hF := fx_u3_e hF
          exact jn_97 S_10 x2_11 x3_12 hF _ _ _ hw (lv_sub hl [1, 2, 3] rfl)
        · replace hB_28 := fx_ff c_17 hB_28
          refine lv_aload_n hx hb dX1_span_37 rfl (lv_at hl 0 rfl) ?_
          refine lv_iload hx hb dX1_span_38 (lv_at hl 5 rfl) ?_
          replace hB_28 := fx_b1_e hB_28
          obtain ⟨S_18, h_19, hB_28⟩ := hB_28
          refine cx_cVv (ws := sC g Rs (some (Rn 100)) im S_10 ++ (stC g Rn N ++ X)) (ws' := sC g Rs (some (Rn 100)) im S_18 ++ (stC g Rn N ++ X)) (As := [.int x5_14]) (rest := []) E (mX1_lays l g A Rs _ _ _ S_10 x5_14 h_19) (kwX1_X1_lays E ⟨Nat.le_of_ble_eq_true rfl, Nat.le_of_ble_eq_true rfl⟩) 0 1 rfl rfl rfl hw rfl hl.1 rfl (Nat.le_of_ble_eq_true rfl) dX1_span_40 ⟨Nat.le_of_ble_eq_true rfl, Nat.le_of_ble_eq_true rfl⟩ (fun H locs hw => ?_)
          refine lv_aload_n hx hb dX1_span_43 rfl (lv_at hl 0 rfl) ?_
          refine gX1_19s E hw dX1_span_44 ?_
          refine lv_aload_n hx hb dX1_span_47 rfl (lv_at hl 0 rfl) ?_
          refine gX1_23 E hw dX1_span_48 ?_
          refine lv_aload_n hx hb dX1_span_51 rfl (lv_at hl 0 rfl) ?_
          refine gX1_24 E hw dX1_span_52 ?_
          replace hB_28 := fx_b1_e hB_28
          obtain ⟨r_20, h_21, hB_28⟩ := hB_28
          have hw : cx_W g A s (stC g Rn N ++ (sC g Rs (some (Rn 100)) im S_18 ++ X)) H locs := cx_W.perm hw (List.perm_append_comm_assoc _ _ _)
          refine cx_cVi (r := r_20) (ws := stC g Rn N ++ (sC g Rs (some (Rn 100)) im S_18 ++ X)) (ws' := stC g Rn N ++ (sC g Rs (some (Rn 100)) im S_18 ++ X)) (As := [.int (gx_I S_18 23), .int (gx_I S_18 24)]) (rest := []) E (mX7_isThere l g A Rn _ N (gx_I S_18 23) (gx_I S_18 24) h_21) (kwX1_X7_isThere E ⟨Nat.le_of_ble_eq_true rfl, Nat.le_of_ble_eq_true rfl⟩) 0 2 rfl rfl rfl hw rfl hl.1 rfl (Nat.le_of_ble_eq_true rfl) dX1_span_55 ⟨Nat.le_of_ble_eq_true rfl, Nat.le_of_ble_eq_true rfl⟩ (fun H locs hw => ?_)
          have hw : cx_W g A s (sC g Rs (some (Rn 100)) im S_18 ++ (stC g Rn N ++ X)) H locs := cx_W.perm hw (List.perm_append_comm_assoc _ _ _)
          have jn_69 : ∀ (t_22 : Int32), JX1_span_s_69 x2_11 t_22 x5_14 S_18 x3_12 = some o_28 → ∀ (H : Heap) (locs : List Loc) (ls : Array Slot), cx_W g A s (sC g Rs (some (Rn 100)) im S_18 ++ (stC g Rn N ++ X)) H locs → lv_has ls 6 [(0, .ref (Rs 100)), (1, .int p1), (2, .int x2_11), (3, .int x3_12), (5, .int x5_14)] → W p l e rmX1_span s m av below meth c H locs 0 0 Q (F0 m 69 ls [.int t_22]) := by
            intro t_22 hJ_69 H locs ls hw hl
            unfold JX1_span_s_69 at hJ_69
            refine lv_istore hx hb dX1_span_69 hl (by decide) rfl (fun ls hl => ?_)
            have hl : lv_has ls 6 [(4, .int t_22), (0, .ref (Rs 100)), (1, .int p1), (2, .int x2_11), (3, .int x3_12), (5, .int x5_14)] := hl
            refine lv_iload hx hb dX1_span_71 (lv_at hl 0 rfl) ?_
            refine lv_iload_n hx hb dX1_span_73 rfl (lv_at hl 3 rfl) ?_
            have jn_91 : ∀ (x2_23 : Int32) (x3_24 : Int32), JX1_span_s_91 x5_14 S_18 x2_23 x3_24 t_22 = some o_28 → ∀ (H : Heap) (locs : List Loc) (ls : Array Slot), cx_W g A s (sC g Rs (some (Rn 100)) im S_18 ++ (stC g Rn N ++ X)) H locs → lv_has ls 6 [(0, .ref (Rs 100)), (1, .int p1), (2, .int x2_23), (3, .int x3_24), (4, .int t_22), (5, .int x5_14)] → W p l e rmX1_span s m av below meth c H locs 0 0 Q (F0 m 91 ls []) := by
              intro x2_23 x3_24 hJ_91 H locs ls hw hl
              unfold JX1_span_s_91 at hJ_91
              obtain ⟨v_25, ev_25⟩ : ∃ z : Int32, z = x5_14 + (1 : Int32) := ⟨_, rfl⟩
              replace hJ_91 := fx_lt_e ev_25 hJ_91
              refine cx_iinc (z := (1 : Int32)) (v := v_25) hx hb dX1_span_91 hl (k := 5) rfl (by decide) ev_25 (by decide) rfl (fun ls hl => ?_)
              have hl : lv_has ls 6 [(5, .int v_25), (0, .ref (Rs 100)), (1, .int p1), (2, .int x2_23), (3, .int x3_24), (4, .int t_22)] := hl
              refine lv_goto (tgt := 28) hx hb dX1_span_94 (by decide) ?_
              exact ih_28 S_18 x2_23 x3_24 t_22 v_25 (fx_bk hJ_91 hO_28) _ _ _ hw (lv_sub hl [1, 2, 3, 4, 5, 0] rfl)
            refine lv_icmp_gt (tgt := 80) hx hb dX1_span_74 (by decide) (fun c_26 => ?_) (fun c_26 => ?_)
            · replace hJ_69 := fx_tt c_26 hJ_69
              refine lv_iload hx hb dX1_span_80 (lv_at hl 0 rfl) ?_
              refine lv_istore_n hx hb dX1_span_82 rfl hl (by decide) rfl (fun ls hl => ?_)
              have hl : lv_has ls 6 [(2, .int t_22), (4, .int t_22), (0, .ref (Rs 100)), (1, .int p1), (3, .int x3_12), (5, .int x5_14)] := hl
              refine lv_iload hx hb dX1_span_83 (lv_at hl 5 rfl) ?_
              refine lv_iconst (v := (1 : Int32)) hx hb dX1_span_85 (by decide) ?_
              refine lv_iadd hx hb dX1_span_86 ?_
              refine lv_iload hx hb dX1_span_87 (lv_at hl 1 rfl) ?_
              refine lv_isub hx hb dX1_span_89 ?_
              refine lv_topi (fun v_27 ev_27 => ?_)
              replace hJ_69 := fx_lt_e ev_27 hJ_69
              refine lv_istore_n hx hb dX1_span_90 rfl hl (by decide) rfl (fun ls hl => ?_)
              have hl : lv_has ls 6 [(3, .int v_27), (2, .int t_22), (4, .int t_22), (0, .ref (Rs 100)), (1, .int p1), (5, .int x5_14)] := hl
              exact jn_91 t_22 v_27 hJ_69 _ _ _ hw (lv_sub hl [3, 4, 1, 0, 2, 5] rfl)
            · replace hJ_69 := fx_ff c_26 hJ_69
              refine lv_goto (tgt := 91) hx hb dX1_span_77 (by decide) ?_
              exact jn_91 x2_11 x3_12 hJ_69 _ _ _ hw (lv_sub hl [1, 2, 3, 4, 0, 5] rfl)
          refine lv_if_eq (tgt := 65) hx hb dX1_span_58 (by decide) (fun c_28 => ?_) (fun c_28 => ?_)
          · replace hB_28 := fx_tt c_28 hB_28
            refine lv_iload hx hb dX1_span_65 (lv_at hl 4 rfl) ?_
            refine lv_iconst (v := (1 : Int32)) hx hb dX1_span_67 (by decide) ?_
            refine lv_iadd hx hb dX1_span_68 ?_
            exact jn_69 (x4_13 + (1 : Int32)) hB_28 _ _ _ hw (lv_sub hl [0, 1, 2, 3, 5] rfl)
          · replace hB_28 := fx_ff c_28 hB_28
            refine lv_iconst (v := (0 : Int32)) hx hb dX1_span_61 (by decide) ?_
            refine lv_goto (tgt := 69) hx hb dX1_span_62 (by decide) ?_
            exact jn_69 (0 : Int32) hB_28 _ _ _ hw (lv_sub hl [0, 1, 2, 3, 5] rfl)
    exact key_28 _ S (0 : Int32) (-1 : Int32) (0 : Int32) (0 : Int32) hL_28 _ _ _ hw (lv_sub hl [4, 5, 3, 2, 1, 0] rfl)
  · replace hF := fx_tt c_5 hF
    refine lv_iconst (v := (-1 : Int32)) hx hb dX1_span_16 (by decide) ?_
    obtain rfl := Option.some.inj hF
    exact hret _ _ _ _ _ rfl rfl hw dX1_span_17
/-! span(I)I -/
def FX1_span_n (S : Sx) (p1 : Int32) : Option (Int32 × Sx) :=
  some ((-1 : Int32), S)
set_option maxHeartbeats 4000000 in
set_option maxRecDepth 100000 in
theorem mX1_span_n (l : Launch) (g : Gx) (A : Nat → Prop) (Rs : Nat → Nat) (im : Option Nat) (X : va_W) (S : Sx) (p1 : Int32) {o : Int32 × Sx} (hF : FX1_span_n S p1 = some o) :
    cx_i l yX1_span cX1_span 6 .int rmX1_span [.ref (Rs 100), .int p1] g A (sC g Rs none im S ++ X) o.1 (sC g Rs none im o.2 ++ X) 0 0 := by
  refine cx_i_of (by decide) (Nat.le_of_ble_eq_true rfl) ?_
  intro p e s m av below meth c Q E hret H hw ls hl
  have E : cx_E p m meth c cX1_span 6 s av RX1 g A := E
  have hx := E.1.1
  have hb := E.1.2.1
  have hl : lv_has ls 6 [(0, .ref (Rs 100)), (1, .int p1)] := hl
  generalize hlc : ([] : List Loc) = locs at hw ⊢
  clear hlc
  unfold FX1_span_n at hF
  refine lv_aload_n hx hb dX1_span_0 rfl (lv_at hl 0 rfl) ?_
  refine cx_cVi (r := (0 : Int32)) (ws := sC g Rs none im S ++ X) (ws' := sC g Rs none im S ++ X) (As := []) (rest := []) E (mX1_isShelf_n l g A Rs _ _ S (o := (0 : Int32)) rfl) (kwX1_X1_isShelf E ⟨Nat.le_of_ble_eq_true rfl, Nat.le_of_ble_eq_true rfl⟩) 0 1 rfl rfl rfl hw rfl hl.1 rfl (Nat.le_of_ble_eq_true rfl) dX1_span_1 ⟨Nat.le_of_ble_eq_true rfl, Nat.le_of_ble_eq_true rfl⟩ (fun H locs hw => ?_)
  refine lv_if_eq (tgt := 16) hx hb dX1_span_4 (by decide) (fun _ => ?_) (fun c_ => absurd c_ (by decide))
  refine lv_iconst (v := (-1 : Int32)) hx hb dX1_span_16 (by decide) ?_
  obtain rfl := Option.some.inj hF
  exact hret _ _ _ _ _ rfl rfl hw dX1_span_17
/-! isScript(I)Z -/
def FX1_isScript (S : Sx) (p1 : Int32) : Option Int32 :=
  fx_b1 (FX1_in p1 (0 : Int32) ((gx_I S 17) - (1 : Int32))) (fun r_1 => fx_gd (fx_zb r_1) (some r_1))
set_option maxHeartbeats 4000000 in
set_option maxRecDepth 100000 in
theorem mX1_isScript (l : Launch) (g : Gx) (A : Nat → Prop) (Rs : Nat → Nat) (nw im : Option Nat) (X : va_W) (S : Sx) (p1 : Int32) {o : Int32} (hF : FX1_isScript S p1 = some o) :
    cx_i l yX1_isScript cX1_isScript 2 .boolean rmX1_isScript [.ref (Rs 100), .int p1] g A (sC g Rs nw im S ++ X) o (sC g Rs nw im S ++ X) 0 0 := by
  refine cx_i_of (by decide) (Nat.le_of_ble_eq_true rfl) ?_
  intro p e s m av below meth c Q E hret H hw ls hl
  have E : cx_E p m meth c cX1_isScript 2 s av RX1 g A := E
  have hx := E.1.1
  have hb := E.1.2.1
  have hl : lv_has ls 2 [(0, .ref (Rs 100)), (1, .int p1)] := hl
  generalize hlc : ([] : List Loc) = locs at hw ⊢
  clear hlc
  unfold FX1_isScript at hF
  refine lv_iload_n hx hb dX1_isScript_0 rfl (lv_at hl 1 rfl) ?_
  refine lv_iconst (v := (0 : Int32)) hx hb dX1_isScript_1 (by decide) ?_
  refine lv_aload_n hx hb dX1_isScript_2 rfl (lv_at hl 0 rfl) ?_
  refine gX1_17 E hw dX1_isScript_3 ?_
  refine lv_iconst (v := (1 : Int32)) hx hb dX1_isScript_6 (by decide) ?_
  refine lv_isub hx hb dX1_isScript_7 ?_
  replace hF := fx_b1_e hF
  obtain ⟨r_1, h_2, hF⟩ := hF
  refine cx_cSi (r := r_1) (ws := sC g Rs nw im S ++ X) (ws' := sC g Rs nw im S ++ X) (As := [.int p1, .int (0 : Int32), .int ((gx_I S 17) - (1 : Int32))]) (rest := []) E (mX1_in l g A (sC g Rs nw im S ++ X) p1 (0 : Int32) ((gx_I S 17) - (1 : Int32)) h_2) (kwX1_X1_in E ⟨Nat.le_of_ble_eq_true rfl, Nat.le_of_ble_eq_true rfl⟩) hw rfl hl.1 rfl (Nat.le_of_ble_eq_true rfl) dX1_isScript_8 ⟨Nat.le_of_ble_eq_true rfl, Nat.le_of_ble_eq_true rfl⟩ (fun H locs hw => ?_)
  replace hF := fx_gd_e hF
  obtain ⟨h_3, hF⟩ := hF
  obtain rfl := Option.some.inj hF
  exact hret _ _ _ _ _ rfl (fx_zb_nar h_3) hw dX1_isScript_11
/-! step(III)I -/
def JX1_step_51  : Option Int32 :=
  some (-1000000 : Int32)
def FX1_step (S : Sx) (p1 : Int32) (p2 : Int32) (p3 : Int32) : Option Int32 :=
  fx_b1 (FX1_isScript S p1) (fun r_1 => if r_1 = 0 then JX1_step_51 else (fx_gd (fx_in p1 5) (fx_b1 (FX1_in p2 (0 : Int32) ((gx_A S 15 p1.toNatClampNeg) - (1 : Int32))) (fun r_5 => if r_5 = 0 then JX1_step_51 else (fx_b1 (FX1_in p3 (0 : Int32) (4 : Int32)) (fun r_8 => if r_8 = 0 then JX1_step_51 else (fx_gd (fx_in (((5 : Int32) * (((16 : Int32) * p1) + p2)) + p3) 400) (some (gx_A S 14 (((5 : Int32) * (((16 : Int32) * p1) + p2)) + p3).toNatClampNeg)))))))))
set_option maxHeartbeats 4000000 in
set_option maxRecDepth 100000 in
theorem mX1_step (l : Launch) (g : Gx) (A : Nat → Prop) (Rs : Nat → Nat) (nw im : Option Nat) (X : va_W) (S : Sx) (p1 : Int32) (p2 : Int32) (p3 : Int32) {o : Int32} (hF : FX1_step S p1 p2 p3 = some o) :
    cx_i l yX1_step cX1_step 4 .int rmX1_step [.ref (Rs 100), .int p1, .int p2, .int p3] g A (sC g Rs nw im S ++ X) o (sC g Rs nw im S ++ X) 0 0 := by
  refine cx_i_of (by decide) (Nat.le_of_ble_eq_true rfl) ?_
  intro p e s m av below meth c Q E hret H hw ls hl
  have E : cx_E p m meth c cX1_step 4 s av RX1 g A := E
  have hx := E.1.1
  have hb := E.1.2.1
  have hl : lv_has ls 4 [(0, .ref (Rs 100)), (1, .int p1), (2, .int p2), (3, .int p3)] := hl
  generalize hlc : ([] : List Loc) = locs at hw ⊢
  clear hlc
  unfold FX1_step at hF
  refine lv_aload_n hx hb dX1_step_0 rfl (lv_at hl 0 rfl) ?_
  refine lv_iload_n hx hb dX1_step_1 rfl (lv_at hl 1 rfl) ?_
  replace hF := fx_b1_e hF
  obtain ⟨r_1, h_2, hF⟩ := hF
  refine cx_cVi (r := r_1) (ws := sC g Rs nw im S ++ X) (ws' := sC g Rs nw im S ++ X) (As := [.int p1]) (rest := []) E (mX1_isScript l g A Rs _ _ _ S p1 h_2) (kwX1_X1_isScript E ⟨Nat.le_of_ble_eq_true rfl, Nat.le_of_ble_eq_true rfl⟩) 0 1 rfl rfl rfl hw rfl hl.1 rfl (Nat.le_of_ble_eq_true rfl) dX1_step_2 ⟨Nat.le_of_ble_eq_true rfl, Nat.le_of_ble_eq_true rfl⟩ (fun H locs hw => ?_)
  have jn_51 : JX1_step_51 = some o → ∀ (H : Heap) (locs : List Loc) (ls : Array Slot), cx_W g A s (sC g Rs nw im S ++ X) H locs → lv_has ls 4 [] → W p l e rmX1_step s m av below meth c H locs 0 0 Q (F0 m 51 ls []) := by
    intro  hJ_51 H locs ls hw hl
    unfold JX1_step_51 at hJ_51
    refine lv_ldcw (own := RX1) (v := (-1000000 : Int32)) hx hb E.1.2.2.2.1 (E.1.2.2.2.2 _ q844) dX1_step_51 ?_
    obtain rfl := Option.some.inj hJ_51
    exact hret _ _ _ _ _ rfl rfl hw dX1_step_54
  refine lv_if_eq (tgt := 51) hx hb dX1_step_5 (by decide) (fun c_3 => ?_) (fun c_3 => ?_)
  · replace hF := fx_tt c_3 hF
    exact jn_51  hF _ _ _ hw (lv_sub hl [] rfl)
  · replace hF := fx_ff c_3 hF
    refine lv_iload_n hx hb dX1_step_8 rfl (lv_at hl 2 rfl) ?_
    refine lv_iconst (v := (0 : Int32)) hx hb dX1_step_9 (by decide) ?_
    refine lv_aload_n hx hb dX1_step_10 rfl (lv_at hl 0 rfl) ?_
    refine gX1_15 E hw dX1_step_11 ?_
    refine lv_iload_n hx hb dX1_step_14 rfl (lv_at hl 1 rfl) ?_
    replace hF := fx_gd_e hF
    obtain ⟨h_4, hF⟩ := hF
    refine raX1_15 E hw (fx_in_e h_4) dX1_step_15 ?_
    refine lv_iconst (v := (1 : Int32)) hx hb dX1_step_16 (by decide) ?_
    refine lv_isub hx hb dX1_step_17 ?_
    replace hF := fx_b1_e hF
    obtain ⟨r_5, h_6, hF⟩ := hF
    refine cx_cSi (r := r_5) (ws := sC g Rs nw im S ++ X) (ws' := sC g Rs nw im S ++ X) (As := [.int p2, .int (0 : Int32), .int ((gx_A S 15 p1.toNatClampNeg) - (1 : Int32))]) (rest := []) E (mX1_in l g A (sC g Rs nw im S ++ X) p2 (0 : Int32) ((gx_A S 15 p1.toNatClampNeg) - (1 : Int32)) h_6) (kwX1_X1_in E ⟨Nat.le_of_ble_eq_true rfl, Nat.le_of_ble_eq_true rfl⟩) hw rfl hl.1 rfl (Nat.le_of_ble_eq_true rfl) dX1_step_18 ⟨Nat.le_of_ble_eq_true rfl, Nat.le_of_ble_eq_true rfl⟩ (fun H locs hw => ?_)
    refine lv_if_eq (tgt := 51) hx hb dX1_step_21 (by decide) (fun c_7 => ?_) (fun c_7 => ?_)
    · replace hF := fx_tt c_7 hF
      exact jn_51  hF _ _ _ hw (lv_sub hl [] rfl)
    · replace hF := fx_ff c_7 hF
      refine lv_iload_n hx hb dX1_step_24 rfl (lv_at hl 3 rfl) ?_
      refine lv_iconst (v := (0 : Int32)) hx hb dX1_step_25 (by decide) ?_
      refine lv_iconst (v := (4 : Int32)) hx hb dX1_step_26 (by decide) ?_
      replace hF := fx_b1_e hF
      obtain ⟨r_8, h_9, hF⟩ := hF
      refine cx_cSi (r := r_8) (ws := sC g Rs nw im S ++ X) (ws' := sC g Rs nw im S ++ X) (As := [.int p3, .int (0 : Int32), .int (4 : Int32)]) (rest := []) E (mX1_in l g A (sC g Rs nw im S ++ X) p3 (0 : Int32) (4 : Int32) h_9) (kwX1_X1_in E ⟨Nat.le_of_ble_eq_true rfl, Nat.le_of_ble_eq_true rfl⟩) hw rfl hl.1 rfl (Nat.le_of_ble_eq_true rfl) dX1_step_27 ⟨Nat.le_of_ble_eq_true rfl, Nat.le_of_ble_eq_true rfl⟩ (fun H locs hw => ?_)
      refine lv_if_eq (tgt := 51) hx hb dX1_step_30 (by decide) (fun c_10 => ?_) (fun c_10 => ?_)
      · replace hF := fx_tt c_10 hF
        exact jn_51  hF _ _ _ hw (lv_sub hl [] rfl)
      · replace hF := fx_ff c_10 hF
        refine lv_aload_n hx hb dX1_step_33 rfl (lv_at hl 0 rfl) ?_
        refine gX1_14 E hw dX1_step_34 ?_
        refine lv_iconst (v := (5 : Int32)) hx hb dX1_step_37 (by decide) ?_
        refine lv_bipush (v := (16 : Int32)) hx hb dX1_step_38 (by decide) ?_
        refine lv_iload_n hx hb dX1_step_40 rfl (lv_at hl 1 rfl) ?_
        refine lv_imul hx hb dX1_step_41 ?_
        refine lv_iload_n hx hb dX1_step_42 rfl (lv_at hl 2 rfl) ?_
        refine lv_iadd hx hb dX1_step_43 ?_
        refine lv_imul hx hb dX1_step_44 ?_
        refine lv_iload_n hx hb dX1_step_45 rfl (lv_at hl 3 rfl) ?_
        refine lv_iadd hx hb dX1_step_46 ?_
        replace hF := fx_gd_e hF
        obtain ⟨h_11, hF⟩ := hF
        refine raX1_14 E hw (fx_in_e h_11) dX1_step_47 ?_
        refine lv_goto (tgt := 54) hx hb dX1_step_48 (by decide) ?_
        obtain rfl := Option.some.inj hF
        exact hret _ _ _ _ _ rfl rfl hw dX1_step_54
/-! sum([I)I -/
def JX7_sum_3_35 (x2_1 : Int32) : Option Int32 :=
  some x2_1
def LX7_sum_3_11 (N : Sx) (q_ : Int32 × Int32) : Option ((Int32 × Int32) ⊕ (Int32)) :=
  fx_u2 q_ (fun x2_2 x5_3 => if (8 : Int32) ≤ x5_3 then (some (.inr x2_2)) else (fx_gd (fx_in x5_3 8) (fx_lt (gx_A N 3 x5_3.toNatClampNeg) (fun v_6 => fx_lt (x2_2 + v_6) (fun v_7 => fx_lt (x5_3 + (1 : Int32)) (fun v_8 => some (.inl (v_7, v_8))))))))
def FX7_sum_3 (N : Sx) : Option Int32 :=
  fx_b1 (fx_lp (LX7_sum_3_11 N) 2000 ((0 : Int32), (0 : Int32))) (fun y2_9 => JX7_sum_3_35 y2_9)
set_option maxHeartbeats 4000000 in
set_option maxRecDepth 100000 in
theorem mX7_sum_3 (l : Launch) (g : Gx) (A : Nat → Prop) (Rn : Nat → Nat) (X : va_W) (N : Sx) {o : Int32} (hF : FX7_sum_3 N = some o) :
    cx_i l yX7_sum cX7_sum 7 .int rmX7_sum [.ref (Rn 100), .ref (Rn 3)] g A (stC g Rn N ++ X) o (stC g Rn N ++ X) 0 0 := by
  refine cx_i_of (by decide) (Nat.le_of_ble_eq_true rfl) ?_
  intro p e s m av below meth c Q E hret H hw ls hl
  have E : cx_E p m meth c cX7_sum 7 s av RX7 g A := E
  have hx := E.1.1
  have hb := E.1.2.1
  have hl : lv_has ls 7 [(0, .ref (Rn 100)), (1, .ref (Rn 3))] := hl
  generalize hlc : ([] : List Loc) = locs at hw ⊢
  clear hlc
  unfold FX7_sum_3 at hF
  refine lv_iconst (v := (0 : Int32)) hx hb dX7_sum_0 (by decide) ?_
  refine lv_istore_n hx hb dX7_sum_1 rfl hl (by decide) rfl (fun ls hl => ?_)
  have hl : lv_has ls 7 [(2, .int (0 : Int32)), (0, .ref (Rn 100)), (1, .ref (Rn 3))] := hl
  refine lv_aload_n hx hb dX7_sum_2 rfl (lv_at hl 2 rfl) ?_
  refine lv_astore_n hx hb dX7_sum_3 rfl hl (by decide) rfl (fun ls hl => ?_)
  have hl : lv_has ls 7 [(3, .ref (Rn 3)), (2, .int (0 : Int32)), (0, .ref (Rn 100)), (1, .ref (Rn 3))] := hl
  refine lv_aload_n hx hb dX7_sum_4 rfl (lv_at hl 0 rfl) ?_
  refine rlY7_3 E hw dX7_sum_5 ?_
  refine lv_istore hx hb dX7_sum_6 hl (by decide) rfl (fun ls hl => ?_)
  have hl : lv_has ls 7 [(4, .int (8 : Int32)), (3, .ref (Rn 3)), (2, .int (0 : Int32)), (0, .ref (Rn 100)), (1, .ref (Rn 3))] := hl
  refine lv_iconst (v := (0 : Int32)) hx hb dX7_sum_8 (by decide) ?_
  refine lv_istore hx hb dX7_sum_9 hl (by decide) rfl (fun ls hl => ?_)
  have hl : lv_has ls 7 [(5, .int (0 : Int32)), (4, .int (8 : Int32)), (3, .ref (Rn 3)), (2, .int (0 : Int32)), (0, .ref (Rn 100)), (1, .ref (Rn 3))] := hl
  have jn_35 : ∀ (x2_1 : Int32), JX7_sum_3_35 x2_1 = some o → ∀ (H : Heap) (locs : List Loc) (ls : Array Slot), cx_W g A s (stC g Rn N ++ X) H locs → lv_has ls 7 [(2, .int x2_1)] → W p l e rmX7_sum s m av below meth c H locs 0 0 Q (F0 m 35 ls []) := by
    intro x2_1 hJ_35 H locs ls hw hl
    unfold JX7_sum_3_35 at hJ_35
    refine lv_iload_n hx hb dX7_sum_35 rfl (lv_at hl 0 rfl) ?_
    obtain rfl := Option.some.inj hJ_35
    exact hret _ _ _ _ _ rfl rfl hw dX7_sum_36
  replace hF := fx_b1_e hF
  obtain ⟨ex_11, hL_11, hF⟩ := hF
  have key_11 : ∀ (n_11 : Nat) (x2_2 : Int32) (x5_3 : Int32), fx_lp (LX7_sum_3_11 N) n_11 (x2_2, x5_3) = some ex_11 → ∀ (H : Heap) (locs : List Loc) (ls : Array Slot), cx_W g A s (stC g Rn N ++ X) H locs → lv_has ls 7 [(2, .int x2_2), (3, .ref (Rn 3)), (4, .int (8 : Int32)), (5, .int x5_3)] → W p l e rmX7_sum s m av below meth c H locs 0 0 Q (F0 m 11 ls []) := by
    intro n_11
    induction n_11 with
    | zero => intro x2_2 x5_3 hL_11; exact fx_lp_0 hL_11
    | succ n_11 ih_11 =>
      intro x2_2 x5_3 hL_11 H locs ls hw hl
      replace hL_11 := fx_lp_s hL_11
      obtain ⟨o_11, hB_11, hO_11⟩ := hL_11
      unfold LX7_sum_3_11 at hB_11
      replace hB_11 := fx_u2_e hB_11
      refine lv_iload hx hb dX7_sum_11 (lv_at hl 3 rfl) ?_
      refine lv_iload hx hb dX7_sum_13 (lv_at hl 2 rfl) ?_
      refine lv_icmp_ge (tgt := 35) hx hb dX7_sum_15 (by decide) (fun c_4 => ?_) (fun c_4 => ?_)
      · replace hB_11 := fx_tt c_4 hB_11
        obtain rfl := fx_ex hB_11 hO_11
        exact jn_35 x2_2 hF _ _ _ hw (lv_sub hl [0] rfl)
      · replace hB_11 := fx_ff c_4 hB_11
        refine lv_aload_n hx hb dX7_sum_18 rfl (lv_at hl 1 rfl) ?_
        refine lv_iload hx hb dX7_sum_19 (lv_at hl 3 rfl) ?_
        replace hB_11 := fx_gd_e hB_11
        obtain ⟨h_5, hB_11⟩ := hB_11
        refine raY7_3 E hw (fx_in_e h_5) dX7_sum_21 ?_
        refine lv_topi (fun v_6 ev_6 => ?_)
        replace hB_11 := fx_lt_e ev_6 hB_11
        refine lv_istore hx hb dX7_sum_22 hl (by decide) rfl (fun ls hl => ?_)
        have hl : lv_has ls 7 [(6, .int v_6), (2, .int x2_2), (3, .ref (Rn 3)), (4, .int (8 : Int32)), (5, .int x5_3)] := hl
        refine lv_iload_n hx hb dX7_sum_24 rfl (lv_at hl 1 rfl) ?_
        refine lv_iload hx hb dX7_sum_25 (lv_at hl 0 rfl) ?_
        refine lv_iadd hx hb dX7_sum_27 ?_
        refine lv_topi (fun v_7 ev_7 => ?_)
        replace hB_11 := fx_lt_e ev_7 hB_11
        refine lv_istore_n hx hb dX7_sum_28 rfl hl (by decide) rfl (fun ls hl => ?_)
        have hl : lv_has ls 7 [(2, .int v_7), (6, .int v_6), (3, .ref (Rn 3)), (4, .int (8 : Int32)), (5, .int x5_3)] := hl
        obtain ⟨v_8, ev_8⟩ : ∃ z : Int32, z = x5_3 + (1 : Int32) := ⟨_, rfl⟩
        replace hB_11 := fx_lt_e ev_8 hB_11
        refine cx_iinc (z := (1 : Int32)) (v := v_8) hx hb dX7_sum_29 hl (k := 4) rfl (by decide) ev_8 (by decide) rfl (fun ls hl => ?_)
        have hl : lv_has ls 7 [(5, .int v_8), (2, .int v_7), (6, .int v_6), (3, .ref (Rn 3)), (4, .int (8 : Int32))] := hl
        refine lv_goto (tgt := 11) hx hb dX7_sum_32 (by decide) ?_
        exact ih_11 v_7 v_8 (fx_bk hB_11 hO_11) _ _ _ hw (lv_sub hl [1, 3, 4, 0] rfl)
  exact key_11 _ (0 : Int32) (0 : Int32) hL_11 _ _ _ hw (lv_sub hl [3, 2, 1, 0] rfl)
/-! sum([I)I -/
def JX7_sum_4_35 (x2_1 : Int32) : Option Int32 :=
  some x2_1
def LX7_sum_4_11 (N : Sx) (q_ : Int32 × Int32) : Option ((Int32 × Int32) ⊕ (Int32)) :=
  fx_u2 q_ (fun x2_2 x5_3 => if (8 : Int32) ≤ x5_3 then (some (.inr x2_2)) else (fx_gd (fx_in x5_3 8) (fx_lt (gx_A N 4 x5_3.toNatClampNeg) (fun v_6 => fx_lt (x2_2 + v_6) (fun v_7 => fx_lt (x5_3 + (1 : Int32)) (fun v_8 => some (.inl (v_7, v_8))))))))
def FX7_sum_4 (N : Sx) : Option Int32 :=
  fx_b1 (fx_lp (LX7_sum_4_11 N) 2000 ((0 : Int32), (0 : Int32))) (fun y2_9 => JX7_sum_4_35 y2_9)
set_option maxHeartbeats 4000000 in
set_option maxRecDepth 100000 in
theorem mX7_sum_4 (l : Launch) (g : Gx) (A : Nat → Prop) (Rn : Nat → Nat) (X : va_W) (N : Sx) {o : Int32} (hF : FX7_sum_4 N = some o) :
    cx_i l yX7_sum cX7_sum 7 .int rmX7_sum [.ref (Rn 100), .ref (Rn 4)] g A (stC g Rn N ++ X) o (stC g Rn N ++ X) 0 0 := by
  refine cx_i_of (by decide) (Nat.le_of_ble_eq_true rfl) ?_
  intro p e s m av below meth c Q E hret H hw ls hl
  have E : cx_E p m meth c cX7_sum 7 s av RX7 g A := E
  have hx := E.1.1
  have hb := E.1.2.1
  have hl : lv_has ls 7 [(0, .ref (Rn 100)), (1, .ref (Rn 4))] := hl
  generalize hlc : ([] : List Loc) = locs at hw ⊢
  clear hlc
  unfold FX7_sum_4 at hF
  refine lv_iconst (v := (0 : Int32)) hx hb dX7_sum_0 (by decide) ?_
  refine lv_istore_n hx hb dX7_sum_1 rfl hl (by decide) rfl (fun ls hl => ?_)
  have hl : lv_has ls 7 [(2, .int (0 : Int32)), (0, .ref (Rn 100)), (1, .ref (Rn 4))] := hl
  refine lv_aload_n hx hb dX7_sum_2 rfl (lv_at hl 2 rfl) ?_
  refine lv_astore_n hx hb dX7_sum_3 rfl hl (by decide) rfl (fun ls hl => ?_)
  have hl : lv_has ls 7 [(3, .ref (Rn 4)), (2, .int (0 : Int32)), (0, .ref (Rn 100)), (1, .ref (Rn 4))] := hl
  refine lv_aload_n hx hb dX7_sum_4 rfl (lv_at hl 0 rfl) ?_
  refine rlY7_4 E hw dX7_sum_5 ?_
  refine lv_istore hx hb dX7_sum_6 hl (by decide) rfl (fun ls hl => ?_)
  have hl : lv_has ls 7 [(4, .int (8 : Int32)), (3, .ref (Rn 4)), (2, .int (0 : Int32)), (0, .ref (Rn 100)), (1, .ref (Rn 4))] := hl
  refine lv_iconst (v := (0 : Int32)) hx hb dX7_sum_8 (by decide) ?_
  refine lv_istore hx hb dX7_sum_9 hl (by decide) rfl (fun ls hl => ?_)
  have hl : lv_has ls 7 [(5, .int (0 : Int32)), (4, .int (8 : Int32)), (3, .ref (Rn 4)), (2, .int (0 : Int32)), (0, .ref (Rn 100)), (1, .ref (Rn 4))] := hl
  have jn_35 : ∀ (x2_1 : Int32), JX7_sum_4_35 x2_1 = some o → ∀ (H : Heap) (locs : List Loc) (ls : Array Slot), cx_W g A s (stC g Rn N ++ X) H locs → lv_has ls 7 [(2, .int x2_1)] → W p l e rmX7_sum s m av below meth c H locs 0 0 Q (F0 m 35 ls []) := by
    intro x2_1 hJ_35 H locs ls hw hl
    unfold JX7_sum_4_35 at hJ_35
    refine lv_iload_n hx hb dX7_sum_35 rfl (lv_at hl 0 rfl) ?_
    obtain rfl := Option.some.inj hJ_35
    exact hret _ _ _ _ _ rfl rfl hw dX7_sum_36
  replace hF := fx_b1_e hF
  obtain ⟨ex_11, hL_11, hF⟩ := hF
  have key_11 : ∀ (n_11 : Nat) (x2_2 : Int32) (x5_3 : Int32), fx_lp (LX7_sum_4_11 N) n_11 (x2_2, x5_3) = some ex_11 → ∀ (H : Heap) (locs : List Loc) (ls : Array Slot), cx_W g A s (stC g Rn N ++ X) H locs → lv_has ls 7 [(2, .int x2_2), (3, .ref (Rn 4)), (4, .int (8 : Int32)), (5, .int x5_3)] → W p l e rmX7_sum s m av below meth c H locs 0 0 Q (F0 m 11 ls []) := by
    intro n_11
    induction n_11 with
    | zero => intro x2_2 x5_3 hL_11; exact fx_lp_0 hL_11
    | succ n_11 ih_11 =>
      intro x2_2 x5_3 hL_11 H locs ls hw hl
      replace hL_11 := fx_lp_s hL_11
      obtain ⟨o_11, hB_11, hO_11⟩ := hL_11
      unfold LX7_sum_4_11 at hB_11
      replace hB_11 := fx_u2_e hB_11
      refine lv_iload hx hb dX7_sum_11 (lv_at hl 3 rfl) ?_
      refine lv_iload hx hb dX7_sum_13 (lv_at hl 2 rfl) ?_
      refine lv_icmp_ge (tgt := 35) hx hb dX7_sum_15 (by decide) (fun c_4 => ?_) (fun c_4 => ?_)
      · replace hB_11 := fx_tt c_4 hB_11
        obtain rfl := fx_ex hB_11 hO_11
        exact jn_35 x2_2 hF _ _ _ hw (lv_sub hl [0] rfl)
      · replace hB_11 := fx_ff c_4 hB_11
        refine lv_aload_n hx hb dX7_sum_18 rfl (lv_at hl 1 rfl) ?_
        refine lv_iload hx hb dX7_sum_19 (lv_at hl 3 rfl) ?_
        replace hB_11 := fx_gd_e hB_11
        obtain ⟨h_5, hB_11⟩ := hB_11
        refine raY7_4 E hw (fx_in_e h_5) dX7_sum_21 ?_
        refine lv_topi (fun v_6 ev_6 => ?_)
        replace hB_11 := fx_lt_e ev_6 hB_11
        refine lv_istore hx hb dX7_sum_22 hl (by decide) rfl (fun ls hl => ?_)
        have hl : lv_has ls 7 [(6, .int v_6), (2, .int x2_2), (3, .ref (Rn 4)), (4, .int (8 : Int32)), (5, .int x5_3)] := hl
        refine lv_iload_n hx hb dX7_sum_24 rfl (lv_at hl 1 rfl) ?_
        refine lv_iload hx hb dX7_sum_25 (lv_at hl 0 rfl) ?_
        refine lv_iadd hx hb dX7_sum_27 ?_
        refine lv_topi (fun v_7 ev_7 => ?_)
        replace hB_11 := fx_lt_e ev_7 hB_11
        refine lv_istore_n hx hb dX7_sum_28 rfl hl (by decide) rfl (fun ls hl => ?_)
        have hl : lv_has ls 7 [(2, .int v_7), (6, .int v_6), (3, .ref (Rn 4)), (4, .int (8 : Int32)), (5, .int x5_3)] := hl
        obtain ⟨v_8, ev_8⟩ : ∃ z : Int32, z = x5_3 + (1 : Int32) := ⟨_, rfl⟩
        replace hB_11 := fx_lt_e ev_8 hB_11
        refine cx_iinc (z := (1 : Int32)) (v := v_8) hx hb dX7_sum_29 hl (k := 4) rfl (by decide) ev_8 (by decide) rfl (fun ls hl => ?_)
        have hl : lv_has ls 7 [(5, .int v_8), (2, .int v_7), (6, .int v_6), (3, .ref (Rn 4)), (4, .int (8 : Int32))] := hl
        refine lv_goto (tgt := 11) hx hb dX7_sum_32 (by decide) ?_
        exact ih_11 v_7 v_8 (fx_bk hB_11 hO_11) _ _ _ hw (lv_sub hl [1, 3, 4, 0] rfl)
  exact key_11 _ (0 : Int32) (0 : Int32) hL_11 _ _ _ hw (lv_sub hl [3, 2, 1, 0] rfl)
/-! sum([I)I -/
def JX7_sum_5_35 (x2_1 : Int32) : Option Int32 :=
  some x2_1
def LX7_sum_5_11 (N : Sx) (q_ : Int32 × Int32) : Option ((Int32 × Int32) ⊕ (Int32)) :=
  fx_u2 q_ (fun x2_2 x5_3 => if (8 : Int32) ≤ x5_3 then (some (.inr x2_2)) else (fx_gd (fx_in x5_3 8) (fx_lt (gx_A N 5 x5_3.toNatClampNeg) (fun v_6 => fx_lt (x2_2 + v_6) (fun v_7 => fx_lt (x5_3 + (1 : Int32)) (fun v_8 => some (.inl (v_7, v_8))))))))
def FX7_sum_5 (N : Sx) : Option Int32 :=
  fx_b1 (fx_lp (LX7_sum_5_11 N) 2000 ((0 : Int32), (0 : Int32))) (fun y2_9 => JX7_sum_5_35 y2_9)
set_option maxHeartbeats 4000000 in
set_option maxRecDepth 100000 in
theorem mX7_sum_5 (l : Launch) (g : Gx) (A : Nat → Prop) (Rn : Nat → Nat) (X : va_W) (N : Sx) {o : Int32} (hF : FX7_sum_5 N = some o) :
    cx_i l yX7_sum cX7_sum 7 .int rmX7_sum [.ref (Rn 100), .ref (Rn 5)] g A (stC g Rn N ++ X) o (stC g Rn N ++ X) 0 0 := by
  refine cx_i_of (by decide) (Nat.le_of_ble_eq_true rfl) ?_
  intro p e s m av below meth c Q E hret H hw ls hl
  have E : cx_E p m meth c cX7_sum 7 s av RX7 g A := E
  have hx := E.1.1
  have hb := E.1.2.1
  have hl : lv_has ls 7 [(0, .ref (Rn 100)), (1, .ref (Rn 5))] := hl
  generalize hlc : ([] : List Loc) = locs at hw ⊢
  clear hlc
  unfold FX7_sum_5 at hF
  refine lv_iconst (v := (0 : Int32)) hx hb dX7_sum_0 (by decide) ?_
  refine lv_istore_n hx hb dX7_sum_1 rfl hl (by decide) rfl (fun ls hl => ?_)
  have hl : lv_has ls 7 [(2, .int (0 : Int32)), (0, .ref (Rn 100)), (1, .ref (Rn 5))] := hl
  refine lv_aload_n hx hb dX7_sum_2 rfl (lv_at hl 2 rfl) ?_
  refine lv_astore_n hx hb dX7_sum_3 rfl hl (by decide) rfl (fun ls hl => ?_)
  have hl : lv_has ls 7 [(3, .ref (Rn 5)), (2, .int (0 : Int32)), (0, .ref (Rn 100)), (1, .ref (Rn 5))] := hl
  refine lv_aload_n hx hb dX7_sum_4 rfl (lv_at hl 0 rfl) ?_
  refine rlY7_5 E hw dX7_sum_5 ?_
  refine lv_istore hx hb dX7_sum_6 hl (by decide) rfl (fun ls hl => ?_)
  have hl : lv_has ls 7 [(4, .int (8 : Int32)), (3, .ref (Rn 5)), (2, .int (0 : Int32)), (0, .ref (Rn 100)), (1, .ref (Rn 5))] := hl
  refine lv_iconst (v := (0 : Int32)) hx hb dX7_sum_8 (by decide) ?_
  refine lv_istore hx hb dX7_sum_9 hl (by decide) rfl (fun ls hl => ?_)
  have hl : lv_has ls 7 [(5, .int (0 : Int32)), (4, .int (8 : Int32)), (3, .ref (Rn 5)), (2, .int (0 : Int32)), (0, .ref (Rn 100)), (1, .ref (Rn 5))] := hl
  have jn_35 : ∀ (x2_1 : Int32), JX7_sum_5_35 x2_1 = some o → ∀ (H : Heap) (locs : List Loc) (ls : Array Slot), cx_W g A s (stC g Rn N ++ X) H locs → lv_has ls 7 [(2, .int x2_1)] → W p l e rmX7_sum s m av below meth c H locs 0 0 Q (F0 m 35 ls []) := by
    intro x2_1 hJ_35 H locs ls hw hl
    unfold JX7_sum_5_35 at hJ_35
    refine lv_iload_n hx hb dX7_sum_35 rfl (lv_at hl 0 rfl) ?_
    obtain rfl := Option.some.inj hJ_35
    exact hret _ _ _ _ _ rfl rfl hw dX7_sum_36
  replace hF := fx_b1_e hF
  obtain ⟨ex_11, hL_11, hF⟩ := hF
  have key_11 : ∀ (n_11 : Nat) (x2_2 : Int32) (x5_3 : Int32), fx_lp (LX7_sum_5_11 N) n_11 (x2_2, x5_3) = some ex_11 → ∀ (H : Heap) (locs : List Loc) (ls : Array Slot), cx_W g A s (stC g Rn N ++ X) H locs → lv_has ls 7 [(2, .int x2_2), (3, .ref (Rn 5)), (4, .int (8 : Int32)), (5, .int x5_3)] → W p l e rmX7_sum s m av below meth c H locs 0 0 Q (F0 m 11 ls []) := by
    intro n_11
    induction n_11 with
    | zero => intro x2_2 x5_3 hL_11; exact fx_lp_0 hL_11
    | succ n_11 ih_11 =>
      intro x2_2 x5_3 hL_11 H locs ls hw hl
      replace hL_11 := fx_lp_s hL_11
      obtain ⟨o_11, hB_11, hO_11⟩ := hL_11
      unfold LX7_sum_5_11 at hB_11
      replace hB_11 := fx_u2_e hB_11
      refine lv_iload hx hb dX7_sum_11 (lv_at hl 3 rfl) ?_
      refine lv_iload hx hb dX7_sum_13 (lv_at hl 2 rfl) ?_
      refine lv_icmp_ge (tgt := 35) hx hb dX7_sum_15 (by decide) (fun c_4 => ?_) (fun c_4 => ?_)
      · replace hB_11 := fx_tt c_4 hB_11
        obtain rfl := fx_ex hB_11 hO_11
        exact jn_35 x2_2 hF _ _ _ hw (lv_sub hl [0] rfl)
      · replace hB_11 := fx_ff c_4 hB_11
        refine lv_aload_n hx hb dX7_sum_18 rfl (lv_at hl 1 rfl) ?_
        refine lv_iload hx hb dX7_sum_19 (lv_at hl 3 rfl) ?_
        replace hB_11 := fx_gd_e hB_11
        obtain ⟨h_5, hB_11⟩ := hB_11
        refine raY7_5 E hw (fx_in_e h_5) dX7_sum_21 ?_
        refine lv_topi (fun v_6 ev_6 => ?_)
        replace hB_11 := fx_lt_e ev_6 hB_11
        refine lv_istore hx hb dX7_sum_22 hl (by decide) rfl (fun ls hl => ?_)
        have hl : lv_has ls 7 [(6, .int v_6), (2, .int x2_2), (3, .ref (Rn 5)), (4, .int (8 : Int32)), (5, .int x5_3)] := hl
        refine lv_iload_n hx hb dX7_sum_24 rfl (lv_at hl 1 rfl) ?_
        refine lv_iload hx hb dX7_sum_25 (lv_at hl 0 rfl) ?_
        refine lv_iadd hx hb dX7_sum_27 ?_
        refine lv_topi (fun v_7 ev_7 => ?_)
        replace hB_11 := fx_lt_e ev_7 hB_11
        refine lv_istore_n hx hb dX7_sum_28 rfl hl (by decide) rfl (fun ls hl => ?_)
        have hl : lv_has ls 7 [(2, .int v_7), (6, .int v_6), (3, .ref (Rn 5)), (4, .int (8 : Int32)), (5, .int x5_3)] := hl
        obtain ⟨v_8, ev_8⟩ : ∃ z : Int32, z = x5_3 + (1 : Int32) := ⟨_, rfl⟩
        replace hB_11 := fx_lt_e ev_8 hB_11
        refine cx_iinc (z := (1 : Int32)) (v := v_8) hx hb dX7_sum_29 hl (k := 4) rfl (by decide) ev_8 (by decide) rfl (fun ls hl => ?_)
        have hl : lv_has ls 7 [(5, .int v_8), (2, .int v_7), (6, .int v_6), (3, .ref (Rn 5)), (4, .int (8 : Int32))] := hl
        refine lv_goto (tgt := 11) hx hb dX7_sum_32 (by decide) ?_
        exact ih_11 v_7 v_8 (fx_bk hB_11 hO_11) _ _ _ hw (lv_sub hl [1, 3, 4, 0] rfl)
  exact key_11 _ (0 : Int32) (0 : Int32) hL_11 _ _ _ hw (lv_sub hl [3, 2, 1, 0] rfl)
/-! notWhole()I -/
def JX1_notWhole_s_36 (x1_1 : Int32) : Option Int32 :=
  some x1_1
def JX1_notWhole_s_30 (x2_3 : Int32) (x1_8 : Int32) : Option ((Int32 × Int32) ⊕ (Int32)) :=
  fx_lt (x2_3 + (1 : Int32)) (fun v_9 => some (.inl (x1_8, v_9)))
def LX1_notWhole_s_4 (S : Sx) (N : Sx) (q_ : Int32 × Int32) : Option ((Int32 × Int32) ⊕ (Int32)) :=
  fx_u2 q_ (fun x1_2 x2_3 => fx_b1 (FX1_disks S) (fun r_4 => if r_4 ≤ x2_3 then (some (.inr x1_2)) else (fx_gd (fx_in x2_3 8) (if (gx_A N 1 x2_3.toNatClampNeg) = 0 then (JX1_notWhole_s_30 x2_3 x1_2) else (fx_lt (x1_2 ||| ((1 : Int32) <<< (x2_3 &&& 31))) (fun v_11 => JX1_notWhole_s_30 x2_3 v_11))))))
def FX1_notWhole_s (S : Sx) (N : Sx) : Option Int32 :=
  fx_b1 (fx_lp (LX1_notWhole_s_4 S N) 2000 ((0 : Int32), (0 : Int32))) (fun y1_12 => JX1_notWhole_s_36 y1_12)
set_option maxHeartbeats 4000000 in
set_option maxRecDepth 100000 in
theorem mX1_notWhole_s (l : Launch) (g : Gx) (A : Nat → Prop) (Rs Rn : Nat → Nat) (im : Option Nat) (X : va_W) (S : Sx) (N : Sx) {o : Int32} (hF : FX1_notWhole_s S N = some o) :
    cx_i l yX1_notWhole cX1_notWhole 3 .int rmX1_notWhole [.ref (Rs 100)] g A (sC g Rs (some (Rn 100)) im S ++ (stC g Rn N ++ X)) o (sC g Rs (some (Rn 100)) im S ++ (stC g Rn N ++ X)) 0 0 := by
  refine cx_i_of (by decide) (Nat.le_of_ble_eq_true rfl) ?_
  intro p e s m av below meth c Q E hret H hw ls hl
  have E : cx_E p m meth c cX1_notWhole 3 s av RX1 g A := E
  have hx := E.1.1
  have hb := E.1.2.1
  have hl : lv_has ls 3 [(0, .ref (Rs 100))] := hl
  generalize hlc : ([] : List Loc) = locs at hw ⊢
  clear hlc
  unfold FX1_notWhole_s at hF
  refine lv_iconst (v := (0 : Int32)) hx hb dX1_notWhole_0 (by decide) ?_
  refine lv_istore_n hx hb dX1_notWhole_1 rfl hl (by decide) rfl (fun ls hl => ?_)
  have hl : lv_has ls 3 [(1, .int (0 : Int32)), (0, .ref (Rs 100))] := hl
  refine lv_iconst (v := (0 : Int32)) hx hb dX1_notWhole_2 (by decide) ?_
  refine lv_istore_n hx hb dX1_notWhole_3 rfl hl (by decide) rfl (fun ls hl => ?_)
  have hl : lv_has ls 3 [(2, .int (0 : Int32)), (1, .int (0 : Int32)), (0, .ref (Rs 100))] := hl
  have jn_36 : ∀ (x1_1 : Int32), JX1_notWhole_s_36 x1_1 = some o → ∀ (H : Heap) (locs : List Loc) (ls : Array Slot), cx_W g A s (sC g Rs (some (Rn 100)) im S ++ (stC g Rn N ++ X)) H locs → lv_has ls 3 [(1, .int x1_1)] → W p l e rmX1_notWhole s m av below meth c H locs 0 0 Q (F0 m 36 ls []) := by
    intro x1_1 hJ_36 H locs ls hw hl
    unfold JX1_notWhole_s_36 at hJ_36
    refine lv_iload_n hx hb dX1_notWhole_36 rfl (lv_at hl 0 rfl) ?_
    obtain rfl := Option.some.inj hJ_36
    exact hret _ _ _ _ _ rfl rfl hw dX1_notWhole_37
  replace hF := fx_b1_e hF
  obtain ⟨ex_4, hL_4, hF⟩ := hF
  have key_4 : ∀ (n_4 : Nat) (x1_2 : Int32) (x2_3 : Int32), fx_lp (LX1_notWhole_s_4 S N) n_4 (x1_2, x2_3) = some ex_4 → ∀ (H : Heap) (locs : List Loc) (ls : Array Slot), cx_W g A s (sC g Rs (some (Rn 100)) im S ++ (stC g Rn N ++ X)) H locs → lv_has ls 3 [(0, .ref (Rs 100)), (1, .int x1_2), (2, .int x2_3)] → W p l e rmX1_notWhole s m av below meth c H locs 0 0 Q (F0 m 4 ls []) := by
    intro n_4
    induction n_4 with
    | zero => intro x1_2 x2_3 hL_4; exact fx_lp_0 hL_4
    | succ n_4 ih_4 =>
      intro x1_2 x2_3 hL_4 H locs ls hw hl
      replace hL_4 := fx_lp_s hL_4
      obtain ⟨o_4, hB_4, hO_4⟩ := hL_4
      unfold LX1_notWhole_s_4 at hB_4
      replace hB_4 := fx_u2_e hB_4
      refine lv_iload_n hx hb dX1_notWhole_4 rfl (lv_at hl 2 rfl) ?_
      refine lv_aload_n hx hb dX1_notWhole_5 rfl (lv_at hl 0 rfl) ?_
      replace hB_4 := fx_b1_e hB_4
      obtain ⟨r_4, h_5, hB_4⟩ := hB_4
      refine cx_cVi (r := r_4) (ws := sC g Rs (some (Rn 100)) im S ++ (stC g Rn N ++ X)) (ws' := sC g Rs (some (Rn 100)) im S ++ (stC g Rn N ++ X)) (As := []) (rest := [.int x2_3]) E (mX1_disks l g A Rs _ _ _ S h_5) (kwX1_X1_disks E ⟨Nat.le_of_ble_eq_true rfl, Nat.le_of_ble_eq_true rfl⟩) 0 1 rfl rfl rfl hw rfl hl.1 rfl (Nat.le_of_ble_eq_true rfl) dX1_notWhole_6 ⟨Nat.le_of_ble_eq_true rfl, Nat.le_of_ble_eq_true rfl⟩ (fun H locs hw => ?_)
      refine lv_icmp_ge (tgt := 36) hx hb dX1_notWhole_9 (by decide) (fun c_6 => ?_) (fun c_6 => ?_)
      · replace hB_4 := fx_tt c_6 hB_4
        obtain rfl := fx_ex hB_4 hO_4
        exact jn_36 x1_2 hF _ _ _ hw (lv_sub hl [1] rfl)
      · replace hB_4 := fx_ff c_6 hB_4
        refine lv_aload_n hx hb dX1_notWhole_12 rfl (lv_at hl 0 rfl) ?_
        refine gX1_19s E hw dX1_notWhole_13 ?_
        refine gNX7_1 E hw dX1_notWhole_16 ?_
        refine lv_iload_n hx hb dX1_notWhole_19 rfl (lv_at hl 2 rfl) ?_
        replace hB_4 := fx_gd_e hB_4
        obtain ⟨h_7, hB_4⟩ := hB_4
        refine raX7_1 E hw (fx_in_e h_7) dX1_notWhole_20 ?_
        have jn_30 : ∀ (x1_8 : Int32), JX1_notWhole_s_30 x2_3 x1_8 = some o_4 → ∀ (H : Heap) (locs : List Loc) (ls : Array Slot), cx_W g A s (sC g Rs (some (Rn 100)) im S ++ (stC g Rn N ++ X)) H locs → lv_has ls 3 [(0, .ref (Rs 100)), (1, .int x1_8), (2, .int x2_3)] → W p l e rmX1_notWhole s m av below meth c H locs 0 0 Q (F0 m 30 ls []) := by
          intro x1_8 hJ_30 H locs ls hw hl
          unfold JX1_notWhole_s_30 at hJ_30
          obtain ⟨v_9, ev_9⟩ : ∃ z : Int32, z = x2_3 + (1 : Int32) := ⟨_, rfl⟩
          replace hJ_30 := fx_lt_e ev_9 hJ_30
          refine cx_iinc (z := (1 : Int32)) (v := v_9) hx hb dX1_notWhole_30 hl (k := 2) rfl (by decide) ev_9 (by decide) rfl (fun ls hl => ?_)
          have hl : lv_has ls 3 [(2, .int v_9), (0, .ref (Rs 100)), (1, .int x1_8)] := hl
          refine lv_goto (tgt := 4) hx hb dX1_notWhole_33 (by decide) ?_
          exact ih_4 x1_8 v_9 (fx_bk hJ_30 hO_4) _ _ _ hw (lv_sub hl [1, 2, 0] rfl)
        refine lv_if_eq (tgt := 30) hx hb dX1_notWhole_21 (by decide) (fun c_10 => ?_) (fun c_10 => ?_)
        · replace hB_4 := fx_tt c_10 hB_4
          exact jn_30 x1_2 hB_4 _ _ _ hw hl
        · replace hB_4 := fx_ff c_10 hB_4
          refine lv_iload_n hx hb dX1_notWhole_24 rfl (lv_at hl 1 rfl) ?_
          refine lv_iconst (v := (1 : Int32)) hx hb dX1_notWhole_25 (by decide) ?_
          refine lv_iload_n hx hb dX1_notWhole_26 rfl (lv_at hl 2 rfl) ?_
          refine lv_ishl hx hb dX1_notWhole_27 ?_
          refine lv_ior hx hb dX1_notWhole_28 ?_
          refine lv_topi (fun v_11 ev_11 => ?_)
          replace hB_4 := fx_lt_e ev_11 hB_4
          refine lv_istore_n hx hb dX1_notWhole_29 rfl hl (by decide) rfl (fun ls hl => ?_)
          have hl : lv_has ls 3 [(1, .int v_11), (0, .ref (Rs 100)), (2, .int x2_3)] := hl
          exact jn_30 v_11 hB_4 _ _ _ hw (lv_sub hl [1, 0, 2] rfl)
  exact key_4 _ (0 : Int32) (0 : Int32) hL_4 _ _ _ hw (lv_sub hl [2, 1, 0] rfl)
/-! notWhole()I -/
def JX1_notWhole_n_36 (x1_1 : Int32) : Option Int32 :=
  some x1_1
def LX1_notWhole_n_4 (S : Sx) (q_ : Int32 × Int32) : Option ((Int32 × Int32) ⊕ (Int32)) :=
  fx_u2 q_ (fun x1_2 x2_3 => fx_b1 (FX1_disks S) (fun r_4 => if r_4 ≤ x2_3 then (some (.inr x1_2)) else none))
def FX1_notWhole_n (S : Sx) : Option Int32 :=
  fx_b1 (fx_lp (LX1_notWhole_n_4 S) 2000 ((0 : Int32), (0 : Int32))) (fun y1_7 => JX1_notWhole_n_36 y1_7)
set_option maxHeartbeats 4000000 in
set_option maxRecDepth 100000 in
theorem mX1_notWhole_n (l : Launch) (g : Gx) (A : Nat → Prop) (Rs : Nat → Nat) (im : Option Nat) (X : va_W) (S : Sx) {o : Int32} (hF : FX1_notWhole_n S = some o) :
    cx_i l yX1_notWhole cX1_notWhole 3 .int rmX1_notWhole [.ref (Rs 100)] g A (sC g Rs none im S ++ X) o (sC g Rs none im S ++ X) 0 0 := by
  refine cx_i_of (by decide) (Nat.le_of_ble_eq_true rfl) ?_
  intro p e s m av below meth c Q E hret H hw ls hl
  have E : cx_E p m meth c cX1_notWhole 3 s av RX1 g A := E
  have hx := E.1.1
  have hb := E.1.2.1
  have hl : lv_has ls 3 [(0, .ref (Rs 100))] := hl
  generalize hlc : ([] : List Loc) = locs at hw ⊢
  clear hlc
  unfold FX1_notWhole_n at hF
  refine lv_iconst (v := (0 : Int32)) hx hb dX1_notWhole_0 (by decide) ?_
  refine lv_istore_n hx hb dX1_notWhole_1 rfl hl (by decide) rfl (fun ls hl => ?_)
  have hl : lv_has ls 3 [(1, .int (0 : Int32)), (0, .ref (Rs 100))] := hl
  refine lv_iconst (v := (0 : Int32)) hx hb dX1_notWhole_2 (by decide) ?_
  refine lv_istore_n hx hb dX1_notWhole_3 rfl hl (by decide) rfl (fun ls hl => ?_)
  have hl : lv_has ls 3 [(2, .int (0 : Int32)), (1, .int (0 : Int32)), (0, .ref (Rs 100))] := hl
  have jn_36 : ∀ (x1_1 : Int32), JX1_notWhole_n_36 x1_1 = some o → ∀ (H : Heap) (locs : List Loc) (ls : Array Slot), cx_W g A s (sC g Rs none im S ++ X) H locs → lv_has ls 3 [(1, .int x1_1)] → W p l e rmX1_notWhole s m av below meth c H locs 0 0 Q (F0 m 36 ls []) := by
    intro x1_1 hJ_36 H locs ls hw hl
    unfold JX1_notWhole_n_36 at hJ_36
    refine lv_iload_n hx hb dX1_notWhole_36 rfl (lv_at hl 0 rfl) ?_
    obtain rfl := Option.some.inj hJ_36
    exact hret _ _ _ _ _ rfl rfl hw dX1_notWhole_37
  replace hF := fx_b1_e hF
  obtain ⟨ex_4, hL_4, hF⟩ := hF
  have key_4 : ∀ (n_4 : Nat) (x1_2 : Int32) (x2_3 : Int32), fx_lp (LX1_notWhole_n_4 S) n_4 (x1_2, x2_3) = some ex_4 → ∀ (H : Heap) (locs : List Loc) (ls : Array Slot), cx_W g A s (sC g Rs none im S ++ X) H locs → lv_has ls 3 [(0, .ref (Rs 100)), (1, .int x1_2), (2, .int x2_3)] → W p l e rmX1_notWhole s m av below meth c H locs 0 0 Q (F0 m 4 ls []) := by
    intro n_4
    induction n_4 with
    | zero => intro x1_2 x2_3 hL_4; exact fx_lp_0 hL_4
    | succ n_4 ih_4 =>
      intro x1_2 x2_3 hL_4 H locs ls hw hl
      replace hL_4 := fx_lp_s hL_4
      obtain ⟨o_4, hB_4, hO_4⟩ := hL_4
      unfold LX1_notWhole_n_4 at hB_4
      replace hB_4 := fx_u2_e hB_4
      refine lv_iload_n hx hb dX1_notWhole_4 rfl (lv_at hl 2 rfl) ?_
      refine lv_aload_n hx hb dX1_notWhole_5 rfl (lv_at hl 0 rfl) ?_
      replace hB_4 := fx_b1_e hB_4
      obtain ⟨r_4, h_5, hB_4⟩ := hB_4
      refine cx_cVi (r := r_4) (ws := sC g Rs none im S ++ X) (ws' := sC g Rs none im S ++ X) (As := []) (rest := [.int x2_3]) E (mX1_disks l g A Rs _ _ _ S h_5) (kwX1_X1_disks E ⟨Nat.le_of_ble_eq_true rfl, Nat.le_of_ble_eq_true rfl⟩) 0 1 rfl rfl rfl hw rfl hl.1 rfl (Nat.le_of_ble_eq_true rfl) dX1_notWhole_6 ⟨Nat.le_of_ble_eq_true rfl, Nat.le_of_ble_eq_true rfl⟩ (fun H locs hw => ?_)
      refine lv_icmp_ge (tgt := 36) hx hb dX1_notWhole_9 (by decide) (fun c_6 => ?_) (fun c_6 => ?_)
      · replace hB_4 := fx_tt c_6 hB_4
        obtain rfl := fx_ex hB_4 hO_4
        exact jn_36 x1_2 hF _ _ _ hw (lv_sub hl [1] rfl)
      · replace hB_4 := fx_ff c_6 hB_4
        refine lv_aload_n hx hb dX1_notWhole_12 rfl (lv_at hl 0 rfl) ?_
        refine gX1_19n E hw dX1_notWhole_13 ?_
        exact fx_no hB_4
  exact key_4 _ (0 : Int32) (0 : Int32) hL_4 _ _ _ hw (lv_sub hl [2, 1, 0] rfl)
/-! most(I)I -/
def JX1_most_s_17  : Option Int32 :=
  some (-1000000 : Int32)
def FX1_most_s (S : Sx) (N : Sx) (p1 : Int32) : Option Int32 :=
  fx_b1 (FX1_in p1 (0 : Int32) (10 : Int32)) (fun r_3 => if r_3 = 0 then JX1_most_s_17 else (if p1 = (0 : Int32) then (fx_b1 (FX7_sum_3 N) (fun r_7 => some r_7)) else if p1 = (1 : Int32) then (fx_b1 (FX7_sum_4 N) (fun r_10 => some r_10)) else if p1 = (2 : Int32) then (fx_b1 (FX7_sum_5 N) (fun r_13 => some r_13)) else if p1 = (3 : Int32) then (some (gx_I N 9)) else if p1 = (4 : Int32) then (some (gx_I N 10)) else if p1 = (5 : Int32) then (some (gx_I N 8)) else if p1 = (6 : Int32) then (some (gx_I N 6)) else if p1 = (7 : Int32) then (fx_b1 (FX1_notWhole_s S N) (fun r_20 => some r_20)) else if p1 = (8 : Int32) then (some (gx_I N 11)) else if p1 = (9 : Int32) then (some (gx_I N 12)) else (some (gx_I N 13))))
set_option maxHeartbeats 4000000 in
set_option maxRecDepth 100000 in
theorem mX1_most_s (l : Launch) (g : Gx) (A : Nat → Prop) (Rs Rn : Nat → Nat) (im : Option Nat) (X : va_W) (S : Sx) (N : Sx) (p1 : Int32) {o : Int32} (hF : FX1_most_s S N p1 = some o) :
    cx_i l yX1_most cX1_most 2 .int rmX1_most [.ref (Rs 100), .int p1] g A (sC g Rs (some (Rn 100)) im S ++ (stC g Rn N ++ X)) o (sC g Rs (some (Rn 100)) im S ++ (stC g Rn N ++ X)) 0 0 := by
  refine cx_i_of (by decide) (Nat.le_of_ble_eq_true rfl) ?_
  intro p e s m av below meth c Q E hret H hw ls hl
  have E : cx_E p m meth c cX1_most 2 s av RX1 g A := E
  have hx := E.1.1
  have hb := E.1.2.1
  have hl : lv_has ls 2 [(0, .ref (Rs 100)), (1, .int p1)] := hl
  generalize hlc : ([] : List Loc) = locs at hw ⊢
  clear hlc
  unfold FX1_most_s at hF
  refine lv_aload_n hx hb dX1_most_0 rfl (lv_at hl 0 rfl) ?_
  refine cx_cVi (r := (1 : Int32)) (ws := sC g Rs (some (Rn 100)) im S ++ (stC g Rn N ++ X)) (ws' := sC g Rs (some (Rn 100)) im S ++ (stC g Rn N ++ X)) (As := []) (rest := []) E (mX1_isShelf_s l g A Rs Rn _ _ S N (o := (1 : Int32)) rfl) (kwX1_X1_isShelf E ⟨Nat.le_of_ble_eq_true rfl, Nat.le_of_ble_eq_true rfl⟩) 0 1 rfl rfl rfl hw rfl hl.1 rfl (Nat.le_of_ble_eq_true rfl) dX1_most_1 ⟨Nat.le_of_ble_eq_true rfl, Nat.le_of_ble_eq_true rfl⟩ (fun H locs hw => ?_)
  have jn_17 : JX1_most_s_17 = some o → ∀ (H : Heap) (locs : List Loc) (ls : Array Slot), cx_W g A s (sC g Rs (some (Rn 100)) im S ++ (stC g Rn N ++ X)) H locs → lv_has ls 2 [] → W p l e rmX1_most s m av below meth c H locs 0 0 Q (F0 m 17 ls []) := by
    intro  hJ_17 H locs ls hw hl
    unfold JX1_most_s_17 at hJ_17
    refine lv_ldcw (own := RX1) (v := (-1000000 : Int32)) hx hb E.1.2.2.2.1 (E.1.2.2.2.2 _ q844) dX1_most_17 ?_
    obtain rfl := Option.some.inj hJ_17
    exact hret _ _ _ _ _ rfl rfl hw dX1_most_20
  refine lv_if_eq (tgt := 17) hx hb dX1_most_4 (by decide) (fun c_ => absurd c_ (by decide)) (fun _ => ?_)
  refine lv_iload_n hx hb dX1_most_7 rfl (lv_at hl 1 rfl) ?_
  refine lv_iconst (v := (0 : Int32)) hx hb dX1_most_8 (by decide) ?_
  refine lv_bipush (v := (10 : Int32)) hx hb dX1_most_9 (by decide) ?_
  replace hF := fx_b1_e hF
  obtain ⟨r_3, h_4, hF⟩ := hF
  refine cx_cSi (r := r_3) (ws := sC g Rs (some (Rn 100)) im S ++ (stC g Rn N ++ X)) (ws' := sC g Rs (some (Rn 100)) im S ++ (stC g Rn N ++ X)) (As := [.int p1, .int (0 : Int32), .int (10 : Int32)]) (rest := []) E (mX1_in l g A (sC g Rs (some (Rn 100)) im S ++ (stC g Rn N ++ X)) p1 (0 : Int32) (10 : Int32) h_4) (kwX1_X1_in E ⟨Nat.le_of_ble_eq_true rfl, Nat.le_of_ble_eq_true rfl⟩) hw rfl hl.1 rfl (Nat.le_of_ble_eq_true rfl) dX1_most_11 ⟨Nat.le_of_ble_eq_true rfl, Nat.le_of_ble_eq_true rfl⟩ (fun H locs hw => ?_)
  refine lv_if_ne (tgt := 21) hx hb dX1_most_14 (by decide) (fun c_5 => ?_) (fun c_5 => ?_)
  · replace hF := fx_ff c_5 hF
    refine lv_iload_n hx hb dX1_most_21 rfl (lv_at hl 1 rfl) ?_
    by_cases c_6 : p1 = (0 : Int32)
    · replace hF := fx_tt c_6 hF
      refine lv_tableIn (off := 54) (tgt := 76) hx hb dX1_most_22 (by rw [c_6]; decide) (by rw [c_6]; decide) (by rw [c_6]; rfl) (by decide) ?_
      refine lv_aload_n hx hb dX1_most_76 rfl (lv_at hl 0 rfl) ?_
      refine gX1_19s E hw dX1_most_77 ?_
      refine lv_aload_n hx hb dX1_most_80 rfl (lv_at hl 0 rfl) ?_
      refine gX1_19s E hw dX1_most_81 ?_
      refine gNX7_3 E hw dX1_most_84 ?_
      replace hF := fx_b1_e hF
      obtain ⟨r_7, h_8, hF⟩ := hF
      have hw : cx_W g A s (stC g Rn N ++ (sC g Rs (some (Rn 100)) im S ++ X)) H locs := cx_W.perm hw (List.perm_append_comm_assoc _ _ _)
      refine cx_cVi (r := r_7) (ws := stC g Rn N ++ (sC g Rs (some (Rn 100)) im S ++ X)) (ws' := stC g Rn N ++ (sC g Rs (some (Rn 100)) im S ++ X)) (As := [.ref (Rn 3)]) (rest := []) E (mX7_sum_3 l g A Rn _ N h_8) (kwX1_X7_sum E ⟨Nat.le_of_ble_eq_true rfl, Nat.le_of_ble_eq_true rfl⟩) 0 2 rfl rfl rfl hw rfl hl.1 rfl (Nat.le_of_ble_eq_true rfl) dX1_most_87 ⟨Nat.le_of_ble_eq_true rfl, Nat.le_of_ble_eq_true rfl⟩ (fun H locs hw => ?_)
      have hw : cx_W g A s (sC g Rs (some (Rn 100)) im S ++ (stC g Rn N ++ X)) H locs := cx_W.perm hw (List.perm_append_comm_assoc _ _ _)
      obtain rfl := Option.some.inj hF
      exact hret _ _ _ _ _ rfl rfl hw dX1_most_90
    replace hF := fx_ff c_6 hF
    by_cases c_9 : p1 = (1 : Int32)
    · replace hF := fx_tt c_9 hF
      refine lv_tableIn (off := 69) (tgt := 91) hx hb dX1_most_22 (by rw [c_9]; decide) (by rw [c_9]; decide) (by rw [c_9]; rfl) (by decide) ?_
      refine lv_aload_n hx hb dX1_most_91 rfl (lv_at hl 0 rfl) ?_
      refine gX1_19s E hw dX1_most_92 ?_
      refine lv_aload_n hx hb dX1_most_95 rfl (lv_at hl 0 rfl) ?_
      refine gX1_19s E hw dX1_most_96 ?_
      refine gNX7_4 E hw dX1_most_99 ?_
      replace hF := fx_b1_e hF
      obtain ⟨r_10, h_11, hF⟩ := hF
      have hw : cx_W g A s (stC g Rn N ++ (sC g Rs (some (Rn 100)) im S ++ X)) H locs := cx_W.perm hw (List.perm_append_comm_assoc _ _ _)
      refine cx_cVi (r := r_10) (ws := stC g Rn N ++ (sC g Rs (some (Rn 100)) im S ++ X)) (ws' := stC g Rn N ++ (sC g Rs (some (Rn 100)) im S ++ X)) (As := [.ref (Rn 4)]) (rest := []) E (mX7_sum_4 l g A Rn _ N h_11) (kwX1_X7_sum E ⟨Nat.le_of_ble_eq_true rfl, Nat.le_of_ble_eq_true rfl⟩) 0 2 rfl rfl rfl hw rfl hl.1 rfl (Nat.le_of_ble_eq_true rfl) dX1_most_102 ⟨Nat.le_of_ble_eq_true rfl, Nat.le_of_ble_eq_true rfl⟩ (fun H locs hw => ?_)
      have hw : cx_W g A s (sC g Rs (some (Rn 100)) im S ++ (stC g Rn N ++ X)) H locs := cx_W.perm hw (List.perm_append_comm_assoc _ _ _)
      obtain rfl := Option.some.inj hF
      exact hret _ _ _ _ _ rfl rfl hw dX1_most_105
    replace hF := fx_ff c_9 hF
    by_cases c_12 : p1 = (2 : Int32)
    · replace hF := fx_tt c_12 hF
      refine lv_tableIn (off := 84) (tgt := 106) hx hb dX1_most_22 (by rw [c_12]; decide) (by rw [c_12]; decide) (by rw [c_12]; rfl) (by decide) ?_
      refine lv_aload_n hx hb dX1_most_106 rfl (lv_at hl 0 rfl) ?_
      refine gX1_19s E hw dX1_most_107 ?_
      refine lv_aload_n hx hb dX1_most_110 rfl (lv_at hl 0 rfl) ?_
      refine gX1_19s E hw dX1_most_111 ?_
      refine gNX7_5 E hw dX1_most_114 ?_
      replace hF := fx_b1_e hF
      obtain ⟨r_13, h_14, hF⟩ := hF
      have hw : cx_W g A s (stC g Rn N ++ (sC g Rs (some (Rn 100)) im S ++ X)) H locs := cx_W.perm hw (List.perm_append_comm_assoc _ _ _)
      refine cx_cVi (r := r_13) (ws := stC g Rn N ++ (sC g Rs (some (Rn 100)) im S ++ X)) (ws' := stC g Rn N ++ (sC g Rs (some (Rn 100)) im S ++ X)) (As := [.ref (Rn 5)]) (rest := []) E (mX7_sum_5 l g A Rn _ N h_14) (kwX1_X7_sum E ⟨Nat.le_of_ble_eq_true rfl, Nat.le_of_ble_eq_true rfl⟩) 0 2 rfl rfl rfl hw rfl hl.1 rfl (Nat.le_of_ble_eq_true rfl) dX1_most_117 ⟨Nat.le_of_ble_eq_true rfl, Nat.le_of_ble_eq_true rfl⟩ (fun H locs hw => ?_)
      have hw : cx_W g A s (sC g Rs (some (Rn 100)) im S ++ (stC g Rn N ++ X)) H locs := cx_W.perm hw (List.perm_append_comm_assoc _ _ _)
      obtain rfl := Option.some.inj hF
      exact hret _ _ _ _ _ rfl rfl hw dX1_most_120
    replace hF := fx_ff c_12 hF
    by_cases c_15 : p1 = (3 : Int32)
    · replace hF := fx_tt c_15 hF
      refine lv_tableIn (off := 99) (tgt := 121) hx hb dX1_most_22 (by rw [c_15]; decide) (by rw [c_15]; decide) (by rw [c_15]; rfl) (by decide) ?_
      refine lv_aload_n hx hb dX1_most_121 rfl (lv_at hl 0 rfl) ?_
      refine gX1_19s E hw dX1_most_122 ?_
      refine gNX7_9 E hw dX1_most_125 ?_
      obtain rfl := Option.some.inj hF
      exact hret _ _ _ _ _ rfl rfl hw dX1_most_128
    replace hF := fx_ff c_15 hF
    by_cases c_16 : p1 = (4 : Int32)
    · replace hF := fx_tt c_16 hF
      refine lv_tableIn (off := 107) (tgt := 129) hx hb dX1_most_22 (by rw [c_16]; decide) (by rw [c_16]; decide) (by rw [c_16]; rfl) (by decide) ?_
      refine lv_aload_n hx hb dX1_most_129 rfl (lv_at hl 0 rfl) ?_
      refine gX1_19s E hw dX1_most_130 ?_
      refine gNX7_10 E hw dX1_most_133 ?_
      obtain rfl := Option.some.inj hF
      exact hret _ _ _ _ _ rfl rfl hw dX1_most_136
    replace hF := fx_ff c_16 hF
    by_cases c_17 : p1 = (5 : Int32)
    · replace hF := fx_tt c_17 hF
      refine lv_tableIn (off := 115) (tgt := 137) hx hb dX1_most_22 (by rw [c_17]; decide) (by rw [c_17]; decide) (by rw [c_17]; rfl) (by decide) ?_
      refine lv_aload_n hx hb dX1_most_137 rfl (lv_at hl 0 rfl) ?_
      refine gX1_19s E hw dX1_most_138 ?_
      refine gNX7_8 E hw dX1_most_141 ?_
      obtain rfl := Option.some.inj hF
      exact hret _ _ _ _ _ rfl rfl hw dX1_most_144
    replace hF := fx_ff c_17 hF
    by_cases c_18 : p1 = (6 : Int32)
    · replace hF := fx_tt c_18 hF
      refine lv_tableIn (off := 123) (tgt := 145) hx hb dX1_most_22 (by rw [c_18]; decide) (by rw [c_18]; decide) (by rw [c_18]; rfl) (by decide) ?_
      refine lv_aload_n hx hb dX1_most_145 rfl (lv_at hl 0 rfl) ?_
      refine gX1_19s E hw dX1_most_146 ?_
      refine gNX7_6 E hw dX1_most_149 ?_
      obtain rfl := Option.some.inj hF
      exact hret _ _ _ _ _ rfl rfl hw dX1_most_152
    replace hF := fx_ff c_18 hF
    by_cases c_19 : p1 = (7 : Int32)
    · replace hF := fx_tt c_19 hF
      refine lv_tableIn (off := 131) (tgt := 153) hx hb dX1_most_22 (by rw [c_19]; decide) (by rw [c_19]; decide) (by rw [c_19]; rfl) (by decide) ?_
      refine lv_aload_n hx hb dX1_most_153 rfl (lv_at hl 0 rfl) ?_
      replace hF := fx_b1_e hF
      obtain ⟨r_20, h_21, hF⟩ := hF
      refine cx_cVi (r := r_20) (ws := sC g Rs (some (Rn 100)) im S ++ (stC g Rn N ++ X)) (ws' := sC g Rs (some (Rn 100)) im S ++ (stC g Rn N ++ X)) (As := []) (rest := []) E (mX1_notWhole_s l g A Rs Rn _ _ S N h_21) (kwX1_X1_notWhole E ⟨Nat.le_of_ble_eq_true rfl, Nat.le_of_ble_eq_true rfl⟩) 0 1 rfl rfl rfl hw rfl hl.1 rfl (Nat.le_of_ble_eq_true rfl) dX1_most_154 ⟨Nat.le_of_ble_eq_true rfl, Nat.le_of_ble_eq_true rfl⟩ (fun H locs hw => ?_)
      obtain rfl := Option.some.inj hF
      exact hret _ _ _ _ _ rfl rfl hw dX1_most_157
    replace hF := fx_ff c_19 hF
    by_cases c_22 : p1 = (8 : Int32)
    · replace hF := fx_tt c_22 hF
      refine lv_tableIn (off := 136) (tgt := 158) hx hb dX1_most_22 (by rw [c_22]; decide) (by rw [c_22]; decide) (by rw [c_22]; rfl) (by decide) ?_
      refine lv_aload_n hx hb dX1_most_158 rfl (lv_at hl 0 rfl) ?_
      refine gX1_19s E hw dX1_most_159 ?_
      refine gNX7_11 E hw dX1_most_162 ?_
      obtain rfl := Option.some.inj hF
      exact hret _ _ _ _ _ rfl rfl hw dX1_most_165
    replace hF := fx_ff c_22 hF
    by_cases c_23 : p1 = (9 : Int32)
    · replace hF := fx_tt c_23 hF
      refine lv_tableIn (off := 144) (tgt := 166) hx hb dX1_most_22 (by rw [c_23]; decide) (by rw [c_23]; decide) (by rw [c_23]; rfl) (by decide) ?_
      refine lv_aload_n hx hb dX1_most_166 rfl (lv_at hl 0 rfl) ?_
      refine gX1_19s E hw dX1_most_167 ?_
      refine gNX7_12 E hw dX1_most_170 ?_
      obtain rfl := Option.some.inj hF
      exact hret _ _ _ _ _ rfl rfl hw dX1_most_173
    replace hF := fx_ff c_23 hF
    refine lv_tableOut (tgt := 174) hx hb dX1_most_22 (by have z0 : p1.toInt ≠ 0 := fx_ne c_6; have z1 : p1.toInt ≠ 1 := fx_ne c_9; have z2 : p1.toInt ≠ 2 := fx_ne c_12; have z3 : p1.toInt ≠ 3 := fx_ne c_15; have z4 : p1.toInt ≠ 4 := fx_ne c_16; have z5 : p1.toInt ≠ 5 := fx_ne c_17; have z6 : p1.toInt ≠ 6 := fx_ne c_18; have z7 : p1.toInt ≠ 7 := fx_ne c_19; have z8 : p1.toInt ≠ 8 := fx_ne c_22; have z9 : p1.toInt ≠ 9 := fx_ne c_23; omega) (by decide) ?_
    refine lv_aload_n hx hb dX1_most_174 rfl (lv_at hl 0 rfl) ?_
    refine gX1_19s E hw dX1_most_175 ?_
    refine gNX7_13 E hw dX1_most_178 ?_
    obtain rfl := Option.some.inj hF
    exact hret _ _ _ _ _ rfl rfl hw dX1_most_181
  · replace hF := fx_tt c_5 hF
    exact jn_17  hF _ _ _ hw (lv_sub hl [] rfl)
/-! most(I)I -/
def JX1_most_n_17  : Option Int32 :=
  some (-1000000 : Int32)
def FX1_most_n (S : Sx) (p1 : Int32) : Option Int32 :=
  JX1_most_n_17
set_option maxHeartbeats 4000000 in
set_option maxRecDepth 100000 in
theorem mX1_most_n (l : Launch) (g : Gx) (A : Nat → Prop) (Rs : Nat → Nat) (im : Option Nat) (X : va_W) (S : Sx) (p1 : Int32) {o : Int32} (hF : FX1_most_n S p1 = some o) :
    cx_i l yX1_most cX1_most 2 .int rmX1_most [.ref (Rs 100), .int p1] g A (sC g Rs none im S ++ X) o (sC g Rs none im S ++ X) 0 0 := by
  refine cx_i_of (by decide) (Nat.le_of_ble_eq_true rfl) ?_
  intro p e s m av below meth c Q E hret H hw ls hl
  have E : cx_E p m meth c cX1_most 2 s av RX1 g A := E
  have hx := E.1.1
  have hb := E.1.2.1
  have hl : lv_has ls 2 [(0, .ref (Rs 100)), (1, .int p1)] := hl
  generalize hlc : ([] : List Loc) = locs at hw ⊢
  clear hlc
  unfold FX1_most_n at hF
  refine lv_aload_n hx hb dX1_most_0 rfl (lv_at hl 0 rfl) ?_
  refine cx_cVi (r := (0 : Int32)) (ws := sC g Rs none im S ++ X) (ws' := sC g Rs none im S ++ X) (As := []) (rest := []) E (mX1_isShelf_n l g A Rs _ _ S (o := (0 : Int32)) rfl) (kwX1_X1_isShelf E ⟨Nat.le_of_ble_eq_true rfl, Nat.le_of_ble_eq_true rfl⟩) 0 1 rfl rfl rfl hw rfl hl.1 rfl (Nat.le_of_ble_eq_true rfl) dX1_most_1 ⟨Nat.le_of_ble_eq_true rfl, Nat.le_of_ble_eq_true rfl⟩ (fun H locs hw => ?_)
  have jn_17 : JX1_most_n_17 = some o → ∀ (H : Heap) (locs : List Loc) (ls : Array Slot), cx_W g A s (sC g Rs none im S ++ X) H locs → lv_has ls 2 [] → W p l e rmX1_most s m av below meth c H locs 0 0 Q (F0 m 17 ls []) := by
    intro  hJ_17 H locs ls hw hl
    unfold JX1_most_n_17 at hJ_17
    refine lv_ldcw (own := RX1) (v := (-1000000 : Int32)) hx hb E.1.2.2.2.1 (E.1.2.2.2.2 _ q844) dX1_most_17 ?_
    obtain rfl := Option.some.inj hJ_17
    exact hret _ _ _ _ _ rfl rfl hw dX1_most_20
  refine lv_if_eq (tgt := 17) hx hb dX1_most_4 (by decide) (fun _ => ?_) (fun c_ => absurd c_ (by decide))
  exact jn_17  hF _ _ _ hw (lv_sub hl [] rfl)
/-! becomes(I)V -/
def JX3_becomes_64 (S_1 : Sx) : Option Sx :=
  some S_1
def JX3_becomes_58 (x3_4 : Int32) (S_11 : Sx) (x2_13 : Int32) : Option ((Sx × Int32 × Int32) ⊕ (Sx)) :=
  fx_lt (x3_4 + (1 : Int32)) (fun v_14 => some (.inl (S_11, x2_13, v_14)))
def LX3_becomes_4 (p1 : Int32) (q_ : Sx × Int32 × Int32) : Option ((Sx × Int32 × Int32) ⊕ (Sx)) :=
  fx_u3 q_ (fun S_2 x2_3 x3_4 => if (255 : Int32) ≤ x3_4 then (some (.inr S_2)) else (fx_gd (fx_in x3_4 512) (fx_lt (px_A S_2 40 (upd (gx_A S_2 40) x3_4.toNatClampNeg x2_3)) (fun S_7 => fx_gd (fx_in ((x3_4 + (256 : Int32)) - (1 : Int32)) 512) (fx_lt (px_A S_7 40 (upd (gx_A S_7 40) ((x3_4 + (256 : Int32)) - (1 : Int32)).toNatClampNeg x2_3)) (fun S_9 => fx_gd (fx_in x2_3 256) (fx_lt (px_A S_9 41 (upd (gx_A S_9 41) x2_3.toNatClampNeg x3_4)) (fun S_11 => fx_lt (x2_3 <<< ((1 : Int32) &&& 31)) (fun v_12 => if v_12 < (256 : Int32) then (JX3_becomes_58 x3_4 S_11 v_12) else (fx_gd (fx_in p1 4) (fx_lt (v_12 ^^^ (gx_A S_11 42 p1.toNatClampNeg)) (fun v_17 => JX3_becomes_58 x3_4 S_11 v_17))))))))))))
def FX3_becomes (S : Sx) (p1 : Int32) : Option Sx :=
  fx_b1 (fx_lp (LX3_becomes_4 p1) 2000 (S, (1 : Int32), (0 : Int32))) (fun S_18 => JX3_becomes_64 S_18)
set_option maxHeartbeats 4000000 in
set_option maxRecDepth 100000 in
theorem mX3_becomes (l : Launch) (g : Gx) (A : Nat → Prop) (Rs : Nat → Nat) (nw im : Option Nat) (X : va_W) (S : Sx) (p1 : Int32) {o : Sx} (hF : FX3_becomes S p1 = some o) :
    cx_v l yX3_becomes cX3_becomes 4 rmX3_becomes [.ref (Rs 18), .int p1] g A (sC g Rs nw im S ++ X) (sC g Rs nw im o ++ X) 0 0 := by
  refine cx_v_of (by decide) (Nat.le_of_ble_eq_true rfl) ?_
  intro p e s m av below meth c Q E hret H hw ls hl
  have E : cx_E p m meth c cX3_becomes 4 s av RX3 g A := E
  have hx := E.1.1
  have hb := E.1.2.1
  have hl : lv_has ls 4 [(0, .ref (Rs 18)), (1, .int p1)] := hl
  generalize hlc : ([] : List Loc) = locs at hw ⊢
  clear hlc
  unfold FX3_becomes at hF
  refine lv_iconst (v := (1 : Int32)) hx hb dX3_becomes_0 (by decide) ?_
  refine lv_istore_n hx hb dX3_becomes_1 rfl hl (by decide) rfl (fun ls hl => ?_)
  have hl : lv_has ls 4 [(2, .int (1 : Int32)), (0, .ref (Rs 18)), (1, .int p1)] := hl
  refine lv_iconst (v := (0 : Int32)) hx hb dX3_becomes_2 (by decide) ?_
  refine lv_istore_n hx hb dX3_becomes_3 rfl hl (by decide) rfl (fun ls hl => ?_)
  have hl : lv_has ls 4 [(3, .int (0 : Int32)), (2, .int (1 : Int32)), (0, .ref (Rs 18)), (1, .int p1)] := hl
  have jn_64 : ∀ (S_1 : Sx), JX3_becomes_64 S_1 = some o → ∀ (H : Heap) (locs : List Loc) (ls : Array Slot), cx_W g A s (sC g Rs nw im S_1 ++ X) H locs → lv_has ls 4 [] → W p l e rmX3_becomes s m av below meth c H locs 0 0 Q (F0 m 64 ls []) := by
    intro S_1 hJ_64 H locs ls hw hl
    unfold JX3_becomes_64 at hJ_64
    obtain rfl := Option.some.inj hJ_64
    exact hret _ _ _ _ hw dX3_becomes_64
  replace hF := fx_b1_e hF
  obtain ⟨ex_4, hL_4, hF⟩ := hF
  have key_4 : ∀ (n_4 : Nat) (S_2 : Sx) (x2_3 : Int32) (x3_4 : Int32), fx_lp (LX3_becomes_4 p1) n_4 (S_2, x2_3, x3_4) = some ex_4 → ∀ (H : Heap) (locs : List Loc) (ls : Array Slot), cx_W g A s (sC g Rs nw im S_2 ++ X) H locs → lv_has ls 4 [(0, .ref (Rs 18)), (1, .int p1), (2, .int x2_3), (3, .int x3_4)] → W p l e rmX3_becomes s m av below meth c H locs 0 0 Q (F0 m 4 ls []) := by
    intro n_4
    induction n_4 with
    | zero => intro S_2 x2_3 x3_4 hL_4; exact fx_lp_0 hL_4
    | succ n_4 ih_4 =>
      intro S_2 x2_3 x3_4 hL_4 H locs ls hw hl
      replace hL_4 := fx_lp_s hL_4
      obtain ⟨o_4, hB_4, hO_4⟩ := hL_4
      unfold LX3_becomes_4 at hB_4
      replace hB_4 := fx_u3_e hB_4
      refine lv_iload_n hx hb dX3_becomes_4 rfl (lv_at hl 3 rfl) ?_
      refine lv_sipush (v := (255 : Int32)) hx hb dX3_becomes_5 (by decide) ?_
      refine lv_icmp_ge (tgt := 64) hx hb dX3_becomes_8 (by decide) (fun c_5 => ?_) (fun c_5 => ?_)
      · replace hB_4 := fx_tt c_5 hB_4
        obtain rfl := fx_ex hB_4 hO_4
        exact jn_64 S_2 hF _ _ _ hw (lv_sub hl [] rfl)
      · replace hB_4 := fx_ff c_5 hB_4
        refine lv_aload_n hx hb dX3_becomes_11 rfl (lv_at hl 0 rfl) ?_
        refine gX3_0 E hw dX3_becomes_12 ?_
        refine lv_iload_n hx hb dX3_becomes_15 rfl (lv_at hl 3 rfl) ?_
        refine lv_iload_n hx hb dX3_becomes_16 rfl (lv_at hl 2 rfl) ?_
        replace hB_4 := fx_gd_e hB_4
        obtain ⟨h_6, hB_4⟩ := hB_4
        obtain ⟨S_7, eS_7⟩ : ∃ z : Sx, z = px_A S_2 40 (upd (gx_A S_2 40) x3_4.toNatClampNeg x2_3) := ⟨_, rfl⟩
        replace hB_4 := fx_lt_e eS_7 hB_4
        refine rsX1_40 eS_7 E hw (fx_in_e h_6) dX3_becomes_17 (fun H locs hw => ?_)
        refine lv_aload_n hx hb dX3_becomes_18 rfl (lv_at hl 0 rfl) ?_
        refine gX3_0 E hw dX3_becomes_19 ?_
        refine lv_iload_n hx hb dX3_becomes_22 rfl (lv_at hl 3 rfl) ?_
        refine lv_sipush (v := (256 : Int32)) hx hb dX3_becomes_23 (by decide) ?_
        refine lv_iadd hx hb dX3_becomes_26 ?_
        refine lv_iconst (v := (1 : Int32)) hx hb dX3_becomes_27 (by decide) ?_
        refine lv_isub hx hb dX3_becomes_28 ?_
        refine lv_iload_n hx hb dX3_becomes_29 rfl (lv_at hl 2 rfl) ?_
        replace hB_4 := fx_gd_e hB_4
        obtain ⟨h_8, hB_4⟩ := hB_4
        obtain ⟨S_9, eS_9⟩ : ∃ z : Sx, z = px_A S_7 40 (upd (gx_A S_7 40) ((x3_4 + (256 : Int32)) - (1 : Int32)).toNatClampNeg x2_3) := ⟨_, rfl⟩
        replace hB_4 := fx_lt_e eS_9 hB_4
        refine rsX1_40 eS_9 E hw (fx_in_e h_8) dX3_becomes_30 (fun H locs hw => ?_)
        refine lv_aload_n hx hb dX3_becomes_31 rfl (lv_at hl 0 rfl) ?_
        refine gX3_1 E hw dX3_becomes_32 ?_
        refine lv_iload_n hx hb dX3_becomes_35 rfl (lv_at hl 2 rfl) ?_
        refine lv_iload_n hx hb dX3_becomes_36 rfl (lv_at hl 3 rfl) ?_
        replace hB_4 := fx_gd_e hB_4
        obtain ⟨h_10, hB_4⟩ := hB_4
        obtain ⟨S_11, eS_11⟩ : ∃ z : Sx, z = px_A S_9 41 (upd (gx_A S_9 41) x2_3.toNatClampNeg x3_4) := ⟨_, rfl⟩
        replace hB_4 := fx_lt_e eS_11 hB_4
        refine rsX1_41 eS_11 E hw (fx_in_e h_10) dX3_becomes_37 (fun H locs hw => ?_)
        refine lv_iload_n hx hb dX3_becomes_38 rfl (lv_at hl 2 rfl) ?_
        refine lv_iconst (v := (1 : Int32)) hx hb dX3_becomes_39 (by decide) ?_
        refine lv_ishl hx hb dX3_becomes_40 ?_
        refine lv_topi (fun v_12 ev_12 => ?_)
        replace hB_4 := fx_lt_e ev_12 hB_4
        refine lv_istore_n hx hb dX3_becomes_41 rfl hl (by decide) rfl (fun ls hl => ?_)
        have hl : lv_has ls 4 [(2, .int v_12), (0, .ref (Rs 18)), (1, .int p1), (3, .int x3_4)] := hl
        refine lv_iload_n hx hb dX3_becomes_42 rfl (lv_at hl 0 rfl) ?_
        refine lv_sipush (v := (256 : Int32)) hx hb dX3_becomes_43 (by decide) ?_
        have jn_58 : ∀ (x2_13 : Int32), JX3_becomes_58 x3_4 S_11 x2_13 = some o_4 → ∀ (H : Heap) (locs : List Loc) (ls : Array Slot), cx_W g A s (sC g Rs nw im S_11 ++ X) H locs → lv_has ls 4 [(0, .ref (Rs 18)), (1, .int p1), (2, .int x2_13), (3, .int x3_4)] → W p l e rmX3_becomes s m av below meth c H locs 0 0 Q (F0 m 58 ls []) := by
          intro x2_13 hJ_58 H locs ls hw hl
          unfold JX3_becomes_58 at hJ_58
          obtain ⟨v_14, ev_14⟩ : ∃ z : Int32, z = x3_4 + (1 : Int32) := ⟨_, rfl⟩
          replace hJ_58 := fx_lt_e ev_14 hJ_58
          refine cx_iinc (z := (1 : Int32)) (v := v_14) hx hb dX3_becomes_58 hl (k := 3) rfl (by decide) ev_14 (by decide) rfl (fun ls hl => ?_)
          have hl : lv_has ls 4 [(3, .int v_14), (0, .ref (Rs 18)), (1, .int p1), (2, .int x2_13)] := hl
          refine lv_goto (tgt := 4) hx hb dX3_becomes_61 (by decide) ?_
          exact ih_4 S_11 x2_13 v_14 (fx_bk hJ_58 hO_4) _ _ _ hw (lv_sub hl [1, 2, 3, 0] rfl)
        refine lv_icmp_lt (tgt := 58) hx hb dX3_becomes_46 (by decide) (fun c_15 => ?_) (fun c_15 => ?_)
        · replace hB_4 := fx_tt c_15 hB_4
          exact jn_58 v_12 hB_4 _ _ _ hw (lv_sub hl [1, 2, 0, 3] rfl)
        · replace hB_4 := fx_ff c_15 hB_4
          refine lv_iload_n hx hb dX3_becomes_49 rfl (lv_at hl 0 rfl) ?_
          refine lv_aload_n hx hb dX3_becomes_50 rfl (lv_at hl 1 rfl) ?_
          refine gX3_2 E hw dX3_becomes_51 ?_
          refine lv_iload_n hx hb dX3_becomes_54 rfl (lv_at hl 2 rfl) ?_
          replace hB_4 := fx_gd_e hB_4
          obtain ⟨h_16, hB_4⟩ := hB_4
          refine raX1_42 E hw (fx_in_e h_16) dX3_becomes_55 ?_
          refine lv_ixor hx hb dX3_becomes_56 ?_
          refine lv_topi (fun v_17 ev_17 => ?_)
          replace hB_4 := fx_lt_e ev_17 hB_4
          refine lv_istore_n hx hb dX3_becomes_57 rfl hl (by decide) rfl (fun ls hl => ?_)
          have hl : lv_has ls 4 [(2, .int v_17), (0, .ref (Rs 18)), (1, .int p1), (3, .int x3_4)] := hl
          exact jn_58 v_17 hB_4 _ _ _ hw (lv_sub hl [1, 2, 0, 3] rfl)
  exact key_4 _ S (1 : Int32) (0 : Int32) hL_4 _ _ _ hw (lv_sub hl [2, 3, 1, 0] rfl)
/-! cost()I -/
def FX7_cost (N : Sx) : Option Int32 :=
  fx_b1 (FX7_sum_3 N) (fun r_1 => fx_b1 (FX7_sum_4 N) (fun r_3 => some (r_1 + r_3)))
set_option maxHeartbeats 4000000 in
set_option maxRecDepth 100000 in
theorem mX7_cost (l : Launch) (g : Gx) (A : Nat → Prop) (Rn : Nat → Nat) (X : va_W) (N : Sx) {o : Int32} (hF : FX7_cost N = some o) :
    cx_i l yX7_cost cX7_cost 1 .int rmX7_cost [.ref (Rn 100)] g A (stC g Rn N ++ X) o (stC g Rn N ++ X) 0 0 := by
  refine cx_i_of (by decide) (Nat.le_of_ble_eq_true rfl) ?_
  intro p e s m av below meth c Q E hret H hw ls hl
  have E : cx_E p m meth c cX7_cost 1 s av RX7 g A := E
  have hx := E.1.1
  have hb := E.1.2.1
  have hl : lv_has ls 1 [(0, .ref (Rn 100))] := hl
  generalize hlc : ([] : List Loc) = locs at hw ⊢
  clear hlc
  unfold FX7_cost at hF
  refine lv_aload_n hx hb dX7_cost_0 rfl (lv_at hl 0 rfl) ?_
  refine lv_aload_n hx hb dX7_cost_1 rfl (lv_at hl 0 rfl) ?_
  refine gY7_3 E hw dX7_cost_2 ?_
  replace hF := fx_b1_e hF
  obtain ⟨r_1, h_2, hF⟩ := hF
  refine cx_cVi (r := r_1) (ws := stC g Rn N ++ X) (ws' := stC g Rn N ++ X) (As := [.ref (Rn 3)]) (rest := []) E (mX7_sum_3 l g A Rn _ N h_2) (kwX7_X7_sum E ⟨Nat.le_of_ble_eq_true rfl, Nat.le_of_ble_eq_true rfl⟩) 0 2 rfl rfl rfl hw rfl hl.1 rfl (Nat.le_of_ble_eq_true rfl) dX7_cost_5 ⟨Nat.le_of_ble_eq_true rfl, Nat.le_of_ble_eq_true rfl⟩ (fun H locs hw => ?_)
  refine lv_aload_n hx hb dX7_cost_8 rfl (lv_at hl 0 rfl) ?_
  refine lv_aload_n hx hb dX7_cost_9 rfl (lv_at hl 0 rfl) ?_
  refine gY7_4 E hw dX7_cost_10 ?_
  replace hF := fx_b1_e hF
  obtain ⟨r_3, h_4, hF⟩ := hF
  refine cx_cVi (r := r_3) (ws := stC g Rn N ++ X) (ws' := stC g Rn N ++ X) (As := [.ref (Rn 4)]) (rest := [.int r_1]) E (mX7_sum_4 l g A Rn _ N h_4) (kwX7_X7_sum E ⟨Nat.le_of_ble_eq_true rfl, Nat.le_of_ble_eq_true rfl⟩) 0 2 rfl rfl rfl hw rfl hl.1 rfl (Nat.le_of_ble_eq_true rfl) dX7_cost_13 ⟨Nat.le_of_ble_eq_true rfl, Nat.le_of_ble_eq_true rfl⟩ (fun H locs hw => ?_)
  refine lv_iadd hx hb dX7_cost_16 ?_
  obtain rfl := Option.some.inj hF
  exact hret _ _ _ _ _ rfl rfl hw dX7_cost_17
