/-! the JDK's index check: it returns where the index is within -/
def FJ2_checkIndex (p1 p2 : Int32) : Option Unit := if p1 < 0 then none else if p1 < p2 then some () else none
set_option maxRecDepth 100000 in
theorem mJ6_checkIndex (l : Launch) (g : Gx) (A : Nat → Prop) (ws : va_W) (p1 p2 : Int32) (r : Option Nat) (h1 : ¬ p1 < 0) (h2 : p1 < p2) :
    cx_i l yJ6_checkIndex cJ6_checkIndex 3 .int rmJ6_checkIndex [.int p1, .int p2, va_rf r] g A ws p1 ws 0 0 := by
  cases r
  all_goals
    refine cx_i_of (by decide) (Nat.le_of_ble_eq_true rfl) ?_
    intro p e s m av below meth c Q E hret H hw ls hl
    have hx := E.1.1
    have hb := E.1.2.1
    have hl : lv_has ls 3 [(0, .int p1), (1, .int p2)] := lv_sub hl [0, 1] rfl
    refine lv_iload_n hx hb dJ6_checkIndex_0 rfl (lv_at hl 0 rfl) ?_
    refine lv_if_lt (tgt := 9) hx hb dJ6_checkIndex_1 (by decide) (fun c_ => absurd c_ h1) (fun _ => ?_)
    refine lv_iload_n hx hb dJ6_checkIndex_4 rfl (lv_at hl 0 rfl) ?_
    refine lv_iload_n hx hb dJ6_checkIndex_5 rfl (lv_at hl 1 rfl) ?_
    refine lv_icmp_lt (tgt := 16) hx hb dJ6_checkIndex_6 (by decide) (fun _ => ?_) (fun c_ => absurd h2 c_)
    refine lv_iload_n hx hb dJ6_checkIndex_16 rfl (lv_at hl 0 rfl) ?_
    exact hret _ _ _ _ _ rfl rfl hw dJ6_checkIndex_17
set_option maxRecDepth 100000 in
theorem mJ2_checkIndex (l : Launch) (g : Gx) (A : Nat → Prop) (ws : va_W) (p1 p2 : Int32) {o : Unit} (hF : FJ2_checkIndex p1 p2 = some o) :
    cx_v l yJ2_checkIndex cJ2_checkIndex 2 rmJ2_checkIndex [.int p1, .int p2] g A ws ws 0 0 := by
  unfold FJ2_checkIndex at hF
  by_cases h1 : p1 < 0
  · exact fx_no (fx_tt h1 hF)
  replace hF := fx_ff h1 hF
  by_cases h2 : ¬ p1 < p2
  · exact fx_no (fx_ff h2 hF)
  replace h2 := Decidable.not_not.mp h2
  refine cx_v_of (by decide) (Nat.le_of_ble_eq_true rfl) ?_
  intro p e s m av below meth c Q E hret H hw ls hl
  have E : cx_E p m meth c cJ2_checkIndex 2 s av RJ2 g A := E
  have hx := E.1.1
  have hb := E.1.2.1
  have hl : lv_has ls 2 [(0, .int p1), (1, .int p2)] := hl
  refine lv_iload_n hx hb dJ2_checkIndex_0 rfl (lv_at hl 0 rfl) ?_
  refine lv_iload_n hx hb dJ2_checkIndex_1 rfl (lv_at hl 1 rfl) ?_
  have fin : ∀ r : Option Nat, W p l e rmJ2_checkIndex s m av below meth c H [] 0 0 Q (F0 m (2 + 3) ls [va_rf r, .int p2, .int p1]) := by
    intro r
    refine cx_cSi (r := p1) (ws := ws) (ws' := ws) (As := [.int p1, .int p2, va_rf r]) (rest := []) E (mJ6_checkIndex l g A ws p1 p2 r h1 h2) (kwJ2_J6_checkIndex E ⟨Nat.le_of_ble_eq_true rfl, Nat.le_of_ble_eq_true rfl⟩) hw rfl hl.1 rfl (Nat.le_of_ble_eq_true rfl) dJ2_checkIndex_5 ⟨Nat.le_of_ble_eq_true rfl, Nat.le_of_ble_eq_true rfl⟩ (fun H locs hw => ?_)
    refine lv_pop hx hb dJ2_checkIndex_8 rfl ?_
    exact hret _ _ _ _ hw dJ2_checkIndex_9
  rcases E.2.2.1.2.2.1.2.2.1 with h | ⟨t, h⟩
  · exact va_gets hx hb h hw.2.2 E.1.2.2.2.1 (E.1.2.2.2.2 _ q252) (fun _ h => h) dJ2_checkIndex_2 (fin none)
  · exact va_gets hx hb h hw.2.2 E.1.2.2.2.1 (E.1.2.2.2.2 _ q252) (fun _ h => h) dJ2_checkIndex_2 (fin (some t))
