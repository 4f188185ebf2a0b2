/-! loops along linked rows -/
theorem wx_at {ws : va_W} {q : Nat × va_E} (h : q ∈ ws) : ∃ k : Nat, ws[k]? = some q := List.getElem?_of_mem h
theorem rw_get {r : Nat} {L1 L2 : Lk} {q : Nat × Nat} : (q.1, .inr (6, [.ref q.2, va_rf (lk_l none L1), va_rf (lk_h none L2)])) ∈ rwW r (L1 ++ q :: L2) := List.mem_cons_of_mem _ lk_get
theorem rw_row {r : Nat} {L : Lk} : (r, .inr (5, [va_rf (lk_h none L), va_rf (lk_l none L), .int (nI L.length)])) ∈ rwW r L := List.mem_cons_self
theorem kwX1_X5_dropsFirst_1 {p : Program} {m : MethodId} {meth : Method} {cd : Code} {cc : ByteArray} {nL : Nat} {s : State} {args : Array Value} {g : Gx} {A : Nat → Prop} {R : Room} (E : cx_E p m meth cd cc nL s args RX1 g A) (hR : rmX5_dropsFirst_1.frames + 1 ≤ R.frames ∧ 8 + (1 + 11) + rmX5_dropsFirst_1.locals ≤ R.locals) : CallW R s args RX1 yX5_dropsFirst.cls 26 yX5_dropsFirst cX5_dropsFirst 1 none (ws_ yX5_dropsFirst cX5_dropsFirst 1 none) rmX5_dropsFirst_1 rmX5_dropsFirst_1.cells rmX5_dropsFirst_1.slots 0 := cwV 0 E.1.2.2.2.2 (lw_V q569 q541 q542 q138 q543) rfl rfl rfl (by decide +kernel) hR
theorem kwX1_X5_adds_0 {p : Program} {m : MethodId} {meth : Method} {cd : Code} {cc : ByteArray} {nL : Nat} {s : State} {args : Array Value} {g : Gx} {A : Nat → Prop} {R : Room} (E : cx_E p m meth cd cc nL s args RX1 g A) (hR : rmX5_adds_0.frames + 1 ≤ R.frames ∧ 8 + (3 + 11) + rmX5_adds_0.locals ≤ R.locals) : CallW R s args RX1 yX5_adds.cls 30 yX5_adds cX5_adds 3 none (ws_ yX5_adds cX5_adds 3 none) rmX5_adds_0 rmX5_adds_0.cells rmX5_adds_0.slots 1 := cwV 1 E.1.2.2.2.2 (lw_V q570 q571 q572 q138 q573) rfl rfl rfl (by decide +kernel) hR
theorem kwX4_X5_dropsFirst_1 {p : Program} {m : MethodId} {meth : Method} {cd : Code} {cc : ByteArray} {nL : Nat} {s : State} {args : Array Value} {g : Gx} {A : Nat → Prop} {R : Room} (E : cx_E p m meth cd cc nL s args RX4 g A) (hR : rmX5_dropsFirst_1.frames + 1 ≤ R.frames ∧ 8 + (1 + 11) + rmX5_dropsFirst_1.locals ≤ R.locals) : CallW R s args RX4 yX5_dropsFirst.cls 23 yX5_dropsFirst cX5_dropsFirst 1 none (ws_ yX5_dropsFirst cX5_dropsFirst 1 none) rmX5_dropsFirst_1 rmX5_dropsFirst_1.cells rmX5_dropsFirst_1.slots 0 := cwV 0 E.1.2.2.2.2 (lw_V q540 q541 q542 q138 q543) rfl rfl rfl (by decide +kernel) hR
theorem kwX4_X5_adds_0 {p : Program} {m : MethodId} {meth : Method} {cd : Code} {cc : ByteArray} {nL : Nat} {s : State} {args : Array Value} {g : Gx} {A : Nat → Prop} {R : Room} (E : cx_E p m meth cd cc nL s args RX4 g A) (hR : rmX5_adds_0.frames + 1 ≤ R.frames ∧ 8 + (3 + 11) + rmX5_adds_0.locals ≤ R.locals) : CallW R s args RX4 yX5_adds.cls 32 yX5_adds cX5_adds 3 none (ws_ yX5_adds cX5_adds 3 none) rmX5_adds_0 rmX5_adds_0.cells rmX5_adds_0.slots 1 := cwV 1 E.1.2.2.2.2 (lw_V q594 q571 q572 q138 q573) rfl rfl rfl (by decide +kernel) hR
abbrev rmX1_pours : Room := { frames := 3, cells := 60, slots := 180, locals := 60 }
set_option maxHeartbeats 4000000 in
set_option maxRecDepth 100000 in
/-- all of one row come behind another one, where there is room -/
theorem mX1_pours (l : Launch) (g : Gx) (A : Nat → Prop) (rf rt : Nat) (Lf Lt : Lk) (X : va_W) (M : Nat) (hM : M < 2 ^ 31) (hlen : Lt.length + Lf.length ≤ M) (h60 : Lf.length ≤ 60) :
    cx_G l yX1_pours cX1_pours 4 none rmX1_pours [.ref rf, .ref rt, .int (nI M)] g A (rwW rf Lf ++ (rwW rt Lt ++ X)) (ζ := Lk) (fun L => L.map Prod.snd = Lt.map Prod.snd ++ Lf.map Prod.snd) (fun _ => none) (fun L => rwW rf Lf ++ (rwW rt L ++ X)) 60 180 := by
  refine cx_G_of (by decide) (Nat.le_of_ble_eq_true rfl) ?_
  intro p e s m av below meth c Q E hmn hretV hretI hretR H hw ls hl
  have E : cx_E p m meth c cX1_pours 4 s av RX1 g A := E
  have hx := E.1.1
  have hb := E.1.2.1
  have hl : lv_has ls 4 [(0, .ref rf), (1, .ref rt), (2, .int (nI M))] := hl
  generalize hlc : ([] : List Loc) = locs at hw ⊢
  clear hlc
  have key : ∀ (T L1 Lt' : Lk) (cells slots : Nat), Lf = L1 ++ T → Lt'.map Prod.snd = Lt.map Prod.snd ++ L1.map Prod.snd → cells + T.length ≤ 60 → slots + 3 * T.length ≤ 180 → ∀ (H : Heap) (locs : List Loc) (ls : Array Slot), cx_W g A s (rwW rf Lf ++ (rwW rt Lt' ++ X)) H locs → lv_has ls 4 [(0, .ref rf), (1, .ref rt), (2, .int (nI M)), (3, va_rf (lk_h none T))] → W p l e rmX1_pours s m av below meth c H locs cells slots Q (F0 m 5 ls []) := by
    intro T
    induction T with
    | nil =>
      intro L1 Lt' cells slots h1 h2 h3 h4 H locs ls hw hl
      have hl : lv_has ls 4 [(0, .ref rf), (1, .ref rt), (2, .int (nI M)), (3, .null)] := hl
      refine lv_aload_nN hx hb dX1_pours_5 rfl (lv_at hl 3 rfl) ?_
      refine lv_ifnullN (tgt := 37) hx hb dX1_pours_6 (by decide) ?_
      rw [List.append_nil] at h1
      subst h1
      exact W.widen (by omega) (by omega) (hretV _ _ _ _ Lt' rfl h2 rfl hw dX1_pours_37)
    | cons q T ih =>
      intro L1 Lt' cells slots h1 h2 h3 h4 H locs ls hw hl
      rw [List.length_cons] at h3 h4
      have hl : lv_has ls 4 [(0, .ref rf), (1, .ref rt), (2, .int (nI M)), (3, .ref q.1)] := hl
      have hlt : Lt'.length < M := by
        have e1 := congrArg List.length h2
        rw [List.length_append, List.length_map, List.length_map, List.length_map] at e1
        have e2 := congrArg List.length h1
        rw [List.length_append, List.length_cons] at e2
        omega
      refine lv_aload_n hx hb dX1_pours_5 rfl (lv_at hl 3 rfl) ?_
      refine lv_ifnull hx hb dX1_pours_6 ?_
      refine lv_aload_n hx hb dX1_pours_9 rfl (lv_at hl 1 rfl) ?_
      obtain ⟨k1, hk1⟩ := wx_at (List.mem_append_right (rwW rf Lf) (List.mem_append_left X (rw_row (r := rt) (L := Lt'))))
      refine ogX1_X5_2 k1 E hw hk1 rfl dX1_pours_10 ?_
      refine lv_iload_n hx hb dX1_pours_13 rfl (lv_at hl 2 rfl) ?_
      refine lv_icmp_ne (tgt := 21) hx hb dX1_pours_14 (by decide) (fun _ => ?_) (fun c_ => absurd ((nI_eq (by omega) hM).mp c_) (by omega))
      refine lv_aload_n hx hb dX1_pours_21 rfl (lv_at hl 1 rfl) ?_
      refine lv_aload_n hx hb dX1_pours_22 rfl (lv_at hl 3 rfl) ?_
      obtain ⟨k2, hk2⟩ := wx_at (List.mem_append_left (rwW rt Lt' ++ X) (rw_get (r := rf) (L1 := L1) (L2 := T) (q := q)))
      rw [← h1] at hk2
      refine ogX1_X8_0 k2 E hw hk2 rfl dX1_pours_23 ?_
      have hw := cx_W.perm hw (List.perm_append_comm_assoc _ _ _)
      refine cx_cGV (As := [.ref q.2]) (rest := []) E (cx_adds l g A rt q.2 Lt' (rwW rf Lf ++ X)) (kwX1_X5_adds_0 E ⟨Nat.le_of_ble_eq_true rfl, Nat.le_of_ble_eq_true rfl⟩) (cx_recv E hw (q0 := 0) rfl rfl) hw rfl hl.1 rfl (Nat.le_of_ble_eq_true rfl) dX1_pours_26 ⟨by show cells + 1 ≤ 60; omega, by show slots + 3 ≤ 180; omega⟩ (fun a H locs _ hw => ?_)
      have hw := cx_W.perm hw (List.perm_append_comm_assoc _ _ _)
      refine lv_aload_n hx hb dX1_pours_29 rfl (lv_at hl 3 rfl) ?_
      obtain ⟨k3, hk3⟩ := wx_at (List.mem_append_left (rwW rt (Lt' ++ [(a, q.2)]) ++ X) (rw_get (r := rf) (L1 := L1) (L2 := T) (q := q)))
      rw [← h1] at hk3
      refine ogX1_X8_2 k3 E hw hk3 rfl dX1_pours_30 ?_
      have go : ∀ (H : Heap) (locs : List Loc) (ls : Array Slot), cx_W g A s (rwW rf Lf ++ (rwW rt (Lt' ++ [(a, q.2)]) ++ X)) H locs → lv_has ls 4 [(3, va_rf (lk_h none T)), (0, .ref rf), (1, .ref rt), (2, .int (nI M))] → W p l e rmX1_pours s m av below meth c H locs (cells + 1) (slots + 3) Q (F0 m (33 + 1) ls []) := by
        intro H locs ls hw hl
        refine lv_goto (tgt := 5) hx hb dX1_pours_34 (by decide) ?_
        refine ih (L1 ++ [q]) (Lt' ++ [(a, q.2)]) _ _ (by rw [h1, List.append_assoc]; rfl) ?_ (by omega) (by omega) _ _ _ hw (lv_sub hl [1, 2, 3, 0] rfl)
        rw [List.map_append, List.map_append, h2, List.append_assoc]
        rfl
      cases hT : T with
      | nil =>
        subst hT
        refine lv_astore_nN hx hb dX1_pours_33 rfl hl (by decide) rfl (fun ls hl => ?_)
        exact go _ _ _ hw hl
      | cons q2 T2 =>
        subst hT
        refine lv_astore_n (x := q2.1) hx hb dX1_pours_33 rfl hl (by decide) rfl (fun ls hl => ?_)
        exact go _ _ _ hw hl
  refine lv_aload_n hx hb dX1_pours_0 rfl (lv_at hl 0 rfl) ?_
  obtain ⟨k1, hk1⟩ := wx_at (List.mem_append_left (rwW rt Lt ++ X) (rw_row (r := rf) (L := Lf)))
  refine ogX1_X5_0 k1 E hw hk1 rfl dX1_pours_1 ?_
  cases hT : Lf with
  | nil =>
    refine lv_astore_nN hx hb dX1_pours_4 rfl hl (by decide) rfl (fun ls hl => ?_)
    exact key Lf [] Lt 0 0 rfl (by rw [List.map_nil, List.append_nil]) (by omega) (by omega) _ _ _ hw (lv_sub (l' := [(0, .ref rf), (1, .ref rt), (2, .int (nI M)), (3, va_rf (lk_h none Lf))]) hl [1, 2, 3, 0] (by rw [hT]; rfl))
  | cons q2 T2 =>
    refine lv_astore_n (x := q2.1) hx hb dX1_pours_4 rfl hl (by decide) rfl (fun ls hl => ?_)
    exact key Lf [] Lt 0 0 rfl (by rw [List.map_nil, List.append_nil]) (by omega) (by omega) _ _ _ hw (lv_sub (l' := [(0, .ref rf), (1, .ref rt), (2, .int (nI M)), (3, va_rf (lk_h none Lf))]) hl [1, 2, 3, 0] (by rw [hT]; rfl))
