/-! a method with handlers: its contract, for what it answers -/
def cx_hi (l : Launch) (y : MethodName) (cc : ByteArray) (nL : Nat) (ret : FieldType) (hh : List (Nat × Nat × Nat × Nat)) (rm : Room) (av : List Value) (g : Gx) (A : Nat → Prop) (ws : va_W) (r : Int32) (ws' : va_W) (mc ms : Nat) : Prop :=
  Met l y (wsW_ y cc nL (some ret) hh) rm (cx_P g A ws av) (cx_Qi g A ws' r) mc ms A
theorem xh_met {l : Launch} {y : MethodName} {ws : List Cond} {rm : Room} {Pc : Array Value → State → Prop} {Qc : Array Value → State → Outcome → State → Prop} {mc ms : Nat} {free : Addr → Prop} (h : vx_Met l y ws rm Pc Qc (fun _ _ _ => False) mc ms free) : Met l y ws rm Pc Qc mc ms free := by
  intro p e a b c s m args below hf hs hP hK
  obtain ⟨n, o, h1, h2, h3, h4⟩ := h p e a b c s m args below hf hs hP hK
  refine ⟨n, o, h1, h2, h3, ?_⟩
  rcases h4 with h4 | ⟨q, -, E, ce, L, hx, -⟩
  · exact h4
  · exact hx.elim
theorem cx_hi_of {l : Launch} {y : MethodName} {cc : ByteArray} {nL : Nat} {ret : FieldType} {hh : List (Nat × Nat × Nat × Nat)} {rm : Room} {av : List Value} {g : Gx} {A : Nat → Prop} {ws : va_W} {r : Int32} {ws' : va_W} {mc ms : Nat}
    (hy : plainName y.cls = true) (hsl : (lg_sl av).length ≤ nL)
    (body : ∀ (p : Program) (e : Env) (s : State) (m : MethodId) (args : Array Value) (below : List Frame) (meth : Method) (c : Code) (Q : State → Prop), cx_E p m meth c cc nL s args y.cls g A → c.exceptionTable.toList = tableOf hh →
      (∀ (H : Heap) (locs : List Loc) (ls : Array Slot) (pc : Nat) (v : Int32), v = r → narrow ret (.int v) = .int v → cx_W g A s ws' H locs → decode cc pc = .ok (.ireturn, 1) → W p l e rm s m args below meth c H locs mc ms Q (F0 m pc ls [.int v])) →
      ∀ (H : Heap), cx_W g A s ws H [] → ∀ (ls : Array Slot), lv_has ls nL (lv_args 0 av) → W p l e rm s m args below meth c H [] 0 0 Q (F0 m 0 ls [])) :
    cx_hi l y cc nL ret hh rm av g A ws r ws' mc ms := by
  refine xh_met (vx_ofWH (cc := cc) (maxL := nL) (ret := some ret) (hh := hh) hy rfl ?_)
  intro p e s m args below meth c s₁ B hml hv
  obtain ⟨rfl, hK, hP, hD, hA⟩ := hv
  have hts0 := atoms_spec (ws := wsW_ y cc nL (some ret) hh) B.pre
  have hts : ∀ w ∈ lw_all, w.before av.toArray s = true := fun w h => hts0 w (List.mem_cons_of_mem _ h)
  have hl := lv_entry av hsl
  rw [lg_entry_eq]
  refine body p e s m av.toArray below meth c _ ⟨⟨B.exec, B.bytes, hml, findClass_of_methodNamed B.named, hts⟩, B.notSynchronized, hK, hA⟩ (vx_table (x := y) B (hts0 _ List.mem_cons_self)) ?_ _ ⟨hP, hD, va_S.rf⟩ _ hl
  intro H locs ls pc v hvr hn hw hdg
  subst hvr
  have hlocks := B.notSynchronized
  exact vx_ret (W.zret B.exec B.bytes B.returns hn (fun t ht hW => ⟨⟨v, (), rfl, rfl, by rw [ht]; exact hw.1, hw.2.1⟩, hw.2.2.F ht⟩) hw.2.2.2.2 hdg)
def FX1_fault (S : Sx) (p1 : Int32) : Option (Int32 × Sx) :=
  fx_b1 (FX1_in p1 (0 : Int32) (1 : Int32)) (fun r_1 => if r_1 = 0 then some ((-2 : Int32), S) else if p1 = 0 then fx_x1 (FX1_wholeShelf S) (fun S_2 => some ((-1 : Int32), S_2)) (fun S_2 => some (gx_I S_2 3, S_2)) else fx_x1 (FX1_wholeScript S (4 : Int32)) (fun S_2 => some ((-1 : Int32), S_2)) (fun S_2 => some (gx_I S_2 3, S_2)))
abbrev rmX1_fault : Room := { frames := 1 + rmX1_wholeShelf.frames + rmX1_wholeScript.frames, cells := 0, slots := 0, locals := 30 + rmX1_wholeShelf.locals + rmX1_wholeScript.locals }
abbrev hhX1_fault : List (Nat × Nat × Nat × Nat) := [(12, 29, 30, 150)]
set_option maxHeartbeats 4000000 in
set_option maxRecDepth 100000 in
theorem mX1_fault (l : Launch) (g : Gx) (A : Nat → Prop) (Rs : Nat → Nat) (nw im : Option Nat) (X : va_W) (S : Sx) (p1 : Int32) {o : Int32 × Sx} (hF : FX1_fault S p1 = some o) :
    cx_hi l yX1_fault cX1_fault 3 .int hhX1_fault rmX1_fault [.ref (Rs 100), .int p1] g A (sC g Rs nw im S ++ ((Rs 0, .inr (9, [])) :: X)) o.1 (sC g Rs nw im o.2 ++ ((Rs 0, .inr (9, [])) :: X)) 0 0 := by
  refine cx_hi_of (by decide) (Nat.le_of_ble_eq_true rfl) ?_
  intro p e s m av below meth c Q E htab hret H hw ls hl
  have E : cx_E p m meth c cX1_fault 3 s av RX1 g A := E
  have hx := E.1.1
  have hb := E.1.2.1
  have hl : lv_has ls 3 [(0, .ref (Rs 100)), (1, .int p1)] := hl
  generalize hlc : ([] : List Loc) = locs at hw ⊢
  clear hlc
  unfold FX1_fault at hF
  refine lv_iload_n hx hb dX1_fault_0 rfl (lv_at hl 1 rfl) ?_
  refine lv_iconst (v := (0 : Int32)) hx hb dX1_fault_1 (by decide) ?_
  refine lv_iconst (v := (1 : Int32)) hx hb dX1_fault_2 (by decide) ?_
  replace hF := fx_b1_e hF
  obtain ⟨r_1, h_2, hF⟩ := hF
  refine cx_cSi (r := r_1) (ws := sC g Rs nw im S ++ ((Rs 0, .inr (9, [])) :: X)) (ws' := sC g Rs nw im S ++ ((Rs 0, .inr (9, [])) :: X)) (As := [.int p1, .int (0 : Int32), .int (1 : Int32)]) (rest := []) E (mX1_in l g A (sC g Rs nw im S ++ ((Rs 0, .inr (9, [])) :: X)) p1 (0 : Int32) (1 : Int32) h_2) (kwX1_X1_in E ⟨Nat.le_of_ble_eq_true rfl, Nat.le_of_ble_eq_true rfl⟩) hw rfl hl.1 rfl (Nat.le_of_ble_eq_true rfl) dX1_fault_3 ⟨Nat.le_of_ble_eq_true rfl, Nat.le_of_ble_eq_true rfl⟩ (fun H locs hw => ?_)
  have caught : ∀ (q pc : Nat) (S_2 : Sx) (H : Heap) (locs : List Loc) (rest : List Value), 12 ≤ pc → pc < 29 → o = (gx_I S_2 3, S_2) → cx_W g A s (sC g Rs nw im S_2 ++ ((Rs 0, .inr (9, [])) :: X)) H locs → xx_T s H q → vx_W p l e rmX1_fault s m av below meth c H locs 0 0 Q (F0 m pc ls rest) q := by
    intro q pc S_2 H locs rest h1 h2 ho hw hT
    obtain ⟨ce, t1, t2, t3⟩ := hT
    refine vx_catch (own := RX1) (name := RX2) (E := RX2) E.1.2.2.2.1 [] ⟨12, 29, 30, 150⟩ [] htab (fun z hz => by cases hz) (by show (decide (12 ≤ pc) && decide (pc < 29)) = true; rw [decide_eq_true h1, decide_eq_true h2]; rfl) (by decide) (E.1.2.2.2.2 _ q173) (kx_use E.2.2.1.2.1 q981 rfl rfl) t1 t2 t3 ?_
    refine lv_astore_n hx hb dX1_fault_30 rfl hl (by decide) rfl (fun ls hl => ?_)
    have hl : lv_has ls 3 [(2, .ref q), (0, .ref (Rs 100)), (1, .int p1)] := hl
    refine lv_aload_n hx hb dX1_fault_31 rfl (lv_at hl 1 rfl) ?_
    refine gX1_3 E hw dX1_fault_32 ?_
    subst ho
    exact hret _ _ _ _ _ rfl rfl hw dX1_fault_35
  refine lv_if_ne (tgt := 12) hx hb dX1_fault_6 (by decide) (fun c_3 => ?_) (fun c_3 => ?_)
  · replace hF := fx_ff c_3 hF
    refine lv_iload_n hx hb dX1_fault_12 rfl (lv_at hl 1 rfl) ?_
    refine lv_if_ne (tgt := 23) hx hb dX1_fault_13 (by decide) (fun c_4 => ?_) (fun c_4 => ?_)
    · replace hF := fx_ff c_4 hF
      refine lv_aload_n hx hb dX1_fault_23 rfl (lv_at hl 0 rfl) ?_
      refine lv_iconst (v := (4 : Int32)) hx hb dX1_fault_24 (by decide) ?_
      replace hF := fx_x1_e hF
      rcases hF with ⟨S_2, h_5, hF⟩ | ⟨S_2, h_5, hF⟩
      · refine cx_cXv_n (ws := sC g Rs nw im S ++ ((Rs 0, .inr (9, [])) :: X)) (ws' := sC g Rs nw im S_2 ++ ((Rs 0, .inr (9, [])) :: X)) (As := [.int (4 : Int32)]) (rest := []) E (mX1_wholeScript l g A Rs _ _ _ S (4 : Int32) h_5) (kwX1_X1_wholeScript E ⟨Nat.le_of_ble_eq_true rfl, Nat.le_of_ble_eq_true rfl⟩) 0 1 rfl rfl rfl hw rfl hl.1 rfl (Nat.le_of_ble_eq_true rfl) dX1_fault_25 (fun H locs hw => ?_)
        refine lv_iconst (v := (-1 : Int32)) hx hb dX1_fault_28 (by decide) ?_
        obtain rfl := Option.some.inj hF
        exact hret _ _ _ _ _ rfl rfl hw dX1_fault_29
      · refine cx_cXv_t (ws := sC g Rs nw im S ++ ((Rs 0, .inr (9, [])) :: X)) (ws' := sC g Rs nw im S_2 ++ ((Rs 0, .inr (9, [])) :: X)) (As := [.int (4 : Int32)]) (rest := []) E (mX1_wholeScript l g A Rs _ _ _ S (4 : Int32) h_5) (kwX1_X1_wholeScript E ⟨Nat.le_of_ble_eq_true rfl, Nat.le_of_ble_eq_true rfl⟩) 0 1 rfl rfl rfl hw rfl hl.1 rfl (Nat.le_of_ble_eq_true rfl) dX1_fault_25 (fun q_ H locs hw hT => ?_)
        exact caught q_ _ S_2 H locs _ (by decide) (by decide) (Option.some.inj hF).symm hw hT
    · replace hF := fx_tt c_4 hF
      refine lv_aload_n hx hb dX1_fault_16 rfl (lv_at hl 0 rfl) ?_
      replace hF := fx_x1_e hF
      rcases hF with ⟨S_2, h_5, hF⟩ | ⟨S_2, h_5, hF⟩
      · refine cx_cXv_n (ws := sC g Rs nw im S ++ ((Rs 0, .inr (9, [])) :: X)) (ws' := sC g Rs nw im S_2 ++ ((Rs 0, .inr (9, [])) :: X)) (As := []) (rest := []) E (mX1_wholeShelf l g A Rs _ _ _ S h_5) (kwX1_X1_wholeShelf E ⟨Nat.le_of_ble_eq_true rfl, Nat.le_of_ble_eq_true rfl⟩) 0 1 rfl rfl rfl hw rfl hl.1 rfl (Nat.le_of_ble_eq_true rfl) dX1_fault_17 (fun H locs hw => ?_)
        refine lv_goto (tgt := 28) hx hb dX1_fault_20 (by decide) ?_
        refine lv_iconst (v := (-1 : Int32)) hx hb dX1_fault_28 (by decide) ?_
        obtain rfl := Option.some.inj hF
        exact hret _ _ _ _ _ rfl rfl hw dX1_fault_29
      · refine cx_cXv_t (ws := sC g Rs nw im S ++ ((Rs 0, .inr (9, [])) :: X)) (ws' := sC g Rs nw im S_2 ++ ((Rs 0, .inr (9, [])) :: X)) (As := []) (rest := []) E (mX1_wholeShelf l g A Rs _ _ _ S h_5) (kwX1_X1_wholeShelf E ⟨Nat.le_of_ble_eq_true rfl, Nat.le_of_ble_eq_true rfl⟩) 0 1 rfl rfl rfl hw rfl hl.1 rfl (Nat.le_of_ble_eq_true rfl) dX1_fault_17 (fun q_ H locs hw hT => ?_)
        exact caught q_ _ S_2 H locs _ (by decide) (by decide) (Option.some.inj hF).symm hw hT
  · replace hF := fx_tt c_3 hF
    refine lv_bipush (v := (-2 : Int32)) hx hb dX1_fault_9 (by decide) ?_
    obtain rfl := Option.some.inj hF
    exact hret _ _ _ _ _ rfl rfl hw dX1_fault_11
