/-! THE FRAME, second: methods that may throw a Fault -/
def fx_x0 {ε γ : Type} (x : Option (Unit ⊕ ε)) (f : Option γ) (h : ε → Option γ) : Option γ := match x with | none => none | some (.inl _) => f | some (.inr e) => h e
def fx_x1 {α ε γ : Type} (x : Option (α ⊕ ε)) (f : α → Option γ) (h : ε → Option γ) : Option γ := match x with | none => none | some (.inl a) => f a | some (.inr e) => h e
def fx_x2 {α β ε γ : Type} (x : Option ((α × β) ⊕ ε)) (f : α → β → Option γ) (h : ε → Option γ) : Option γ := match x with | none => none | some (.inl a) => f a.1 a.2 | some (.inr e) => h e
theorem fx_x1_e {α ε γ : Type} {x : Option (α ⊕ ε)} {f : α → Option γ} {h : ε → Option γ} {r : γ} (q : fx_x1 x f h = some r) : (∃ a, x = some (.inl a) ∧ f a = some r) ∨ ∃ e, x = some (.inr e) ∧ h e = some r := by
  cases x with
  | none => cases q
  | some v =>
    cases v with
    | inl a => exact Or.inl ⟨a, rfl, q⟩
    | inr e => exact Or.inr ⟨e, rfl, q⟩
theorem fx_x2_e {α β ε γ : Type} {x : Option ((α × β) ⊕ ε)} {f : α → β → Option γ} {h : ε → Option γ} {r : γ} (q : fx_x2 x f h = some r) : (∃ a b, x = some (.inl (a, b)) ∧ f a b = some r) ∨ ∃ e, x = some (.inr e) ∧ h e = some r := by
  cases x with
  | none => cases q
  | some v =>
    cases v with
    | inl a => exact Or.inl ⟨a.1, a.2, rfl, q⟩
    | inr e => exact Or.inr ⟨e, rfl, q⟩
def xo_i (W : Sx → va_W) : (Int32 × Sx) ⊕ Sx → (Int32 × va_W) ⊕ va_W
  | .inl q => .inl (q.1, W q.2)
  | .inr S => .inr (W S)
def xo_v (W : Sx → va_W) : Sx ⊕ Sx → va_W ⊕ va_W
  | .inl S => .inl (W S)
  | .inr S => .inr (W S)
def xx_B (g : Gx) (A : Nat → Prop) (u : va_W) (t : State) : Prop := va_P g.1 vwCl u t.heap ∧ va_D A u
def cx_xi (l : Launch) (y : MethodName) (cc : ByteArray) (nL : Nat) (ret : FieldType) (rm : Room) (av : List Value) (g : Gx) (A : Nat → Prop) (ws : va_W) (o : (Int32 × va_W) ⊕ va_W) : Prop :=
  vx_Met l y (ws_ y cc nL (some ret)) rm (cx_P g A ws av) (va_Qi (fun (r : Int32) (u : va_W) => o = .inl (r, u)) (xx_B g A) A) (vx_X (fun u : va_W => o = .inr u) (fun E u t => E = RX2 ∧ xx_B g A u t) A) 0 0 A
def cx_xv (l : Launch) (y : MethodName) (cc : ByteArray) (nL : Nat) (rm : Room) (av : List Value) (g : Gx) (A : Nat → Prop) (ws : va_W) (o : va_W ⊕ va_W) : Prop :=
  vx_Met l y (ws_ y cc nL none) rm (cx_P g A ws av) (va_Qv (fun (u : va_W) => o = .inl u) (xx_B g A) A) (vx_X (fun u : va_W => o = .inr u) (fun E u t => E = RX2 ∧ xx_B g A u t) A) 0 0 A
/-- a thrown Fault, as it stands in the heap -/
def xx_T (s : State) (H : Heap) (q : Nat) : Prop := ∃ ce : Cell, H[q]? = some ce ∧ ce.vm = .none ∧ s.vm.findClass RX2 = some ce.cls
theorem xx_T_of {g : Gx} {s : State} {ws : va_W} {H : Heap} {q k : Nat} {fs : List Value} {tys : List (ClassId × FieldType)} (hK : va_K g.1 vwCl tys s) (hP : va_P g.1 vwCl ws H) (he : ws[k]? = some (q, .inr (9, fs))) : xx_T s H q := by
  obtain ⟨r, h1, cell, g1, g2, g3, -⟩ := hP k _ he
  cases h1
  exact ⟨cell, g1, g3, by rw [g2]; exact (hK.1 9 _ rfl).2.1⟩
theorem cx_xi_of {l : Launch} {y : MethodName} {cc : ByteArray} {nL : Nat} {ret : FieldType} {rm : Room} {av : List Value} {g : Gx} {A : Nat → Prop} {ws : va_W} {o : (Int32 × va_W) ⊕ va_W}
    (hy : plainName y.cls = true) (hsl : (lg_sl av).length ≤ nL)
    (body : ∀ (p : Program) (e : Env) (s : State) (m : MethodId) (args : Array Value) (below : List Frame) (meth : Method) (c : Code) (Q : State → Prop), cx_E p m meth c cc nL s args y.cls g A →
      (∀ (H : Heap) (locs : List Loc) (ls : Array Slot) (pc : Nat) (v : Int32) (ws' : va_W), o = .inl (v, ws') → narrow ret (.int v) = .int v → cx_W g A s ws' H locs → decode cc pc = .ok (.ireturn, 1) → W p l e rm s m args below meth c H locs 0 0 Q (F0 m pc ls [.int v])) →
      (∀ (H : Heap) (locs : List Loc) (ls : Array Slot) (st : List Value) (pc : Nat) (q : Nat) (ws' : va_W), o = .inr ws' → cx_W g A s ws' H locs → xx_T s H q → vx_W p l e rm s m args below meth c H locs 0 0 Q (F0 m pc ls st) q) →
      ∀ (H : Heap), cx_W g A s ws H [] → ∀ (ls : Array Slot), lv_has ls nL (lv_args 0 av) → W p l e rm s m args below meth c H [] 0 0 Q (F0 m 0 ls [])) :
    cx_xi l y cc nL ret rm av g A ws o := by
  refine vx_ofW (cc := cc) (maxL := nL) (ret := some ret) hy rfl ?_
  intro p e s m args below meth c s₁ B hml hno hv
  obtain ⟨rfl, hK, hP, hD, hA⟩ := hv
  have hts0 := atoms_spec (ws := ws_ y cc nL (some ret)) B.pre
  have hts : ∀ w ∈ lw_all, w.before av.toArray s = true := fun w h => hts0 w (List.mem_cons_of_mem _ h)
  have hl := lv_entry av hsl
  rw [lg_entry_eq]
  refine body p e s m av.toArray below meth c _ ⟨⟨B.exec, B.bytes, hml, findClass_of_methodNamed B.named, hts⟩, B.notSynchronized, hK, hA⟩ ?_ ?_ _ ⟨hP, hD, va_S.rf⟩ _ hl
  · intro H locs ls pc v ws' hvr hn hw hdg
    have hlocks := B.notSynchronized
    exact vx_ret (W.zret B.exec B.bytes B.returns hn (fun t ht hW => ⟨⟨v, ws', rfl, hvr, by rw [ht]; exact hw.1, hw.2.1⟩, hw.2.2.F ht⟩) hw.2.2.2.2 hdg)
  · intro H locs ls st pc q ws' ho hw hT
    obtain ⟨ce, h1, h2, h3⟩ := hT
    exact vx_out (fun x hx => (hno x hx).elim) B.notSynchronized h1 h2 h3 (fun t ht hW => ⟨ws', ho, ⟨rfl, by rw [ht]; exact hw.1, hw.2.1⟩, hw.2.2.F ht⟩) hw.2.2.2.2 (Nat.le_refl _) (Nat.le_refl _)
theorem cx_xv_of {l : Launch} {y : MethodName} {cc : ByteArray} {nL : Nat} {rm : Room} {av : List Value} {g : Gx} {A : Nat → Prop} {ws : va_W} {o : va_W ⊕ va_W}
    (hy : plainName y.cls = true) (hsl : (lg_sl av).length ≤ nL)
    (body : ∀ (p : Program) (e : Env) (s : State) (m : MethodId) (args : Array Value) (below : List Frame) (meth : Method) (c : Code) (Q : State → Prop), cx_E p m meth c cc nL s args y.cls g A →
      (∀ (H : Heap) (locs : List Loc) (ls : Array Slot) (pc : Nat) (ws' : va_W), o = .inl ws' → cx_W g A s ws' H locs → decode cc pc = .ok (.return_, 1) → W p l e rm s m args below meth c H locs 0 0 Q (F0 m pc ls [])) →
      (∀ (H : Heap) (locs : List Loc) (ls : Array Slot) (st : List Value) (pc : Nat) (q : Nat) (ws' : va_W), o = .inr ws' → cx_W g A s ws' H locs → xx_T s H q → vx_W p l e rm s m args below meth c H locs 0 0 Q (F0 m pc ls st) q) →
      ∀ (H : Heap), cx_W g A s ws H [] → ∀ (ls : Array Slot), lv_has ls nL (lv_args 0 av) → W p l e rm s m args below meth c H [] 0 0 Q (F0 m 0 ls [])) :
    cx_xv l y cc nL rm av g A ws o := by
  refine vx_ofW (cc := cc) (maxL := nL) (ret := none) hy rfl ?_
  intro p e s m args below meth c s₁ B hml hno hv
  obtain ⟨rfl, hK, hP, hD, hA⟩ := hv
  have hts0 := atoms_spec (ws := ws_ y cc nL none) B.pre
  have hts : ∀ w ∈ lw_all, w.before av.toArray s = true := fun w h => hts0 w (List.mem_cons_of_mem _ h)
  have hl := lv_entry av hsl
  rw [lg_entry_eq]
  refine body p e s m av.toArray below meth c _ ⟨⟨B.exec, B.bytes, hml, findClass_of_methodNamed B.named, hts⟩, B.notSynchronized, hK, hA⟩ ?_ ?_ _ ⟨hP, hD, va_S.rf⟩ _ hl
  · intro H locs ls pc ws' hvr hw hdg
    have hlocks := B.notSynchronized
    exact vx_ret (W.vret B.exec B.bytes B.returns (fun t ht hW => ⟨⟨ws', rfl, hvr, by rw [ht]; exact hw.1, hw.2.1⟩, hw.2.2.F ht⟩) hw.2.2.2.2 hdg)
  · intro H locs ls st pc q ws' ho hw hT
    obtain ⟨ce, h1, h2, h3⟩ := hT
    exact vx_out (fun x hx => (hno x hx).elim) B.notSynchronized h1 h2 h3 (fun t ht hW => ⟨ws', ho, ⟨rfl, by rw [ht]; exact hw.1, hw.2.1⟩, hw.2.2.F ht⟩) hw.2.2.2.2 (Nat.le_refl _) (Nat.le_refl _)
section CXX
variable {p : Program} {l : Launch} {e : Env} {R : Room} {s : State} {m : MethodId} {args : Array Value} {below : List Frame} {meth : Method} {c : Code} {H : Heap} {locs : List Loc} {Q : State → Prop}
variable {cc : ByteArray} {nL : Nat} {own : String} {g : Gx} {A : Nat → Prop} {ws ws' : va_W} {ls : Array Slot} {pc : Nat} {st rest : List Value}
theorem cx_cXi {y : MethodName} {bc : ByteArray} {nL2 idx n : Nat} {ret : FieldType} {rm : Room} {b : Nat} {As : List Value} {o : (Int32 × va_W) ⊕ va_W} (E : cx_E p m meth c cc nL s args own g A) (M : cx_xi l y bc nL2 ret rm (.ref b :: As) g A ws o) (cw : CallW R s args own y.cls idx y bc nL2 (some ret) (ws_ y bc nL2 (some ret)) rm 0 0 n)
    (q0 ci : Nat) {q : vw_C} {fs : List Value} (he : ws[q0]? = some (b, .inr (ci, fs))) (hc : vwCl[ci]? = some q) (hq : q.1 = y.cls) (hw : cx_W g A s ws H locs) (hn : As.length = n) (hl : ls.size = nL) (hst : st = As.reverse ++ .ref b :: rest) (hcat : (rest.map fun v => v.category).sum ≤ 8) (hdg : decode cc pc = .ok (.invokevirtual idx, 3)) (hf : 0 ≤ R.cells ∧ 0 ≤ R.slots)
    (kx : ∀ (u : va_W) (q9 : Nat) (H1 : Heap) (locs1 : List Loc), o = .inr u → cx_W g A s u H1 locs1 → xx_T s H1 q9 → vx_W p l e R s m args below meth c H1 locs1 0 0 Q (F0 m pc ls rest) q9)
    (kk : ∀ (r : Int32) (u : va_W) (H1 : Heap) (locs1 : List Loc), o = .inl (r, u) → cx_W g A s u H1 locs1 → W p l e R s m args below meth c H1 locs1 0 0 Q (F0 m (pc + 3) ls (.int r :: rest))) : W p l e R s m args below meth c H locs 0 0 Q (F0 m pc ls st) := by
  refine vx_calli (cells := 0) (slots := 0) (vx_runV (As := As) (rest := rest) E.1 M cw ⟨cx_blind, by rw [← hq]; exact va_recv E.2.2.1.1 hw.1 hc he, cx_pre E hw⟩ rfl hn hl hst (lv_room hcat) hdg hf) hw.2.2 (fun q _ h => h) (fun q h => h) (fun q _ h => h)
    (fun E9 ce q9 u t H1 locs1 ht hvm hp hB hz hk hS h1 h2 h3 => ?_) (fun r1 u t H1 locs1 ht hvm hp hB hz hk hS => ?_)
  · obtain ⟨rfl, hP1, hD1⟩ := hB
    rw [ht] at hP1
    exact kx u q9 H1 locs1 hp ⟨hP1, hD1, hS⟩ ⟨ce, h1, h2, h3⟩
  · obtain ⟨hP1, hD1⟩ := hB
    rw [ht] at hP1
    exact kk r1 u H1 locs1 hp ⟨hP1, hD1, hS⟩
theorem cx_cXv {y : MethodName} {bc : ByteArray} {nL2 idx n : Nat} {rm : Room} {b : Nat} {As : List Value} {o : va_W ⊕ va_W} (E : cx_E p m meth c cc nL s args own g A) (M : cx_xv l y bc nL2 rm (.ref b :: As) g A ws o) (cw : CallW R s args own y.cls idx y bc nL2 none (ws_ y bc nL2 none) rm 0 0 n)
    (q0 ci : Nat) {q : vw_C} {fs : List Value} (he : ws[q0]? = some (b, .inr (ci, fs))) (hc : vwCl[ci]? = some q) (hq : q.1 = y.cls) (hw : cx_W g A s ws H locs) (hn : As.length = n) (hl : ls.size = nL) (hst : st = As.reverse ++ .ref b :: rest) (hcat : (rest.map fun v => v.category).sum ≤ 8) (hdg : decode cc pc = .ok (.invokevirtual idx, 3)) (hf : 0 ≤ R.cells ∧ 0 ≤ R.slots)
    (kx : ∀ (u : va_W) (q9 : Nat) (H1 : Heap) (locs1 : List Loc), o = .inr u → cx_W g A s u H1 locs1 → xx_T s H1 q9 → vx_W p l e R s m args below meth c H1 locs1 0 0 Q (F0 m pc ls rest) q9)
    (kk : ∀ (u : va_W) (H1 : Heap) (locs1 : List Loc), o = .inl u → cx_W g A s u H1 locs1 → W p l e R s m args below meth c H1 locs1 0 0 Q (F0 m (pc + 3) ls rest)) : W p l e R s m args below meth c H locs 0 0 Q (F0 m pc ls st) := by
  refine vx_callv (cells := 0) (slots := 0) (vx_runV (As := As) (rest := rest) E.1 M cw ⟨cx_blind, by rw [← hq]; exact va_recv E.2.2.1.1 hw.1 hc he, cx_pre E hw⟩ rfl hn hl hst (lv_room hcat) hdg hf) hw.2.2 (fun q _ h => h) (fun q h => h) (fun q _ h => h)
    (fun E9 ce q9 u t H1 locs1 ht hvm hp hB hz hk hS h1 h2 h3 => ?_) (fun u t H1 locs1 ht hvm hp hB hz hk hS => ?_)
  · obtain ⟨rfl, hP1, hD1⟩ := hB
    rw [ht] at hP1
    exact kx u q9 H1 locs1 hp ⟨hP1, hD1, hS⟩ ⟨ce, h1, h2, h3⟩
  · obtain ⟨hP1, hD1⟩ := hB
    rw [ht] at hP1
    exact kk u H1 locs1 hp ⟨hP1, hD1, hS⟩
theorem cx_cXi_n {y : MethodName} {bc : ByteArray} {nL2 idx n : Nat} {ret : FieldType} {rm : Room} {b : Nat} {As : List Value} {r : Int32} (E : cx_E p m meth c cc nL s args own g A) (M : cx_xi l y bc nL2 ret rm (.ref b :: As) g A ws (.inl (r, ws'))) (cw : CallW R s args own y.cls idx y bc nL2 (some ret) (ws_ y bc nL2 (some ret)) rm 0 0 n)
    (q0 ci : Nat) {q : vw_C} {fs : List Value} (he : ws[q0]? = some (b, .inr (ci, fs))) (hc : vwCl[ci]? = some q) (hq : q.1 = y.cls) (hw : cx_W g A s ws H locs) (hn : As.length = n) (hl : ls.size = nL) (hst : st = As.reverse ++ .ref b :: rest) (hcat : (rest.map fun v => v.category).sum ≤ 8) (hdg : decode cc pc = .ok (.invokevirtual idx, 3))
    (kk : ∀ (H1 : Heap) (locs1 : List Loc), cx_W g A s ws' H1 locs1 → W p l e R s m args below meth c H1 locs1 0 0 Q (F0 m (pc + 3) ls (.int r :: rest))) : W p l e R s m args below meth c H locs 0 0 Q (F0 m pc ls st) :=
  cx_cXi E M cw q0 ci he hc hq hw hn hl hst hcat hdg ⟨Nat.zero_le _, Nat.zero_le _⟩ (fun _ _ _ _ h _ _ => nomatch h) (fun r1 u H1 locs1 h hw => by
    obtain ⟨rfl, rfl⟩ : r = r1 ∧ ws' = u := by cases h; exact ⟨rfl, rfl⟩
    exact kk H1 locs1 hw)
theorem cx_cXi_t {y : MethodName} {bc : ByteArray} {nL2 idx n : Nat} {ret : FieldType} {rm : Room} {b : Nat} {As : List Value} (E : cx_E p m meth c cc nL s args own g A) (M : cx_xi l y bc nL2 ret rm (.ref b :: As) g A ws (.inr ws')) (cw : CallW R s args own y.cls idx y bc nL2 (some ret) (ws_ y bc nL2 (some ret)) rm 0 0 n)
    (q0 ci : Nat) {q : vw_C} {fs : List Value} (he : ws[q0]? = some (b, .inr (ci, fs))) (hc : vwCl[ci]? = some q) (hq : q.1 = y.cls) (hw : cx_W g A s ws H locs) (hn : As.length = n) (hl : ls.size = nL) (hst : st = As.reverse ++ .ref b :: rest) (hcat : (rest.map fun v => v.category).sum ≤ 8) (hdg : decode cc pc = .ok (.invokevirtual idx, 3))
    (kx : ∀ (q9 : Nat) (H1 : Heap) (locs1 : List Loc), cx_W g A s ws' H1 locs1 → xx_T s H1 q9 → vx_W p l e R s m args below meth c H1 locs1 0 0 Q (F0 m pc ls rest) q9) : W p l e R s m args below meth c H locs 0 0 Q (F0 m pc ls st) :=
  cx_cXi E M cw q0 ci he hc hq hw hn hl hst hcat hdg ⟨Nat.zero_le _, Nat.zero_le _⟩ (fun u q9 H1 locs1 h hw hT => by
    obtain rfl : ws' = u := by cases h; rfl
    exact kx q9 H1 locs1 hw hT) (fun _ _ _ _ h _ => nomatch h)
theorem cx_cXv_n {y : MethodName} {bc : ByteArray} {nL2 idx n : Nat} {rm : Room} {b : Nat} {As : List Value} (E : cx_E p m meth c cc nL s args own g A) (M : cx_xv l y bc nL2 rm (.ref b :: As) g A ws (.inl ws')) (cw : CallW R s args own y.cls idx y bc nL2 none (ws_ y bc nL2 none) rm 0 0 n)
    (q0 ci : Nat) {q : vw_C} {fs : List Value} (he : ws[q0]? = some (b, .inr (ci, fs))) (hc : vwCl[ci]? = some q) (hq : q.1 = y.cls) (hw : cx_W g A s ws H locs) (hn : As.length = n) (hl : ls.size = nL) (hst : st = As.reverse ++ .ref b :: rest) (hcat : (rest.map fun v => v.category).sum ≤ 8) (hdg : decode cc pc = .ok (.invokevirtual idx, 3))
    (kk : ∀ (H1 : Heap) (locs1 : List Loc), cx_W g A s ws' H1 locs1 → W p l e R s m args below meth c H1 locs1 0 0 Q (F0 m (pc + 3) ls rest)) : W p l e R s m args below meth c H locs 0 0 Q (F0 m pc ls st) :=
  cx_cXv E M cw q0 ci he hc hq hw hn hl hst hcat hdg ⟨Nat.zero_le _, Nat.zero_le _⟩ (fun _ _ _ _ h _ _ => nomatch h) (fun u H1 locs1 h hw => by
    obtain rfl : ws' = u := by cases h; rfl
    exact kk H1 locs1 hw)
theorem cx_cXv_t {y : MethodName} {bc : ByteArray} {nL2 idx n : Nat} {rm : Room} {b : Nat} {As : List Value} (E : cx_E p m meth c cc nL s args own g A) (M : cx_xv l y bc nL2 rm (.ref b :: As) g A ws (.inr ws')) (cw : CallW R s args own y.cls idx y bc nL2 none (ws_ y bc nL2 none) rm 0 0 n)
    (q0 ci : Nat) {q : vw_C} {fs : List Value} (he : ws[q0]? = some (b, .inr (ci, fs))) (hc : vwCl[ci]? = some q) (hq : q.1 = y.cls) (hw : cx_W g A s ws H locs) (hn : As.length = n) (hl : ls.size = nL) (hst : st = As.reverse ++ .ref b :: rest) (hcat : (rest.map fun v => v.category).sum ≤ 8) (hdg : decode cc pc = .ok (.invokevirtual idx, 3))
    (kx : ∀ (q9 : Nat) (H1 : Heap) (locs1 : List Loc), cx_W g A s ws' H1 locs1 → xx_T s H1 q9 → vx_W p l e R s m args below meth c H1 locs1 0 0 Q (F0 m pc ls rest) q9) : W p l e R s m args below meth c H locs 0 0 Q (F0 m pc ls st) :=
  cx_cXv E M cw q0 ci he hc hq hw hn hl hst hcat hdg ⟨Nat.zero_le _, Nat.zero_le _⟩ (fun u q9 H1 locs1 h hw hT => by
    obtain rfl : ws' = u := by cases h; rfl
    exact kx q9 H1 locs1 hw hT) (fun _ _ _ h _ => nomatch h)
end CXX
