/-! THE FRAME, third: contracts whose world behind has addresses that nobody knows ahead; objects one by one -/
def cx_G (l : Launch) (y : MethodName) (cc : ByteArray) (nL : Nat) (ret : Option FieldType) (rm : Room) (av : List Value) (g : Gx) (A : Nat → Prop) (ws : va_W) {ζ : Type} (ok : ζ → Prop) (val : ζ → Option Value) (ws' : ζ → va_W) (mc ms : Nat) : Prop :=
  Met l y (ws_ y cc nL ret) rm (cx_P g A ws av) (fun _ st oc t => (∃ z : ζ, ok z ∧ oc = .returned (val z) ∧ va_P g.1 vwCl (ws' z) t.heap ∧ va_D A (ws' z)) ∧ va_F A st t) mc ms A
theorem cx_G_of {l : Launch} {y : MethodName} {cc : ByteArray} {nL : Nat} {ret : Option FieldType} {rm : Room} {av : List Value} {g : Gx} {A : Nat → Prop} {ws : va_W} {ζ : Type} {ok : ζ → Prop} {val : ζ → Option Value} {ws' : ζ → va_W} {mc ms : Nat}
    (hy : plainName y.cls = true) (hsl : (lg_sl av).length ≤ nL)
    (body : ∀ (p : Program) (e : Env) (s : State) (m : MethodId) (args : Array Value) (below : List Frame) (meth : Method) (c : Code) (Q : State → Prop), cx_E p m meth c cc nL s args y.cls g A → meth.name = y.name →
      (∀ (H : Heap) (locs : List Loc) (ls : Array Slot) (pc : Nat) (z : ζ), ret = none → ok z → val z = none → cx_W g A s (ws' z) H locs → decode cc pc = .ok (.return_, 1) → W p l e rm s m args below meth c H locs mc ms Q (F0 m pc ls [])) →
      (∀ (H : Heap) (locs : List Loc) (ls : Array Slot) (pc : Nat) (z : ζ) (v : Int32) (ty : FieldType), ret = some ty → narrow ty (.int v) = .int v → ok z → val z = some (.int v) → cx_W g A s (ws' z) H locs → decode cc pc = .ok (.ireturn, 1) → W p l e rm s m args below meth c H locs mc ms Q (F0 m pc ls [.int v])) →
      (∀ (H : Heap) (locs : List Loc) (ls : Array Slot) (pc : Nat) (z : ζ) (a : Nat) (n : String), ret = some (.object n) → ok z → val z = some (.ref a) → cx_W g A s (ws' z) H locs → decode cc pc = .ok (.areturn, 1) → W p l e rm s m args below meth c H locs mc ms Q (F0 m pc ls [.ref a])) →
      ∀ (H : Heap), cx_W g A s ws H [] → ∀ (ls : Array Slot), lv_has ls nL (lv_args 0 av) → W p l e rm s m args below meth c H [] 0 0 Q (F0 m 0 ls [])) :
    cx_G l y cc nL ret rm av g A ws ok val ws' mc ms := by
  refine Met.ofW (cc := cc) (maxL := nL) (ret := ret) hy rfl ?_
  intro p e s m args below meth c s₁ B hml hv
  obtain ⟨rfl, hK, hP, hD, hA⟩ := hv
  have hts0 := atoms_spec (ws := ws_ y cc nL ret) B.pre
  have hts : ∀ w ∈ lw_all, w.before av.toArray s = true := fun w h => hts0 w (List.mem_cons_of_mem _ h)
  have hl := lv_entry av hsl
  have hlocks := B.notSynchronized
  have hr := B.returns
  rw [lg_entry_eq]
  refine body p e s m av.toArray below meth c _ ⟨⟨B.exec, B.bytes, hml, findClass_of_methodNamed B.named, hts⟩, B.notSynchronized, hK, hA⟩ (name_of_methodNamed B.named B.method).1 ?_ ?_ ?_ _ ⟨hP, hD, va_S.rf⟩ _ hl
  · intro H locs ls pc z hret hok hz hw hdg
    subst hret
    exact W.vret B.exec B.bytes hr (fun t ht hW => ⟨⟨z, hok, by rw [hz], by rw [ht]; exact hw.1, hw.2.1⟩, hw.2.2.F ht⟩) hw.2.2.2.2 hdg
  · intro H locs ls pc z v ty hret hn hok hz hw hdg
    subst hret
    exact W.zret B.exec B.bytes hr hn (fun t ht hW => ⟨⟨z, hok, by rw [hz], by rw [ht]; exact hw.1, hw.2.1⟩, hw.2.2.F ht⟩) hw.2.2.2.2 hdg
  · intro H locs ls pc z a n hret hok hz hw hdg
    subst hret
    exact W.aret B.exec B.bytes hr (Or.inl ⟨n, rfl⟩) (Or.inr ⟨a, rfl⟩) (fun t ht hW => ⟨⟨z, hok, by rw [hz], by rw [ht]; exact hw.1, hw.2.1⟩, hw.2.2.F ht⟩) hw.2.2.2.2 hdg
theorem cx_W.drop {g : Gx} {A : Nat → Prop} {s : State} {w1 w2 : va_W} {H : Heap} {locs : List Loc} (h : cx_W g A s (w1 ++ w2) H locs) : cx_W g A s w2 H locs := by
  refine ⟨wx_mem.mpr fun q hq => wx_mem.mp h.1 q (List.mem_append_right _ hq), ?_, h.2.2⟩
  obtain ⟨h1, h2⟩ := wx_nd.mp h.2.1
  refine wx_nd.mpr ⟨?_, fun q hq => h2 q (List.mem_append_right _ hq)⟩
  rw [List.map_append] at h1
  exact (List.nodup_append.mp h1).2.1
/-- another text for the same cells -/
theorem cx_W.conv {g : Gx} {A : Nat → Prop} {s : State} {w1 w2 : va_W} {H : Heap} {locs : List Loc} (h : cx_W g A s w1 H locs) (ha : w2.map Prod.fst = w1.map Prod.fst) (hc : ∀ H : Heap, va_P g.1 vwCl w1 H → va_P g.1 vwCl w2 H) : cx_W g A s w2 H locs := by
  refine ⟨hc H h.1, ?_, h.2.2⟩
  obtain ⟨h1, h2⟩ := wx_nd.mp h.2.1
  refine wx_nd.mpr ⟨by rw [ha]; exact h1, fun q hq => ?_⟩
  have hm : q.1 ∈ w1.map Prod.fst := by rw [← ha]; exact List.mem_map_of_mem hq
  obtain ⟨q', hq', e⟩ := List.mem_map.mp hm
  rw [← e]
  exact h2 q' hq'
section CG
variable {p : Program} {l : Launch} {e : Env} {R : Room} {s : State} {m : MethodId} {args : Array Value} {below : List Frame} {meth : Method} {c : Code} {H : Heap} {locs : List Loc} {cells slots : Nat} {Q : State → Prop}
variable {cc : ByteArray} {nL : Nat} {own : String} {g : Gx} {A : Nat → Prop} {ws : va_W} {ls : Array Slot} {pc : Nat} {st rest : List Value}
variable {ζ : Type} {ok : ζ → Prop} {val : ζ → Option Value} {ws' : ζ → va_W} {mc ms : Nat} {a : Array Value}
theorem cx_goG (hr : va_Run p l e R s m args below meth c H locs cells slots mc ms (F0 m pc ls st) rest (fun st oc t => (∃ z : ζ, ok z ∧ oc = .returned (val z) ∧ va_P g.1 vwCl (ws' z) t.heap ∧ va_D A (ws' z)) ∧ va_F A st t) A) (hS : va_S A s.heap H locs)
    (kk : ∀ (z : ζ) (H1 : Heap) (locs1 : List Loc), ok z → cx_W g A s (ws' z) H1 locs1 → W p l e R s m args below meth c H1 locs1 (cells + mc) (slots + ms) Q (F0 m (pc + 3) ls ((val z).toList ++ rest))) : W p l e R s m args below meth c H locs cells slots Q (F0 m pc ls st) := by
  intro T hT X
  obtain ⟨v, st₀, t, T', L, h0, X', hL, e1, e2, ⟨⟨z, hok, hv, hP, hD⟩, hz, hk⟩, st1⟩ := hr T hT X
  cases hv
  rw [h0] at hz hk
  obtain ⟨t2, a1, b1⟩ := kk z T'.heap (locs ++ L) hok ⟨by rw [e1]; exact hP, hD, ⟨Nat.le_trans hS.1 (by rw [e1]; exact hz), fun q h1 h2 => by rw [e1, hk q (Nat.lt_of_lt_of_le h1 hS.1) h2]; exact hS.2.1 q h1 h2, fun q hq => by
      rcases List.mem_append.mp hq with h | h
      · exact hS.2.2 q h
      · exact hL q h⟩⟩ T' rfl X'
  exact ⟨t2, st1 t2 a1, b1⟩
theorem cx_goG5 (hr : va_Run5 p l e R s m args below meth c H locs cells slots mc ms (F0 m pc ls st) rest (fun st oc t => (∃ z : ζ, ok z ∧ oc = .returned (val z) ∧ va_P g.1 vwCl (ws' z) t.heap ∧ va_D A (ws' z)) ∧ va_F A st t) A) (hS : va_S A s.heap H locs)
    (kk : ∀ (z : ζ) (H1 : Heap) (locs1 : List Loc), ok z → cx_W g A s (ws' z) H1 locs1 → W p l e R s m args below meth c H1 locs1 (cells + mc) (slots + ms) Q (F0 m (pc + 5) ls ((val z).toList ++ rest))) : W p l e R s m args below meth c H locs cells slots Q (F0 m pc ls st) := by
  intro T hT X
  obtain ⟨v, st₀, t, T', L, h0, X', hL, e1, e2, ⟨⟨z, hok, hv, hP, hD⟩, hz, hk⟩, st1⟩ := hr T hT X
  cases hv
  rw [h0] at hz hk
  obtain ⟨t2, a1, b1⟩ := kk z T'.heap (locs ++ L) hok ⟨by rw [e1]; exact hP, hD, ⟨Nat.le_trans hS.1 (by rw [e1]; exact hz), fun q h1 h2 => by rw [e1, hk q (Nat.lt_of_lt_of_le h1 hS.1) h2]; exact hS.2.1 q h1 h2, fun q hq => by
      rcases List.mem_append.mp hq with h | h
      · exact hS.2.2 q h
      · exact hL q h⟩⟩ T' rfl X'
  exact ⟨t2, st1 t2 a1, b1⟩
theorem cx_recv {b q0 ci : Nat} {q : vw_C} {fs : List Value} (E : cx_E p m meth c cc nL s args own g A) (hw : cx_W g A s ws H locs) (he : ws[q0]? = some (b, .inr (ci, fs))) (hc : vwCl[ci]? = some q) : ∃ cellB : Cell, H[b]? = some cellB ∧ cellB.vm.isStatics = false ∧ s.vm.findClass q.1 = some cellB.cls := va_recv E.2.2.1.1 hw.1 hc he
theorem cx_cGV {y : MethodName} {bc : ByteArray} {nL2 idx n : Nat} {ret : Option FieldType} {rm : Room} {b : Nat} {As : List Value} (E : cx_E p m meth c cc nL s args own g A) (M : cx_G l y bc nL2 ret rm (.ref b :: As) g A ws ok val ws' mc ms) (cw : CallW R s args own y.cls idx y bc nL2 ret (ws_ y bc nL2 ret) rm mc ms n)
    (hrec : ∃ cellB : Cell, H[b]? = some cellB ∧ cellB.vm.isStatics = false ∧ s.vm.findClass y.cls = some cellB.cls) (hw : cx_W g A s ws H locs) (hn : As.length = n) (hl : ls.size = nL) (hst : st = As.reverse ++ .ref b :: rest) (hcat : (rest.map fun v => v.category).sum ≤ 8) (hdg : decode cc pc = .ok (.invokevirtual idx, 3)) (hf : cells + mc ≤ R.cells ∧ slots + ms ≤ R.slots)
    (kk : ∀ (z : ζ) (H1 : Heap) (locs1 : List Loc), ok z → cx_W g A s (ws' z) H1 locs1 → W p l e R s m args below meth c H1 locs1 (cells + mc) (slots + ms) Q (F0 m (pc + 3) ls ((val z).toList ++ rest))) : W p l e R s m args below meth c H locs cells slots Q (F0 m pc ls st) :=
  cx_goG (va_runV (As := As) (rest := rest) E.1 M cw ⟨cx_blind, hrec, cx_pre E hw⟩ rfl hn hl hst (lv_room hcat) hdg hf) hw.2.2 kk
theorem cx_cGS {y : MethodName} {bc : ByteArray} {nL2 idx n : Nat} {ret : Option FieldType} {rm : Room} {As : List Value} (E : cx_E p m meth c cc nL s args own g A) (M : cx_G l y bc nL2 ret rm As g A ws ok val ws' mc ms) (cw : CallB R s args own idx y bc nL2 ret (ws_ y bc nL2 ret) rm mc ms n ∧ (Cond.static y).before args s = true)
    (hw : cx_W g A s ws H locs) (hn : As.length = n) (hl : ls.size = nL) (hst : st = As.reverse ++ rest) (hcat : (rest.map fun v => v.category).sum ≤ 8) (hdg : decode cc pc = .ok (.invokestatic idx, 3)) (hf : cells + mc ≤ R.cells ∧ slots + ms ≤ R.slots)
    (kk : ∀ (z : ζ) (H1 : Heap) (locs1 : List Loc), ok z → cx_W g A s (ws' z) H1 locs1 → W p l e R s m args below meth c H1 locs1 (cells + mc) (slots + ms) Q (F0 m (pc + 3) ls ((val z).toList ++ rest))) : W p l e R s m args below meth c H locs cells slots Q (F0 m pc ls st) :=
  cx_goG (va_runS (As := As) (rest := rest) E.1 M cw ⟨cx_blind, cx_pre E hw⟩ rfl hn hl hst (lv_room hcat) hdg hf) hw.2.2 kk
theorem cx_cGI {y : MethodName} {bc : ByteArray} {nL2 idx n : Nat} {rm : Room} {b : Nat} {As : List Value} (E : cx_E p m meth c cc nL s args own g A) (M : cx_G l y bc nL2 none rm (.ref b :: As) g A ws ok val ws' mc ms) (cw : CallB R s args own idx y bc nL2 none (ws_ y bc nL2 none) rm mc ms n ∧ y.name = "<init>" ∧ (Cond.instanceMethod y).before args s = true)
    (hw : cx_W g A s ws H locs) (hn : As.length = n) (hl : ls.size = nL) (hst : st = As.reverse ++ .ref b :: rest) (hcat : (rest.map fun v => v.category).sum ≤ 8) (hdg : decode cc pc = .ok (.invokespecial idx, 3)) (hf : cells + mc ≤ R.cells ∧ slots + ms ≤ R.slots)
    (kk : ∀ (z : ζ) (H1 : Heap) (locs1 : List Loc), ok z → cx_W g A s (ws' z) H1 locs1 → W p l e R s m args below meth c H1 locs1 (cells + mc) (slots + ms) Q (F0 m (pc + 3) ls ((val z).toList ++ rest))) : W p l e R s m args below meth c H locs cells slots Q (F0 m pc ls st) :=
  cx_goG (va_runI (As := As) (rest := rest) E.1 M cw ⟨cx_blind, cx_pre E hw⟩ rfl hn hl hst (lv_room hcat) hdg hf) hw.2.2 kk
theorem cx_cGIN {y : MethodName} {bc : ByteArray} {nL2 idx n : Nat} {host : String} {rm : Room} {b : Nat} {As : List Value} (E : cx_E p m meth c cc nL s args own g A) (M : cx_G l y bc nL2 none rm (.ref b :: As) g A ws ok val ws' mc ms) (cw : va_CN R s args own idx y host bc nL2 none (ws_ y bc nL2 none) rm mc ms n ∧ y.name = "<init>" ∧ (Cond.instanceMethod y).before args s = true)
    (hw : cx_W g A s ws H locs) (hn : As.length = n) (hl : ls.size = nL) (hst : st = As.reverse ++ .ref b :: rest) (hcat : (rest.map fun v => v.category).sum ≤ 8) (hdg : decode cc pc = .ok (.invokespecial idx, 3)) (hf : cells + mc ≤ R.cells ∧ slots + ms ≤ R.slots)
    (kk : ∀ (z : ζ) (H1 : Heap) (locs1 : List Loc), ok z → cx_W g A s (ws' z) H1 locs1 → W p l e R s m args below meth c H1 locs1 (cells + mc) (slots + ms) Q (F0 m (pc + 3) ls ((val z).toList ++ rest))) : W p l e R s m args below meth c H locs cells slots Q (F0 m pc ls st) :=
  cx_goG (va_runIN (As := As) (rest := rest) E.1 M cw ⟨cx_blind, cx_pre E hw⟩ rfl hn hl hst (lv_room hcat) hdg hf) hw.2.2 kk
theorem cx_newI (E : cx_E p m meth c cc nL s args own g A) (harr : (Cond.arrayClass .int) ∈ lw_all) (hw : cx_W g A s ws H locs) {n : Int32} (N : Nat) (hn : ¬ n < 0) (hN : n.toNatClampNeg = N) (hbytes : N * componentBytes .int ≤ 536870912) (hcells : cells + 1 ≤ R.cells) (hslots : slots + N ≤ R.slots) (hdg : decode cc pc = .ok (.newarray .int, 2))
    (kk : ∀ (q : Nat) (H1 : Heap), cx_W g A s ((q, .inl (g.2.1, N, .inl (fun _ => 0))) :: ws) H1 locs → W p l e R s m args below meth c H1 locs (cells + 1) (slots + N) Q (F0 m (pc + 2) ls (.ref q :: rest))) : W p l e R s m args below meth c H locs cells slots Q (F0 m pc ls (.int n :: rest)) := by
  refine va_newa (atype := .int) (ty := .int) (N' := N) (a0 := (N, .inl (fun _ => 0))) E.1.1 E.1.2.1 (E.1.2.2.2.2 _ harr) rfl E.2.2.1.1 hw.1 hw.2.1 hw.2.2 E.2.2.2 (fun cA => rfl) hn hN hbytes hcells hslots hdg (fun q cA H1 hK hP hD hS => ?_)
  have e1 := (hK.2 3 (cA, .int) rfl).2
  have e2 := (E.2.2.1.1.2 0 (g.2.1, .int) rfl).2
  have e3 : cA = g.2.1 := Option.some.inj ((show s.vm.findClass _ = some cA from e1).symm.trans e2)
  subst e3
  exact kk q H1 (cx_W.perm ⟨hP, hD, hS⟩ (List.perm_append_comm (l₁ := ws) (l₂ := [(q, .inl (g.2.1, N, .inl (fun _ => 0)))])))
end CG
