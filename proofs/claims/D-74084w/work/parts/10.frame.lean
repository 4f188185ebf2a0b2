/-! THE FRAME: a flat state, a small language of partial functions, worlds with a rest that nobody looks at, contracts over them -/
abbrev Sx : Type := (Nat → Int32) × (Nat → Nat → Int32) × Int64
def gx_I (S : Sx) (k : Nat) : Int32 := S.1 k
def gx_A (S : Sx) (k : Nat) : Nat → Int32 := S.2.1 k
def gx_J (S : Sx) : Int64 := S.2.2
def px_I (S : Sx) (k : Nat) (v : Int32) : Sx := (upd S.1 k v, S.2.1, S.2.2)
def px_A (S : Sx) (k : Nat) (f : Nat → Int32) : Sx := (S.1, va_up S.2.1 k f, S.2.2)
def px_J (S : Sx) (v : Int64) : Sx := (S.1, S.2.1, v)
theorem gp_II {S : Sx} {k j : Nat} {v : Int32} : gx_I (px_I S k v) j = if j = k then v else gx_I S j := rfl
theorem gp_IA {S : Sx} {k j : Nat} {f : Nat → Int32} : gx_I (px_A S k f) j = gx_I S j := rfl
theorem gp_IJ {S : Sx} {j : Nat} {v : Int64} : gx_I (px_J S v) j = gx_I S j := rfl
theorem gp_AI {S : Sx} {k j : Nat} {v : Int32} : gx_A (px_I S k v) j = gx_A S j := rfl
theorem gp_AA {S : Sx} {k j : Nat} {f : Nat → Int32} : gx_A (px_A S k f) j = if j = k then f else gx_A S j := rfl
theorem gp_AJ {S : Sx} {j : Nat} {v : Int64} : gx_A (px_J S v) j = gx_A S j := rfl
theorem gp_JI {S : Sx} {k : Nat} {v : Int32} : gx_J (px_I S k v) = gx_J S := rfl
theorem gp_JA {S : Sx} {k : Nat} {f : Nat → Int32} : gx_J (px_A S k f) = gx_J S := rfl
theorem gp_JJ {S : Sx} {v : Int64} : gx_J (px_J S v) = v := rfl
/-! the language -/
def fx_lt {α β : Type} (e : α) (f : α → β) : β := f e
def fx_gd {α : Type} (c : Bool) (x : Option α) : Option α := if c = true then x else none
def fx_in (i : Int32) (n : Nat) : Bool := !(decide (i < 0)) && decide (i.toNatClampNeg < n)
def fx_nz (y : Int32) : Bool := !(decide (y = 0))
def fx_nzl (y : Int64) : Bool := !(decide (y = 0))
def fx_zb (y : Int32) : Bool := decide (y = 0) || decide (y = 1)
def fx_b1 {α γ : Type} (x : Option α) (f : α → Option γ) : Option γ := match x with | none => none | some a => f a
def fx_b2 {α β γ : Type} (x : Option (α × β)) (f : α → β → Option γ) : Option γ := match x with | none => none | some a => f a.1 a.2
def fx_b3 {α β δ γ : Type} (x : Option (α × β × δ)) (f : α → β → δ → Option γ) : Option γ := match x with | none => none | some a => f a.1 a.2.1 a.2.2
def fx_b4 {α β δ ε γ : Type} (x : Option (α × β × δ × ε)) (f : α → β → δ → ε → Option γ) : Option γ := match x with | none => none | some a => f a.1 a.2.1 a.2.2.1 a.2.2.2
def fx_u2 {α β γ : Type} (q : α × β) (f : α → β → γ) : γ := f q.1 q.2
def fx_u3 {α β δ γ : Type} (q : α × β × δ) (f : α → β → δ → γ) : γ := f q.1 q.2.1 q.2.2
def fx_u4 {α β δ ε γ : Type} (q : α × β × δ × ε) (f : α → β → δ → ε → γ) : γ := f q.1 q.2.1 q.2.2.1 q.2.2.2
def fx_u5 {α β δ ε ζ γ : Type} (q : α × β × δ × ε × ζ) (f : α → β → δ → ε → ζ → γ) : γ := f q.1 q.2.1 q.2.2.1 q.2.2.2.1 q.2.2.2.2
def fx_u6 {α β δ ε ζ η γ : Type} (q : α × β × δ × ε × ζ × η) (f : α → β → δ → ε → ζ → η → γ) : γ := f q.1 q.2.1 q.2.2.1 q.2.2.2.1 q.2.2.2.2.1 q.2.2.2.2.2
def fx_u7 {α β δ ε ζ η θ γ : Type} (q : α × β × δ × ε × ζ × η × θ) (f : α → β → δ → ε → ζ → η → θ → γ) : γ := f q.1 q.2.1 q.2.2.1 q.2.2.2.1 q.2.2.2.2.1 q.2.2.2.2.2.1 q.2.2.2.2.2.2
def fx_sm {α β γ : Type} (x : α ⊕ β) (f : α → γ) (g : β → γ) : γ := match x with | .inl a => f a | .inr b => g b
def fx_lp {σ ρ : Type} (step : σ → Option (σ ⊕ ρ)) : Nat → σ → Option ρ
  | 0, _ => none
  | n + 1, s => match step s with
    | none => none
    | some (.inl s') => fx_lp step n s'
    | some (.inr r) => some r
def fx_lk {σ ρ : Type} (rec : σ → Option ρ) : σ ⊕ ρ → ρ → Prop
  | .inl s', x => rec s' = some x
  | .inr y, x => y = x
theorem fx_lt_e {α β : Type} {e x : α} {f : α → β} {r : β} (hx : x = e) (h : fx_lt e f = r) : f x = r := by subst hx; exact h
theorem fx_gd_e {α : Type} {c : Bool} {x : Option α} {r : α} (h : fx_gd c x = some r) : c = true ∧ x = some r := by
  unfold fx_gd at h
  split at h
  · exact ⟨by assumption, h⟩
  · cases h
theorem fx_in_e {i : Int32} {n : Nat} (h : fx_in i n = true) : vp_in i n := by
  simp only [fx_in, Bool.and_eq_true, Bool.not_eq_true', decide_eq_false_iff_not, decide_eq_true_eq] at h
  intro q
  rcases q with q | q
  · exact h.1 q
  · omega
theorem fx_in_i {i : Int32} {n : Nat} (h : vp_in i n) : fx_in i n = true := by
  simp only [fx_in, Bool.and_eq_true, Bool.not_eq_true', decide_eq_false_iff_not, decide_eq_true_eq]
  exact ⟨fun q => h (Or.inl q), Nat.not_le.mp fun q => h (Or.inr q)⟩
theorem fx_nz_e {y : Int32} (h : fx_nz y = true) : ¬ y = 0 := by simpa [fx_nz] using h
theorem fx_nzl_e {y : Int64} (h : fx_nzl y = true) : ¬ y = 0 := by simpa [fx_nzl] using h
theorem fx_zb_e {y : Int32} (h : fx_zb y = true) : y = 0 ∨ y = 1 := by simpa [fx_zb] using h
theorem fx_zb_nar {y : Int32} (h : fx_zb y = true) : narrow .boolean (.int y) = .int y := by
  rcases fx_zb_e h with h | h <;> subst h <;> decide
theorem fx_zb_fit {y : Int32} (h : fx_zb y = true) : fits .boolean (.int y) = true := by
  rcases fx_zb_e h with h | h <;> subst h <;> decide
theorem fx_b1_e {α γ : Type} {x : Option α} {f : α → Option γ} {r : γ} (h : fx_b1 x f = some r) : ∃ a, x = some a ∧ f a = some r := by
  cases x with
  | none => cases h
  | some a => exact ⟨a, rfl, h⟩
theorem fx_b2_e {α β γ : Type} {x : Option (α × β)} {f : α → β → Option γ} {r : γ} (h : fx_b2 x f = some r) : ∃ a b, x = some (a, b) ∧ f a b = some r := by
  cases x with
  | none => cases h
  | some a => exact ⟨a.1, a.2, rfl, h⟩
theorem fx_b3_e {α β δ γ : Type} {x : Option (α × β × δ)} {f : α → β → δ → Option γ} {r : γ} (h : fx_b3 x f = some r) : ∃ a b d, x = some (a, b, d) ∧ f a b d = some r := by
  cases x with
  | none => cases h
  | some a => exact ⟨a.1, a.2.1, a.2.2, rfl, h⟩
theorem fx_b4_e {α β δ ε γ : Type} {x : Option (α × β × δ × ε)} {f : α → β → δ → ε → Option γ} {r : γ} (h : fx_b4 x f = some r) : ∃ a b d e, x = some (a, b, d, e) ∧ f a b d e = some r := by
  cases x with
  | none => cases h
  | some a => exact ⟨a.1, a.2.1, a.2.2.1, a.2.2.2, rfl, h⟩
theorem fx_u2_e {α β γ : Type} {a : α} {b : β} {f : α → β → γ} {r : γ} (h : fx_u2 (a, b) f = r) : f a b = r := h
theorem fx_u3_e {α β δ γ : Type} {a : α} {b : β} {c : δ} {f : α → β → δ → γ} {r : γ} (h : fx_u3 (a, b, c) f = r) : f a b c = r := h
theorem fx_u4_e {α β δ ε γ : Type} {a : α} {b : β} {c : δ} {d : ε} {f : α → β → δ → ε → γ} {r : γ} (h : fx_u4 (a, b, c, d) f = r) : f a b c d = r := h
theorem fx_u5_e {α β δ ε ζ γ : Type} {a : α} {b : β} {c : δ} {d : ε} {e : ζ} {f : α → β → δ → ε → ζ → γ} {r : γ} (h : fx_u5 (a, b, c, d, e) f = r) : f a b c d e = r := h
theorem fx_u6_e {α β δ ε ζ η γ : Type} {a : α} {b : β} {c : δ} {d : ε} {e : ζ} {i : η} {f : α → β → δ → ε → ζ → η → γ} {r : γ} (h : fx_u6 (a, b, c, d, e, i) f = r) : f a b c d e i = r := h
theorem fx_u7_e {α β δ ε ζ η θ γ : Type} {a : α} {b : β} {c : δ} {d : ε} {e : ζ} {i : η} {j : θ} {f : α → β → δ → ε → ζ → η → θ → γ} {r : γ} (h : fx_u7 (a, b, c, d, e, i, j) f = r) : f a b c d e i j = r := h
theorem fx_sm_l {α β γ : Type} {a : α} {f : α → γ} {g : β → γ} {r : γ} (h : fx_sm (.inl a) f g = r) : f a = r := h
theorem fx_sm_r {α β γ : Type} {b : β} {f : α → γ} {g : β → γ} {r : γ} (h : fx_sm (.inr b) f g = r) : g b = r := h
theorem fx_tt {α : Type} {c : Prop} [Decidable c] {a b : Option α} {r : α} (h : c) (e : (if c then a else b) = some r) : a = some r := by rw [if_pos h] at e; exact e
theorem fx_ff {α : Type} {c : Prop} [Decidable c] {a b : Option α} {r : α} (h : ¬ c) (e : (if c then a else b) = some r) : b = some r := by rw [if_neg h] at e; exact e
theorem fx_lp_0 {σ ρ : Type} {f : σ → Option (σ ⊕ ρ)} {s : σ} {x : ρ} {C : Prop} (h : fx_lp f 0 s = some x) : C := by cases h
theorem fx_lp_s {σ ρ : Type} {f : σ → Option (σ ⊕ ρ)} {s : σ} {x : ρ} {n : Nat} (h : fx_lp f (n + 1) s = some x) : ∃ o, f s = some o ∧ fx_lk (fx_lp f n) o x := by
  unfold fx_lp at h
  split at h
  · cases h
  · rename_i s' e
    exact ⟨_, e, h⟩
  · rename_i y e
    exact ⟨_, e, Option.some.inj h⟩
theorem fx_bk {σ ρ : Type} {rec : σ → Option ρ} {s' : σ} {o : σ ⊕ ρ} {x : ρ} (h : some (Sum.inl s') = some o) (h2 : fx_lk rec o x) : rec s' = some x := by cases h; exact h2
theorem fx_ex {σ ρ : Type} {rec : σ → Option ρ} {y : ρ} {o : σ ⊕ ρ} {x : ρ} (h : some (Sum.inr y) = some o) (h2 : fx_lk rec o x) : y = x := by cases h; exact h2
theorem fx_ne {x n : Int32} (h : ¬ x = n) : x.toInt ≠ n.toInt := fun q => h (Int32.toInt_inj.mp q)
/-- a loop comes to its end: the states that it goes through -/
theorem fx_lp_run {σ ρ : Type} {f : σ → Option (σ ⊕ ρ)} (st : Nat → σ) (k : Nat) {r : ρ} (hs : ∀ i, i < k → f (st i) = some (.inl (st (i + 1)))) (he : f (st k) = some (.inr r)) : ∀ n, k < n → fx_lp f n (st 0) = some r := by
  have key : ∀ (j i n : Nat), i + j = k → j < n → fx_lp f n (st i) = some r := by
    intro j
    induction j with
    | zero =>
      intro i n h1 h2
      obtain ⟨n, rfl⟩ : ∃ m, n = m + 1 := ⟨n - 1, by omega⟩
      have : i = k := by omega
      subst this
      show (match f (st i) with | none => none | some (.inl s') => fx_lp f n s' | some (.inr r) => some r) = some r
      rw [he]
    | succ j ih =>
      intro i n h1 h2
      obtain ⟨n, rfl⟩ : ∃ m, n = m + 1 := ⟨n - 1, by omega⟩
      show (match f (st i) with | none => none | some (.inl s') => fx_lp f n s' | some (.inr r) => some r) = some r
      rw [hs i (by omega)]
      exact ih (i + 1) n (by omega) (by omega)
  exact fun n h => key k 0 n (by omega) h
/-! worlds -/
theorem wx_mem {D : va_G} {cl : List vw_C} {ws : va_W} {H : Heap} : va_P D cl ws H ↔ ∀ q ∈ ws, va_at D cl q H := by
  constructor
  · intro h q hq
    obtain ⟨i, hi⟩ := List.getElem?_of_mem hq
    exact h i q hi
  · intro h k q hk
    exact h q (List.mem_of_getElem? hk)
theorem wx_nd {A : Nat → Prop} {ws : va_W} : va_D A ws ↔ (ws.map Prod.fst).Nodup ∧ ∀ q ∈ ws, A q.1 := by
  constructor
  · intro h
    refine ⟨?_, fun q hq => ?_⟩
    · rw [List.nodup_iff_pairwise_ne, List.pairwise_iff_getElem]
      intro i j hi hj hij he
      rw [List.getElem_map, List.getElem_map] at he
      rw [List.length_map] at hi hj
      have := h.1 i j _ _ (List.getElem?_eq_getElem hi) (List.getElem?_eq_getElem hj) he
      omega
    · obtain ⟨i, hi⟩ := List.getElem?_of_mem hq
      exact h.2 i q hi
  · intro h
    refine ⟨fun i j p q hi hj he => ?_, fun k q hk => h.2 q (List.mem_of_getElem? hk)⟩
    have hil : i < (ws.map Prod.fst).length := by rw [List.length_map]; exact (List.getElem?_eq_some_iff.mp hi).1
    refine (List.getElem?_inj hil h.1).mp ?_
    rw [List.getElem?_map, List.getElem?_map, hi, hj]
    show some p.1 = some q.1
    rw [he]
theorem wx_P_perm {D : va_G} {cl : List vw_C} {ws ws' : va_W} {H : Heap} (hp : ws.Perm ws') (h : va_P D cl ws H) : va_P D cl ws' H := wx_mem.mpr fun q hq => wx_mem.mp h q (hp.mem_iff.mpr hq)
theorem wx_D_perm {A : Nat → Prop} {ws ws' : va_W} (hp : ws.Perm ws') (h : va_D A ws) : va_D A ws' := by
  obtain ⟨h1, h2⟩ := wx_nd.mp h
  exact wx_nd.mpr ⟨(hp.map Prod.fst).nodup h1, fun q hq => h2 q (hp.mem_iff.mpr hq)⟩
abbrev Gx : Type := va_G × ClassId × ClassId × ClassId × (Nat → Nat) × (Nat → Nat)
/-- the words of the tables that name nest mates' members, casts, declarations -/
def kx_is (w : Cond) : Bool := match w with | .fieldLinkNest .. => true | .methodLinkNest .. => true | .castable .. => true | .declares .. => true | _ => false
def kx_w : List Cond := lw_tbl.filter kx_is
def kx_n (s : State) : Prop := ∀ w ∈ kx_w, va_Nw w s
theorem kx_n_warm {s U : State} (hW : s.WarmedH U.vm) (h : kx_n s) : kx_n U := by
  intro w hw
  have h1 := h w hw
  have h2 := (List.mem_filter.mp hw).2
  cases w <;> first | exact va_Nw.warmF hW h1 | exact va_Nw.warmM hW h1 | exact va_Nw.warmC hW h1 | exact va_Nw.warmD hW h1 | exact absurd h2 Bool.false_ne_true
theorem kx_n_same {s U : State} (hv : s.vm = U.vm) (h : kx_n s) : kx_n U := by
  intro w hw
  have h1 := h w hw
  have h2 := (List.mem_filter.mp hw).2
  cases w <;> first | exact va_Nw.same rfl hv h1 | exact absurd h2 Bool.false_ne_true
theorem kx_use {s : State} (h : kx_n s) {w : Cond} (hw : w ∈ lw_tbl) (hf : kx_is w = true) (ho : w.onTables = true) {A : Array Value} : w.before A s = true := va_Nw.use ho (h w (List.mem_filter.mpr ⟨hw, hf⟩))
abbrev vwCl : List vw_C := [(RX6, TX6, 32), (RX1, TX1, 32), (RX7, TX7, 15), (RX3, TX3, 4), (RX4, TX4, 2), (RX5, TX5, 3), (RX8, TX8, 3), (RX9, TX9, 3), (RX10, TX10, 3), (RX2, TX2, 0), (RJ9, TX2, 0)]
abbrev kx_t (g : Gx) : List (ClassId × FieldType) := [(g.2.1, .int), (g.2.2.1, .byte), (g.2.2.2.1, .boolean)]
abbrev kx_bytes : List (List Int32) := [[100, 116, 99, 102, 107], [97, 120], [119, 108, 110, 114, 115, 112, 122, 121, 102]]
/-- the three texts, and statics that nobody writes -/
def kx_S (g : Gx) (A : Nat → Prop) (U : State) (H : Heap) : Prop :=
  vk_S 3 [5, 2, 9] kx_bytes g.2.2.2.2.1 g.2.2.2.2.2 A U H ∧ va_Z "java/lang/String" "COMPACT_STRINGS" "Z" (.int 1) A U H ∧ va_Zq "jdk/internal/util/Preconditions" "SIOOBE_FORMATTER" "Ljava/util/function/BiFunction;" A U H ∧
  vx_Zq "java/lang/Throwable" "UNASSIGNED_STACK" "[Ljava/lang/StackTraceElement;" A U H ∧ vx_Zq "java/lang/Throwable" "SUPPRESSED_SENTINEL" "Ljava/util/List;" A U H
theorem kx_S.moved {g : Gx} {A : Nat → Prop} {u U : State} {H : Heap} (hvm : u.vm.Alike U.vm) (h : kx_S g A u H) : kx_S g A U H := ⟨vk_S.moved hvm h.1, va_Z.moved hvm h.2.1, va_Zq.moved hvm h.2.2.1, vx_Zq.moved hvm h.2.2.2.1, vx_Zq.moved hvm h.2.2.2.2⟩
theorem kx_S.kept {g : Gx} {A : Nat → Prop} {U : State} {H H1 : Heap} (h : kx_S g A U H) (hq : ∀ a : Nat, a < H.size → ¬ A a → H1[a]? = H[a]?) : kx_S g A U H1 := ⟨h.1.kept hq, h.2.1.kept hq, h.2.2.1.kept hq, h.2.2.2.1.kept hq, h.2.2.2.2.kept hq⟩
def kx_R (g : Gx) (U : State) : Prop :=
  vk_R "StripeShelf" 100 "dtcfk" (g.2.2.2.2.1 0) U ∧ vk_R "StripeShelf" 112 "ax" (g.2.2.2.2.1 1) U ∧ vk_R "StripeShelf" 126 "wlnrspzyf" (g.2.2.2.2.1 2) U ∧ vk_R "StripeShelfModel" 124 "dtcfk" (g.2.2.2.2.1 0) U ∧ vk_R "StripeShelfModel" 130 "ax" (g.2.2.2.2.1 1) U ∧ vk_R "StripeShelfModel" 136 "wlnrspzyf" (g.2.2.2.2.1 2) U
theorem kx_R.warm {g : Gx} {s U : State} (hW : s.WarmedH U.vm) (h : kx_R g s) : kx_R g U := ⟨h.1.warm hW, h.2.1.warm hW, h.2.2.1.warm hW, h.2.2.2.1.warm hW, h.2.2.2.2.1.warm hW, h.2.2.2.2.2.warm hW⟩
theorem kx_R.same {g : Gx} {u U : State} (hv : U.vm = u.vm) (h : kx_R g u) : kx_R g U := ⟨h.1.same hv, h.2.1.same hv, h.2.2.1.same hv, h.2.2.2.1.same hv, h.2.2.2.2.1.same hv, h.2.2.2.2.2.same hv⟩
abbrev kx_y1 : MethodName := ⟨"StripeShelf$Copied", "copied", "()Ljava/lang/Object;"⟩
abbrev kx_y2 : MethodName := ⟨"java/lang/Comparable", "compareTo", "(Ljava/lang/Object;)I"⟩
def kx_F (U : State) : Prop := va_Fw RX7 kx_y1 ⟨RX7, "copied", "()Ljava/lang/Object;"⟩ U ∧ va_Fw RX9 kx_y2 ⟨RX9, "compareTo", "(Ljava/lang/Object;)I"⟩ U
theorem kx_F.moved {u U : State} (hvm : u.vm.Alike U.vm) (h : kx_F u) : kx_F U := ⟨h.1.moved ⟨by decide, by decide⟩ hvm, h.2.moved ⟨by decide, by decide⟩ hvm⟩
def kx_K (g : Gx) (A : Nat → Prop) (s : State) : Prop := va_K g.1 vwCl (kx_t g) s ∧ kx_n s ∧ kx_S g A s s.heap ∧ kx_R g s ∧ kx_F s
theorem kx_K_warm {g : Gx} {A : Nat → Prop} {s U : State} {locs : List Loc} (hW : s.WarmedH U.vm) (hS : va_S A s.heap U.heap locs) (h : kx_K g A s) : kx_K g A U := ⟨va_K.moved hW.alike h.1, kx_n_warm hW h.2.1, kx_S.moved hW.alike (h.2.2.1.kept hS.2.1), h.2.2.2.1.warm hW, h.2.2.2.2.moved hW.alike⟩
theorem kx_K_call {g : Gx} {A : Nat → Prop} {U : State} {f : JFrame} {mk : MethodId} {a : Array Value} (h : kx_K g A U) : kx_K g A (U.calling f mk a) := ⟨va_K.moved (u := U) (U := U.calling f mk a) (Vm.Alike.refl U.vm) h.1, kx_n_same (s := U) (U := U.calling f mk a) rfl h.2.1, kx_S.moved (u := U) (U := U.calling f mk a) (Vm.Alike.refl U.vm) h.2.2.1, h.2.2.2.1.same (u := U) (U := U.calling f mk a) rfl, h.2.2.2.2.moved (u := U) (U := U.calling f mk a) (Vm.Alike.refl U.vm)⟩
def cx_P (g : Gx) (A : Nat → Prop) (ws : va_W) (av : List Value) : Array Value → State → Prop := va_Pc av (fun U => kx_K g A U ∧ va_P g.1 vwCl ws U.heap ∧ va_D A ws ∧ ∀ q, U.heap.size ≤ q → A q)
def cx_Qi (g : Gx) (A : Nat → Prop) (ws : va_W) (r : Int32) : Array Value → State → Outcome → State → Prop := va_Qi (fun (r1 : Int32) (_ : Unit) => r1 = r) (fun _ t => va_P g.1 vwCl ws t.heap ∧ va_D A ws) A
def cx_Qv (g : Gx) (A : Nat → Prop) (ws : va_W) : Array Value → State → Outcome → State → Prop := va_Qv (fun (_ : Unit) => True) (fun _ t => va_P g.1 vwCl ws t.heap ∧ va_D A ws) A
/-- the method y, at any caller's: from the world ws it answers r and leaves the world ws' -/
def cx_i (l : Launch) (y : MethodName) (cc : ByteArray) (nL : Nat) (ret : FieldType) (rm : Room) (av : List Value) (g : Gx) (A : Nat → Prop) (ws : va_W) (r : Int32) (ws' : va_W) (mc ms : Nat) : Prop :=
  Met l y (ws_ y cc nL (some ret)) rm (cx_P g A ws av) (cx_Qi g A ws' r) mc ms A
def cx_v (l : Launch) (y : MethodName) (cc : ByteArray) (nL : Nat) (rm : Room) (av : List Value) (g : Gx) (A : Nat → Prop) (ws : va_W) (ws' : va_W) (mc ms : Nat) : Prop :=
  Met l y (ws_ y cc nL none) rm (cx_P g A ws av) (cx_Qv g A ws') mc ms A
/-- what stands fast in a method's walk -/
def cx_E (p : Program) (m : MethodId) (meth : Method) (c : Code) (cc : ByteArray) (nL : Nat) (s : State) (args : Array Value) (own : String) (g : Gx) (A : Nat → Prop) : Prop :=
  CallFix p m c cc nL s args lw_all own ∧ meth.locks = false ∧ kx_K g A s ∧ ∀ q, s.heap.size ≤ q → A q
/-- the world as it is -/
def cx_W (g : Gx) (A : Nat → Prop) (s : State) (ws : va_W) (H : Heap) (locs : List Loc) : Prop := va_P g.1 vwCl ws H ∧ va_D A ws ∧ va_S A s.heap H locs
theorem cx_W.perm {g : Gx} {A : Nat → Prop} {s : State} {ws ws' : va_W} {H : Heap} {locs : List Loc} (h : cx_W g A s ws H locs) (hp : ws.Perm ws') : cx_W g A s ws' H locs := ⟨wx_P_perm hp h.1, wx_D_perm hp h.2.1, h.2.2⟩
theorem cx_blind {g : Gx} {A : Nat → Prop} {ws : va_W} {av : List Value} : FrameBlind (cx_P g A ws av) := by
  intro a U f mk q
  obtain ⟨q0, qK, qP, qD, qA⟩ := q
  exact ⟨q0, kx_K_call qK, qP, qD, qA⟩
theorem cx_pre {p : Program} {m : MethodId} {meth : Method} {c : Code} {cc : ByteArray} {nL : Nat} {s : State} {args : Array Value} {own : String} {g : Gx} {A : Nat → Prop} {ws : va_W} {H : Heap} {locs : List Loc} {av : List Value} (E : cx_E p m meth c cc nL s args own g A) (hw : cx_W g A s ws H locs) : ∀ U : State, U.heap = H → s.WarmedH U.vm → cx_P g A ws av av.toArray U := by
  intro U hU hW
  refine ⟨rfl, kx_K_warm hW (by rw [hU]; exact hw.2.2) E.2.2.1, by rw [hU]; exact hw.1, hw.2.1, fun q h => E.2.2.2 q ?_⟩
  rw [hU] at h
  exact Nat.le_trans hw.2.2.1 h
theorem cx_i_of {l : Launch} {y : MethodName} {cc : ByteArray} {nL : Nat} {ret : FieldType} {rm : Room} {av : List Value} {g : Gx} {A : Nat → Prop} {ws : va_W} {r : Int32} {ws' : va_W} {mc ms : Nat}
    (hy : plainName y.cls = true) (hsl : (lg_sl av).length ≤ nL)
    (body : ∀ (p : Program) (e : Env) (s : State) (m : MethodId) (args : Array Value) (below : List Frame) (meth : Method) (c : Code) (Q : State → Prop), cx_E p m meth c cc nL s args y.cls g A →
      (∀ (H : Heap) (locs : List Loc) (ls : Array Slot) (pc : Nat) (v : Int32), v = r → narrow ret (.int v) = .int v → cx_W g A s ws' H locs → decode cc pc = .ok (.ireturn, 1) → W p l e rm s m args below meth c H locs mc ms Q (F0 m pc ls [.int v])) →
      ∀ (H : Heap), cx_W g A s ws H [] → ∀ (ls : Array Slot), lv_has ls nL (lv_args 0 av) → W p l e rm s m args below meth c H [] 0 0 Q (F0 m 0 ls [])) :
    cx_i l y cc nL ret rm av g A ws r ws' mc ms := by
  refine Met.ofW (cc := cc) (maxL := nL) (ret := some ret) hy rfl ?_
  intro p e s m args below meth c s₁ B hml hv
  obtain ⟨rfl, hK, hP, hD, hA⟩ := hv
  have hts0 := atoms_spec (ws := ws_ y cc nL (some ret)) B.pre
  have hts : ∀ w ∈ lw_all, w.before av.toArray s = true := fun w h => hts0 w (List.mem_cons_of_mem _ h)
  have hl := lv_entry av hsl
  rw [lg_entry_eq]
  refine body p e s m av.toArray below meth c _ ⟨⟨B.exec, B.bytes, hml, findClass_of_methodNamed B.named, hts⟩, B.notSynchronized, hK, hA⟩ ?_ _ ⟨hP, hD, va_S.rf⟩ _ hl
  intro H locs ls pc v hvr hn hw hdg
  subst hvr
  have hlocks := B.notSynchronized
  exact W.zret B.exec B.bytes B.returns hn (fun t ht hW => ⟨⟨v, (), rfl, rfl, by rw [ht]; exact hw.1, hw.2.1⟩, hw.2.2.F ht⟩) hw.2.2.2.2 hdg
theorem cx_v_of {l : Launch} {y : MethodName} {cc : ByteArray} {nL : Nat} {rm : Room} {av : List Value} {g : Gx} {A : Nat → Prop} {ws : va_W} {ws' : va_W} {mc ms : Nat}
    (hy : plainName y.cls = true) (hsl : (lg_sl av).length ≤ nL)
    (body : ∀ (p : Program) (e : Env) (s : State) (m : MethodId) (args : Array Value) (below : List Frame) (meth : Method) (c : Code) (Q : State → Prop), cx_E p m meth c cc nL s args y.cls g A →
      (∀ (H : Heap) (locs : List Loc) (ls : Array Slot) (pc : Nat), cx_W g A s ws' H locs → decode cc pc = .ok (.return_, 1) → W p l e rm s m args below meth c H locs mc ms Q (F0 m pc ls [])) →
      ∀ (H : Heap), cx_W g A s ws H [] → ∀ (ls : Array Slot), lv_has ls nL (lv_args 0 av) → W p l e rm s m args below meth c H [] 0 0 Q (F0 m 0 ls [])) :
    cx_v l y cc nL rm av g A ws ws' mc ms := by
  refine Met.ofW (cc := cc) (maxL := nL) (ret := none) hy rfl ?_
  intro p e s m args below meth c s₁ B hml hv
  obtain ⟨rfl, hK, hP, hD, hA⟩ := hv
  have hts0 := atoms_spec (ws := ws_ y cc nL none) B.pre
  have hts : ∀ w ∈ lw_all, w.before av.toArray s = true := fun w h => hts0 w (List.mem_cons_of_mem _ h)
  have hl := lv_entry av hsl
  rw [lg_entry_eq]
  refine body p e s m av.toArray below meth c _ ⟨⟨B.exec, B.bytes, hml, findClass_of_methodNamed B.named, hts⟩, B.notSynchronized, hK, hA⟩ ?_ _ ⟨hP, hD, va_S.rf⟩ _ hl
  intro H locs ls pc hw hdg
  have hlocks := B.notSynchronized
  exact W.vret B.exec B.bytes B.returns (fun t ht hW => ⟨⟨(), rfl, trivial, by rw [ht]; exact hw.1, hw.2.1⟩, hw.2.2.F ht⟩) hw.2.2.2.2 hdg
section CX
variable {p : Program} {l : Launch} {e : Env} {R : Room} {s : State} {m : MethodId} {args : Array Value} {below : List Frame} {meth : Method} {c : Code} {H : Heap} {locs : List Loc} {cells slots : Nat} {Q : State → Prop}
variable {cc : ByteArray} {nL : Nat} {own : String} {g : Gx} {A : Nat → Prop} {ws ws' : va_W} {ls : Array Slot} {pc : Nat} {st rest : List Value}
theorem cx_cVi {y : MethodName} {bc : ByteArray} {nL2 idx n mc ms : Nat} {ret : FieldType} {rm : Room} {b : Nat} {As : List Value} {r : Int32} (E : cx_E p m meth c cc nL s args own g A) (M : cx_i l y bc nL2 ret rm (.ref b :: As) g A ws r ws' mc ms) (cw : CallW R s args own y.cls idx y bc nL2 (some ret) (ws_ y bc nL2 (some ret)) rm mc ms n)
    (q0 ci : Nat) {q : vw_C} {fs : List Value} (he : ws[q0]? = some (b, .inr (ci, fs))) (hc : vwCl[ci]? = some q) (hq : q.1 = y.cls) (hw : cx_W g A s ws H locs) (hn : As.length = n) (hl : ls.size = nL) (hst : st = As.reverse ++ .ref b :: rest) (hcat : (rest.map fun v => v.category).sum ≤ 8) (hdg : decode cc pc = .ok (.invokevirtual idx, 3)) (hf : cells + mc ≤ R.cells ∧ slots + ms ≤ R.slots)
    (kk : ∀ (H1 : Heap) (locs1 : List Loc), cx_W g A s ws' H1 locs1 → W p l e R s m args below meth c H1 locs1 (cells + mc) (slots + ms) Q (F0 m (pc + 3) ls (.int r :: rest))) : W p l e R s m args below meth c H locs cells slots Q (F0 m pc ls st) := by
  refine va_calli (va_runV (As := As) (rest := rest) E.1 M cw ⟨cx_blind, by rw [← hq]; exact va_recv E.2.2.1.1 hw.1 hc he, cx_pre E hw⟩ rfl hn hl hst (lv_room hcat) hdg hf) hw.2.2 (fun q _ h => h) (fun q h => h) (fun r1 u t H1 locs1 ht hvm hp hB hz hk hS => ?_)
  subst hp
  obtain ⟨hP1, hD1⟩ := hB
  rw [ht] at hP1
  exact kk H1 locs1 ⟨hP1, hD1, hS⟩
theorem cx_cVv {y : MethodName} {bc : ByteArray} {nL2 idx n mc ms : Nat} {rm : Room} {b : Nat} {As : List Value} (E : cx_E p m meth c cc nL s args own g A) (M : cx_v l y bc nL2 rm (.ref b :: As) g A ws ws' mc ms) (cw : CallW R s args own y.cls idx y bc nL2 none (ws_ y bc nL2 none) rm mc ms n)
    (q0 ci : Nat) {q : vw_C} {fs : List Value} (he : ws[q0]? = some (b, .inr (ci, fs))) (hc : vwCl[ci]? = some q) (hq : q.1 = y.cls) (hw : cx_W g A s ws H locs) (hn : As.length = n) (hl : ls.size = nL) (hst : st = As.reverse ++ .ref b :: rest) (hcat : (rest.map fun v => v.category).sum ≤ 8) (hdg : decode cc pc = .ok (.invokevirtual idx, 3)) (hf : cells + mc ≤ R.cells ∧ slots + ms ≤ R.slots)
    (kk : ∀ (H1 : Heap) (locs1 : List Loc), cx_W g A s ws' H1 locs1 → W p l e R s m args below meth c H1 locs1 (cells + mc) (slots + ms) Q (F0 m (pc + 3) ls rest)) : W p l e R s m args below meth c H locs cells slots Q (F0 m pc ls st) := by
  refine va_callv (va_runV (As := As) (rest := rest) E.1 M cw ⟨cx_blind, by rw [← hq]; exact va_recv E.2.2.1.1 hw.1 hc he, cx_pre E hw⟩ rfl hn hl hst (lv_room hcat) hdg hf) hw.2.2 (fun q _ h => h) (fun q h => h) (fun u t H1 locs1 ht hvm hp hB hz hk hS => ?_)
  obtain ⟨hP1, hD1⟩ := hB
  rw [ht] at hP1
  exact kk H1 locs1 ⟨hP1, hD1, hS⟩
theorem cx_cRi {y : MethodName} {bc : ByteArray} {nL2 idx n mc ms : Nat} {ret : FieldType} {rm : Room} {b : Nat} {As : List Value} {r : Int32} (E : cx_E p m meth c cc nL s args own g A) (M : cx_i l y bc nL2 ret rm (.ref b :: As) g A ws r ws' mc ms) (cw : CallW R s args own y.cls idx y bc nL2 (some ret) (ws_ y bc nL2 (some ret)) rm mc ms n)
    (hrec : ∃ cellB : Cell, H[b]? = some cellB ∧ cellB.vm.isStatics = false ∧ s.vm.findClass y.cls = some cellB.cls) (hw : cx_W g A s ws H locs) (hn : As.length = n) (hl : ls.size = nL) (hst : st = As.reverse ++ .ref b :: rest) (hcat : (rest.map fun v => v.category).sum ≤ 8) (hdg : decode cc pc = .ok (.invokevirtual idx, 3)) (hf : cells + mc ≤ R.cells ∧ slots + ms ≤ R.slots)
    (kk : ∀ (H1 : Heap) (locs1 : List Loc), cx_W g A s ws' H1 locs1 → W p l e R s m args below meth c H1 locs1 (cells + mc) (slots + ms) Q (F0 m (pc + 3) ls (.int r :: rest))) : W p l e R s m args below meth c H locs cells slots Q (F0 m pc ls st) := by
  refine va_calli (va_runV (As := As) (rest := rest) E.1 M cw ⟨cx_blind, hrec, cx_pre E hw⟩ rfl hn hl hst (lv_room hcat) hdg hf) hw.2.2 (fun q _ h => h) (fun q h => h) (fun r1 u t H1 locs1 ht hvm hp hB hz hk hS => ?_)
  subst hp
  obtain ⟨hP1, hD1⟩ := hB
  rw [ht] at hP1
  exact kk H1 locs1 ⟨hP1, hD1, hS⟩
theorem cx_cSi {y : MethodName} {bc : ByteArray} {nL2 idx n mc ms : Nat} {ret : FieldType} {rm : Room} {As : List Value} {r : Int32} (E : cx_E p m meth c cc nL s args own g A) (M : cx_i l y bc nL2 ret rm As g A ws r ws' mc ms) (cw : CallB R s args own idx y bc nL2 (some ret) (ws_ y bc nL2 (some ret)) rm mc ms n ∧ (Cond.static y).before args s = true)
    (hw : cx_W g A s ws H locs) (hn : As.length = n) (hl : ls.size = nL) (hst : st = As.reverse ++ rest) (hcat : (rest.map fun v => v.category).sum ≤ 8) (hdg : decode cc pc = .ok (.invokestatic idx, 3)) (hf : cells + mc ≤ R.cells ∧ slots + ms ≤ R.slots)
    (kk : ∀ (H1 : Heap) (locs1 : List Loc), cx_W g A s ws' H1 locs1 → W p l e R s m args below meth c H1 locs1 (cells + mc) (slots + ms) Q (F0 m (pc + 3) ls (.int r :: rest))) : W p l e R s m args below meth c H locs cells slots Q (F0 m pc ls st) := by
  refine va_calli (va_runS (As := As) (rest := rest) E.1 M cw ⟨cx_blind, cx_pre E hw⟩ rfl hn hl hst (lv_room hcat) hdg hf) hw.2.2 (fun q _ h => h) (fun q h => h) (fun r1 u t H1 locs1 ht hvm hp hB hz hk hS => ?_)
  subst hp
  obtain ⟨hP1, hD1⟩ := hB
  rw [ht] at hP1
  exact kk H1 locs1 ⟨hP1, hD1, hS⟩
theorem cx_cSv {y : MethodName} {bc : ByteArray} {nL2 idx n mc ms : Nat} {rm : Room} {As : List Value} (E : cx_E p m meth c cc nL s args own g A) (M : cx_v l y bc nL2 rm As g A ws ws' mc ms) (cw : CallB R s args own idx y bc nL2 none (ws_ y bc nL2 none) rm mc ms n ∧ (Cond.static y).before args s = true)
    (hw : cx_W g A s ws H locs) (hn : As.length = n) (hl : ls.size = nL) (hst : st = As.reverse ++ rest) (hcat : (rest.map fun v => v.category).sum ≤ 8) (hdg : decode cc pc = .ok (.invokestatic idx, 3)) (hf : cells + mc ≤ R.cells ∧ slots + ms ≤ R.slots)
    (kk : ∀ (H1 : Heap) (locs1 : List Loc), cx_W g A s ws' H1 locs1 → W p l e R s m args below meth c H1 locs1 (cells + mc) (slots + ms) Q (F0 m (pc + 3) ls rest)) : W p l e R s m args below meth c H locs cells slots Q (F0 m pc ls st) := by
  refine va_callv (va_runS (As := As) (rest := rest) E.1 M cw ⟨cx_blind, cx_pre E hw⟩ rfl hn hl hst (lv_room hcat) hdg hf) hw.2.2 (fun q _ h => h) (fun q h => h) (fun u t H1 locs1 ht hvm hp hB hz hk hS => ?_)
  obtain ⟨hP1, hD1⟩ := hB
  rw [ht] at hP1
  exact kk H1 locs1 ⟨hP1, hD1, hS⟩
theorem cx_iinc (hx : p.tables.exec = Jvm.exec) (hb : c.code = cc) {i k : Nat} {n : Int} {x v z : Int32} {lv lv' : List (Nat × Value)} (hdg : decode cc pc = .ok (.iinc i n, 3)) (h : lv_has ls nL lv) (hk : lv[k]? = some (i, .int x)) (hz : Int32.ofInt n = z) (hv : v = x + z) (hn : i < nL) (hl : (i, Value.int v) :: lv.filter (fun q => !(q.1 == i) && !(q.1 + 1 == i && q.2.category == 2)) = lv')
    (kk : ∀ ls' : Array Slot, lv_has ls' nL lv' → W p l e R s m args below meth c H locs cells slots Q (F0 m (pc + 3) ls' rest)) : W p l e R s m args below meth c H locs cells slots Q (F0 m pc ls rest) :=
  lv_iinc hx hb hdg h hk (by rw [hz, hv]) hn hl kk
end CX
/-! texts -/
abbrev kS (g : Gx) (k : Nat) : Nat := g.2.2.2.2.1 k
abbrev kV (g : Gx) (k : Nat) : Nat := g.2.2.2.2.2 k
def kL (k : Nat) : Nat := ([5, 2, 9] : List Nat).getD k 0
def kB (k j : Nat) : Int32 := (kx_bytes.getD k []).getD j 0
def fx_ch (y : Int32) : Bool := decide ((y.toUInt32 % 65536).toInt32 = y)
theorem fx_ch_nar {y : Int32} (h : fx_ch y = true) : narrow .char (.int y) = .int y := by
  have := of_decide_eq_true h
  rw [← this]
  exact pk_nc _
theorem fx_no {α : Type} {r : α} {C : Prop} (h : (none : Option α) = some r) : C := by cases h
section KS
variable {p : Program} {l : Launch} {e : Env} {R : Room} {s : State} {m : MethodId} {args : Array Value} {below : List Frame} {meth : Method} {c : Code} {H : Heap} {locs : List Loc} {cells slots : Nat} {Q : State → Prop}
variable {cc : ByteArray} {nL : Nat} {own : String} {g : Gx} {A : Nat → Prop} {ws : va_W} {ls : Array Slot} {pc : Nat} {rest : List Value} {k : Nat}
theorem ks_recv (E : cx_E p m meth c cc nL s args own g A) (hk : k < 3) (hw : cx_W g A s ws H locs) : ∃ cellB : Cell, H[kS g k]? = some cellB ∧ cellB.vm.isStatics = false ∧ s.vm.findClass "java/lang/String" = some cellB.cls := vk_recv E.2.2.1.2.2.1.1 hk hw.2.2
theorem ks_len (E : cx_E p m meth c cc nL s args own g A) (hk : k < 3) (hw : cx_W g A s ws H locs) (hdg : decode cc pc = .ok (.arraylength, 1)) (kk : W p l e R s m args below meth c H locs cells slots Q (F0 m (pc + 1) ls (.int (nI (kL k)) :: rest))) : W p l e R s m args below meth c H locs cells slots Q (F0 m pc ls (.ref (kV g k) :: rest)) :=
  va_tlen E.1.1 E.1.2.1 (E.2.2.1.2.2.1.1.1 k hk).2.2.2 hw.2.2 rfl hdg kk
theorem ks_ld (E : cx_E p m meth c cc nL s args own g A) (hk : k < 3) (hw : cx_W g A s ws H locs) {i : Int32} (hin : vp_in i (kL k)) (hdg : decode cc pc = .ok (.baload, 1)) (kk : W p l e R s m args below meth c H locs cells slots Q (F0 m (pc + 1) ls (.int (kB k i.toNatClampNeg) :: rest))) : W p l e R s m args below meth c H locs cells slots Q (F0 m pc ls (.int i :: .ref (kV g k) :: rest)) :=
  va_tb E.1.1 E.1.2.1 (E.2.2.1.2.2.1.1.1 k hk).2.2.2 hw.2.2 hin rfl hdg kk
theorem ks_value (E : cx_E p m meth c cc nL s args RJ2 g A) (hk : k < 3) (hw : cx_W g A s ws H locs) (hdg : decode cc pc = .ok (.getfield 9, 3)) (kk : W p l e R s m args below meth c H locs cells slots Q (F0 m (pc + 3) ls (.ref (kV g k) :: rest))) : W p l e R s m args below meth c H locs cells slots Q (F0 m pc ls (.ref (kS g k) :: rest)) :=
  vk_getf E.1.1 E.1.2.1 (E.2.2.1.2.2.1.1.1 k hk).2.2.1 hw.2.2 E.1.2.2.2.1 (E.1.2.2.2.2 _ q1848) (fun _ h => h) hdg kk
theorem ks_coder (E : cx_E p m meth c cc nL s args RJ2 g A) (hk : k < 3) (hw : cx_W g A s ws H locs) (hdg : decode cc pc = .ok (.getfield 15, 3)) (kk : W p l e R s m args below meth c H locs cells slots Q (F0 m (pc + 3) ls (.int (0 : Int32) :: rest))) : W p l e R s m args below meth c H locs cells slots Q (F0 m pc ls (.ref (kS g k) :: rest)) :=
  vk_getf E.1.1 E.1.2.1 (E.2.2.1.2.2.1.1.1 k hk).2.1 hw.2.2 E.1.2.2.2.1 (E.1.2.2.2.2 _ q1849) (fun _ h => h) hdg kk
theorem ks_cs (E : cx_E p m meth c cc nL s args RJ2 g A) (hw : cx_W g A s ws H locs) (hdg : decode cc pc = .ok (.getstatic 38, 3)) (kk : W p l e R s m args below meth c H locs cells slots Q (F0 m (pc + 3) ls (.int (1 : Int32) :: rest))) : W p l e R s m args below meth c H locs cells slots Q (F0 m pc ls rest) :=
  va_gets E.1.1 E.1.2.1 E.2.2.1.2.2.1.2.1 hw.2.2 E.1.2.2.2.1 (E.1.2.2.2.2 _ q204) (fun _ h => h) hdg kk
end KS
