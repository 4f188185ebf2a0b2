/-! LINKED ROWS as lists -/
theorem cx_G.mono {l : Launch} {y : MethodName} {cc : ByteArray} {nL : Nat} {ret : Option FieldType} {rm : Room} {av : List Value} {g : Gx} {A : Nat → Prop} {wsA wsB : va_W} {ζA ζB : Type} {okA : ζA → Prop} {okB : ζB → Prop} {valA : ζA → Option Value} {valB : ζB → Option Value} {wA : ζA → va_W} {wB : ζB → va_W} {mc ms : Nat}
    (h : cx_G l y cc nL ret rm av g A wsB okB valB wB mc ms) (h1 : wsA.Perm wsB) (f : ζB → ζA) (hok : ∀ z, okB z → okA (f z)) (hval : ∀ z, okB z → valA (f z) = valB z)
    (hw : ∀ z H, okB z → va_P g.1 vwCl (wB z) H → va_D A (wB z) → va_P g.1 vwCl (wA (f z)) H ∧ va_D A (wA (f z))) : cx_G l y cc nL ret rm av g A wsA okA valA wA mc ms := by
  intro p e a b c s m args below hf hs hP hK
  obtain ⟨q0, qK, qP, qD, qA⟩ := hP
  obtain ⟨n, o, g1, g2, g3, ⟨⟨z, z1, z2, z3, z4⟩, z5⟩, g4⟩ := h p e a b c s m args below hf hs ⟨q0, qK, wx_P_perm h1 qP, wx_D_perm h1 qD, qA⟩ hK
  obtain ⟨k1, k2⟩ := hw z _ z1 z3 z4
  exact ⟨n, o, g1, g2, g3, ⟨⟨f z, hok z z1, by rw [hval z z1]; exact z2, k1, k2⟩, z5⟩, g4⟩
theorem cx_G.perm {l : Launch} {y : MethodName} {cc : ByteArray} {nL : Nat} {ret : Option FieldType} {rm : Room} {av : List Value} {g : Gx} {A : Nat → Prop} {wsA wsB : va_W} {ζ : Type} {ok : ζ → Prop} {val : ζ → Option Value} {wA wB : ζ → va_W} {mc ms : Nat}
    (h : cx_G l y cc nL ret rm av g A wsB ok val wB mc ms) (h1 : wsA.Perm wsB) (h2 : ∀ z, (wB z).Perm (wA z)) : cx_G l y cc nL ret rm av g A wsA ok val wA mc ms :=
  h.mono h1 id (fun _ q => q) (fun _ _ => rfl) (fun z _ _ q1 q2 => ⟨wx_P_perm (h2 z) q1, wx_D_perm (h2 z) q2⟩)
theorem wx_drop_P {D : va_G} {cl : List vw_C} {w1 w2 : va_W} {H : Heap} (h : va_P D cl (w1 ++ w2) H) : va_P D cl w2 H := wx_mem.mpr fun q hq => wx_mem.mp h q (List.mem_append_right _ hq)
theorem wx_drop_D {A : Nat → Prop} {w1 w2 : va_W} (h : va_D A (w1 ++ w2)) : va_D A w2 := by
  obtain ⟨h1, h2⟩ := wx_nd.mp h
  refine wx_nd.mpr ⟨?_, fun q hq => h2 q (List.mem_append_right _ hq)⟩
  rw [List.map_append] at h1
  exact (List.nodup_append.mp h1).2.1
abbrev Lk : Type := List (Nat × Nat)
def lk_h (n : Option Nat) : Lk → Option Nat
  | [] => n
  | q :: _ => some q.1
def lk_l (p : Option Nat) : Lk → Option Nat
  | [] => p
  | q :: T => lk_l (some q.1) T
def lkS (p n : Option Nat) : Lk → va_W
  | [] => []
  | q :: T => (q.1, .inr (6, [.ref q.2, va_rf p, va_rf (lk_h n T)])) :: lkS (some q.1) n T
def rwC (r : Nat) (L : Lk) : Nat × va_E := (r, .inr (5, [va_rf (lk_h none L), va_rf (lk_l none L), .int (nI L.length)]))
def rwW (r : Nat) (L : Lk) : va_W := rwC r L :: lkS none none L
theorem lk_h_app (n : Option Nat) (L M : Lk) : lk_h n (L ++ M) = lk_h (lk_h n M) L := by cases L <;> rfl
theorem lk_l_app (p : Option Nat) (L M : Lk) : lk_l p (L ++ M) = lk_l (lk_l p L) M := by
  induction L generalizing p with
  | nil => rfl
  | cons q T ih => exact ih _
theorem lkS_app (p n : Option Nat) (L M : Lk) : lkS p n (L ++ M) = lkS p (lk_h n M) L ++ lkS (lk_l p L) n M := by
  induction L generalizing p with
  | nil => rfl
  | cons q T ih =>
    show (q.1, .inr (6, [.ref q.2, va_rf p, va_rf (lk_h n (T ++ M))])) :: lkS (some q.1) n (T ++ M) = _
    rw [ih, lk_h_app]
    rfl
theorem lk_h_last (L : Lk) (q : Nat × Nat) : ∃ a, lk_h none (L ++ [q]) = some a := by cases L <;> exact ⟨_, rfl⟩
/-- a row's new last one -/
theorem cx_adds (l : Launch) (g : Gx) (A : Nat → Prop) (r i : Nat) (L : Lk) (X : va_W) :
    cx_G l yX5_adds cX5_adds 3 none rmX5_adds_0 [.ref r, .ref i] g A (rwW r L ++ X) (ζ := Nat) (fun _ => True) (fun _ => none) (fun q => rwW r (L ++ [(q, i)]) ++ X) 1 3 := by
  rcases List.eq_nil_or_concat L with h | ⟨L0, b, h⟩
  · subst h
    exact (mX5_adds_0 l g A r i (nI 0) X).perm (List.Perm.refl _) (fun q => List.Perm.refl _)
  · rw [List.concat_eq_append] at h
    subst h
    obtain ⟨a, j⟩ := b
    obtain ⟨x, hx⟩ := lk_h_last L0 (a, j)
    have e1 : lk_l none (L0 ++ [(a, j)]) = some a := by rw [lk_l_app]; rfl
    have hx2 : ∀ q : Nat, lk_h none ((L0 ++ [(a, j)]) ++ [(q, i)]) = some x := by
      intro q
      rw [lk_h_app, lk_h_app]
      rw [lk_h_app] at hx
      cases L0 <;> exact hx
    refine (mX5_adds_1 l g A r a i (.ref x) (.ref j) (va_rf (lk_l none L0)) .null (nI (L0 ++ [(a, j)]).length) (lkS none (some a) L0 ++ X)).perm ?_ ?_
    · show (rwC r (L0 ++ [(a, j)]) :: (lkS none none (L0 ++ [(a, j)]) ++ X)).Perm _
      have e2 : rwC r (L0 ++ [(a, j)]) = (r, .inr (5, [.ref x, .ref a, .int (nI (L0 ++ [(a, j)]).length)])) := by
        unfold rwC
        rw [hx, e1]
        rfl
      rw [lkS_app, e2, List.append_assoc (lkS none _ L0)]
      exact List.Perm.cons _ (List.perm_append_comm_assoc (lkS none (some a) L0) [(a, .inr (6, [.ref j, va_rf (lk_l none L0), .null]))] X)
    · intro q
      show List.Perm _ (rwC r ((L0 ++ [(a, j)]) ++ [(q, i)]) :: (lkS none none ((L0 ++ [(a, j)]) ++ [(q, i)]) ++ X))
      have e2 : rwC r ((L0 ++ [(a, j)]) ++ [(q, i)]) = (r, .inr (5, [.ref x, .ref q, .int (nI (L0 ++ [(a, j)]).length + (1 : Int32))])) := by
        unfold rwC
        rw [hx2 q, lk_l_app, nI_1, List.length_append (bs := [(q, i)])]
        rfl
      have e3 : lkS none none ((L0 ++ [(a, j)]) ++ [(q, i)]) = lkS none (some a) L0 ++ [(a, .inr (6, [.ref j, va_rf (lk_l none L0), .ref q])), (q, .inr (6, [.ref i, .ref a, .null]))] := by
        rw [List.append_assoc, lkS_app]
        rfl
      rw [e2, e3, List.append_assoc (lkS none (some a) L0)]
      exact List.Perm.cons _ (List.perm_append_comm_assoc ([(a, .inr (6, [.ref j, va_rf (lk_l none L0), .ref q])), (q, .inr (6, [.ref i, .ref a, .null]))] : va_W) (lkS none (some a) L0) X)
/-- a row's last one is taken off -/
theorem cx_takes (l : Launch) (g : Gx) (A : Nat → Prop) (r a i : Nat) (L : Lk) (X : va_W) :
    cx_G l yX5_takesLast cX5_takesLast 2 (some (.object "java/lang/Object")) rmX5_takesLast_1 [.ref r] g A (rwW r (L ++ [(a, i)]) ++ X) (ζ := Unit) (fun _ => True) (fun _ => some (.ref i)) (fun _ => rwW r L ++ X) 0 0 := by
  rcases List.eq_nil_or_concat L with h | ⟨L0, b, h⟩
  · subst h
    refine (mX5_takesLast_1 l g A r a i (.ref a) .null (nI 1) X).mono (List.Perm.refl _) id (fun _ q => q) (fun _ _ => rfl) (fun z H _ q1 q2 => ?_)
    have hp : ((r, .inr (5, [.null, .null, .int (nI 1 - (1 : Int32))])) :: (a, .inr (6, [.ref i, .null, .null])) :: X : va_W).Perm ([(a, .inr (6, [.ref i, .null, .null]))] ++ (rwW r [] ++ X)) := List.Perm.swap _ _ _
    exact ⟨wx_drop_P (wx_P_perm hp q1), wx_drop_D (wx_D_perm hp q2)⟩
  · rw [List.concat_eq_append] at h
    subst h
    obtain ⟨b, j⟩ := b
    obtain ⟨x, hx⟩ := lk_h_last L0 (b, j)
    have hx2 : lk_h none ((L0 ++ [(b, j)]) ++ [(a, i)]) = some x := by
      rw [lk_h_app, lk_h_app]
      rw [lk_h_app] at hx
      cases L0 <;> exact hx
    refine (mX5_takesLast_2 l g A r a b i (.ref x) .null (.ref j) (va_rf (lk_l none L0)) (.ref a) (nI ((L0 ++ [(b, j)]) ++ [(a, i)]).length) (lkS none (some b) L0 ++ X)).mono ?_ id (fun _ q => q) (fun _ _ => rfl) (fun z H _ q1 q2 => ?_)
    · show (rwC r ((L0 ++ [(b, j)]) ++ [(a, i)]) :: (lkS none none ((L0 ++ [(b, j)]) ++ [(a, i)]) ++ X)).Perm _
      have e3 : lkS none none ((L0 ++ [(b, j)]) ++ [(a, i)]) = lkS none (some b) L0 ++ [(b, .inr (6, [.ref j, va_rf (lk_l none L0), .ref a])), (a, .inr (6, [.ref i, .ref b, .null]))] := by
        rw [List.append_assoc, lkS_app]
        rfl
      have e2 : rwC r ((L0 ++ [(b, j)]) ++ [(a, i)]) = (r, .inr (5, [.ref x, .ref a, .int (nI ((L0 ++ [(b, j)]) ++ [(a, i)]).length)])) := by
        unfold rwC
        rw [hx2, lk_l_app]
        rfl
      rw [e2, e3, List.append_assoc (lkS none (some b) L0)]
      exact List.Perm.cons _ ((List.perm_append_comm_assoc _ _ _).trans (List.Perm.swap _ _ _))
    · have e2 : rwC r (L0 ++ [(b, j)]) = (r, .inr (5, [.ref x, .ref b, .int (nI ((L0 ++ [(b, j)]) ++ [(a, i)]).length - (1 : Int32))])) := by
        unfold rwC
        rw [hx, lk_l_app, List.length_append (bs := [(a, i)])]
        show _ = (r, Sum.inr (5, [_, _, Value.int (nI ((L0 ++ [(b, j)]).length + 1) - 1)]))
        rw [nI_pred]
        rfl
      have e3 : lkS none none (L0 ++ [(b, j)]) = lkS none (some b) L0 ++ [(b, .inr (6, [.ref j, va_rf (lk_l none L0), .null]))] := by
        rw [lkS_app]
        rfl
      have hp : ((r, .inr (5, [.ref x, .ref b, .int (nI ((L0 ++ [(b, j)]) ++ [(a, i)]).length - (1 : Int32))])) :: (a, .inr (6, [.ref i, .ref b, .null])) :: (b, .inr (6, [.ref j, va_rf (lk_l none L0), .null])) :: (lkS none (some b) L0 ++ X) : va_W).Perm ([(a, .inr (6, [.ref i, .ref b, .null]))] ++ (rwW r (L0 ++ [(b, j)]) ++ X)) := by
        refine (List.Perm.swap _ _ _).trans (List.Perm.cons _ ?_)
        show List.Perm _ (rwC r (L0 ++ [(b, j)]) :: (lkS none none (L0 ++ [(b, j)]) ++ X))
        rw [e2, e3, List.append_assoc (lkS none (some b) L0)]
        exact List.Perm.cons _ (List.perm_append_comm_assoc ([(b, .inr (6, [.ref j, va_rf (lk_l none L0), .null]))] : va_W) (lkS none (some b) L0) X)
      exact ⟨wx_drop_P (wx_P_perm hp q1), wx_drop_D (wx_D_perm hp q2)⟩
/-- a row's first one is dropped -/
theorem cx_drops (l : Launch) (g : Gx) (A : Nat → Prop) (r a i : Nat) (L : Lk) (X : va_W) :
    cx_G l yX5_dropsFirst cX5_dropsFirst 1 none rmX5_dropsFirst_1 [.ref r] g A (rwW r ((a, i) :: L) ++ X) (ζ := Unit) (fun _ => True) (fun _ => none) (fun _ => rwW r L ++ X) 0 0 := by
  cases L with
  | nil =>
    refine (mX5_dropsFirst_1 l g A r a (.ref a) (.ref i) .null (nI 1) X).mono (List.Perm.refl _) id (fun _ q => q) (fun _ _ => rfl) (fun z H _ q1 q2 => ?_)
    have hp : ((r, .inr (5, [.null, .null, .int (nI 1 - (1 : Int32))])) :: (a, .inr (6, [.ref i, .null, .null])) :: X : va_W).Perm ([(a, .inr (6, [.ref i, .null, .null]))] ++ (rwW r [] ++ X)) := List.Perm.swap _ _ _
    exact ⟨wx_drop_P (wx_P_perm hp q1), wx_drop_D (wx_D_perm hp q2)⟩
  | cons b T =>
    obtain ⟨b, j⟩ := b
    have e1 : lk_l none ((a, i) :: (b, j) :: T) = lk_l none ((b, j) :: T) := rfl
    obtain ⟨y, hy⟩ : ∃ y, lk_l none ((b, j) :: T) = some y := by
      have : ∀ (T : Lk) (p : Nat), ∃ y, lk_l (some p) T = some y := by
        intro T
        induction T with
        | nil => exact fun p => ⟨p, rfl⟩
        | cons q U ih => exact fun p => ih q.1
      exact this T b
    refine (mX5_dropsFirst_2 l g A r a b (.ref y) (.ref i) .null (.ref j) (.ref a) (va_rf (lk_h none T)) (nI (T.length + 1 + 1)) (lkS (some b) none T ++ X)).mono ?_ id (fun _ q => q) (fun _ _ => rfl) (fun z H _ q1 q2 => ?_)
    · show (rwC r ((a, i) :: (b, j) :: T) :: _).Perm _
      have e2 : rwC r ((a, i) :: (b, j) :: T) = (r, .inr (5, [.ref a, .ref y, .int (nI (T.length + 1 + 1))])) := by
        unfold rwC
        rw [e1, hy]
        rfl
      rw [e2]
      exact List.Perm.refl _
    · have e2 : rwC r ((b, j) :: T) = (r, .inr (5, [.ref b, .ref y, .int (nI (T.length + 1 + 1) - (1 : Int32))])) := by
        unfold rwC
        rw [hy, nI_pred]
        rfl
      have hp : ((r, .inr (5, [.ref b, .ref y, .int (nI (T.length + 1 + 1) - (1 : Int32))])) :: (a, .inr (6, [.ref i, .null, .ref b])) :: (b, .inr (6, [.ref j, .null, va_rf (lk_h none T)])) :: (lkS (some b) none T ++ X) : va_W).Perm ([(a, .inr (6, [.ref i, .null, .ref b]))] ++ (rwW r ((b, j) :: T) ++ X)) := by
        refine (List.Perm.swap _ _ _).trans (List.Perm.cons _ ?_)
        show List.Perm _ (rwC r ((b, j) :: T) :: _)
        rw [e2]
        exact List.Perm.refl _
      exact ⟨wx_drop_P (wx_P_perm hp q1), wx_drop_D (wx_D_perm hp q2)⟩
/-- a row is emptied -/
theorem cx_empties (l : Launch) (g : Gx) (A : Nat → Prop) (r : Nat) (L : Lk) (X : va_W) :
    cx_G l yX5_empties cX5_empties 1 none rmX5_empties [.ref r] g A (rwW r L ++ X) (ζ := Unit) (fun _ => True) (fun _ => none) (fun _ => rwW r [] ++ X) 0 0 := by
  refine (mX5_empties l g A r (va_rf (lk_h none L)) (va_rf (lk_l none L)) (.int (nI L.length)) (lkS none none L ++ X)).mono (List.Perm.refl _) id (fun _ q => q) (fun _ _ => rfl) (fun z H _ q1 q2 => ?_)
  have hp : ((r, .inr (5, [.null, .null, .int (0 : Int32)])) :: (lkS none none L ++ X) : va_W).Perm (lkS none none L ++ (rwW r [] ++ X)) := (List.perm_append_comm_assoc ([(r, .inr (5, [.null, .null, .int (0 : Int32)]))] : va_W) _ _)
  exact ⟨wx_drop_P (wx_P_perm hp q1), wx_drop_D (wx_D_perm hp q2)⟩
theorem lk_get {p n : Option Nat} {L1 L2 : Lk} {q : Nat × Nat} : (q.1, .inr (6, [.ref q.2, va_rf (lk_l p L1), va_rf (lk_h n L2)])) ∈ lkS p n (L1 ++ q :: L2) := by
  rw [lkS_app]
  exact List.mem_append_right _ List.mem_cons_self
