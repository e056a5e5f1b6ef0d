theorem ga_nq (n : String) (x : Option Nat) : narrow (.object n) (va_rf x) = va_rf x := by cases x <;> rfl
theorem ga_fq (n : String) (x : Option Nat) : fits (.object n) (va_rf x) = true := by cases x <;> rfl
theorem ga_nq' (n : FieldType) (x : Option Nat) : narrow (.array n) (va_rf x) = va_rf x := by cases x <;> rfl
theorem ga_fq' (n : FieldType) (x : Option Nat) : fits (.array n) (va_rf x) = true := by cases x <;> rfl
theorem ga_df_X1 : ∀ j, j < 8 → defaultValue (tyX1 j) = vp_V [va_rf none, va_rf none, va_rf none, va_rf none, va_rf none, .int 0, va_rf none, va_rf none] j := by
  intro j hj
  match j, hj with
  | 0, _ => rfl
  | 1, _ => rfl
  | 2, _ => rfl
  | 3, _ => rfl
  | 4, _ => rfl
  | 5, _ => rfl
  | 6, _ => rfl
  | 7, _ => rfl
  | j + 8, h => exact absurd h (by omega)
theorem ga_df_X2 : ∀ j, j < 10 → defaultValue (tyX2 j) = vp_V [va_rf none, va_rf none, va_rf none, va_rf none, va_rf none, va_rf none, .int 0, .int 0, .int 0, .int 0] j := by
  intro j hj
  match j, hj with
  | 0, _ => rfl
  | 1, _ => rfl
  | 2, _ => rfl
  | 3, _ => rfl
  | 4, _ => rfl
  | 5, _ => rfl
  | 6, _ => rfl
  | 7, _ => rfl
  | 8, _ => rfl
  | 9, _ => rfl
  | j + 10, h => exact absurd h (by omega)
theorem ga_df_X3 : ∀ j, j < 6 → defaultValue (tyX3 j) = vp_V [va_rf none, .int 0, .int 0, .int 0, .int 0, .int 0] j := by
  intro j hj
  match j, hj with
  | 0, _ => rfl
  | 1, _ => rfl
  | 2, _ => rfl
  | 3, _ => rfl
  | 4, _ => rfl
  | 5, _ => rfl
  | j + 6, h => exact absurd h (by omega)
theorem ga_df_X4 : ∀ j, j < 1 → defaultValue (tyX4 j) = vp_V [va_rf none] j := by
  intro j hj
  match j, hj with
  | 0, _ => rfl
  | j + 1, h => exact absurd h (by omega)
theorem ga_df_X6 : ∀ j, j < 5 → defaultValue (tyX6 j) = vp_V [.int 0, va_rf none, .int 0, .int 0, .int 0] j := by
  intro j hj
  match j, hj with
  | 0, _ => rfl
  | 1, _ => rfl
  | 2, _ => rfl
  | 3, _ => rfl
  | 4, _ => rfl
  | j + 5, h => exact absurd h (by omega)
theorem ga_df_X7 : ∀ j, j < 2 → defaultValue (tyX7 j) = vp_V [.int 0, .int 0] j := by
  intro j hj
  match j, hj with
  | 0, _ => rfl
  | 1, _ => rfl
  | j + 2, h => exact absurd h (by omega)
theorem ga_df_X8 : ∀ j, j < 5 → defaultValue (tyX8 j) = vp_V [va_rf none, .int 0, .int 0, .int 0, .int 0] j := by
  intro j hj
  match j, hj with
  | 0, _ => rfl
  | 1, _ => rfl
  | 2, _ => rfl
  | 3, _ => rfl
  | 4, _ => rfl
  | j + 5, h => exact absurd h (by omega)
theorem ga_df_X9 : ∀ j, j < 3 → defaultValue (tyX9 j) = vp_V [.int 0, .int 0, .int 0] j := by
  intro j hj
  match j, hj with
  | 0, _ => rfl
  | 1, _ => rfl
  | 2, _ => rfl
  | j + 3, h => exact absurd h (by omega)
theorem ga_df_X10 : ∀ j, j < 8 → defaultValue (tyX10 j) = vp_V [va_rf none, va_rf none, va_rf none, va_rf none, va_rf none, .int 0, .int 0, .int 0] j := by
  intro j hj
  match j, hj with
  | 0, _ => rfl
  | 1, _ => rfl
  | 2, _ => rfl
  | 3, _ => rfl
  | 4, _ => rfl
  | 5, _ => rfl
  | 6, _ => rfl
  | 7, _ => rfl
  | j + 8, h => exact absurd h (by omega)
theorem ga_df_X11 : ∀ j, j < 2 → defaultValue (tyX11 j) = vp_V [.int 0, .int 0] j := by
  intro j hj
  match j, hj with
  | 0, _ => rfl
  | 1, _ => rfl
  | j + 2, h => exact absurd h (by omega)
theorem ga_df_X12 : ∀ j, j < 4 → defaultValue (tyX12 j) = vp_V [va_rf none, .int 0, va_rf none, .int 0] j := by
  intro j hj
  match j, hj with
  | 0, _ => rfl
  | 1, _ => rfl
  | 2, _ => rfl
  | 3, _ => rfl
  | j + 4, h => exact absurd h (by omega)
theorem ga_df_X13 : ∀ j, j < 7 → defaultValue (tyX13 j) = vp_V [va_rf none, va_rf none, va_rf none, va_rf none, va_rf none, .int 0, .int 0] j := by
  intro j hj
  match j, hj with
  | 0, _ => rfl
  | 1, _ => rfl
  | 2, _ => rfl
  | 3, _ => rfl
  | 4, _ => rfl
  | 5, _ => rfl
  | 6, _ => rfl
  | j + 7, h => exact absurd h (by omega)
theorem ga_df_X14 : ∀ j, j < 2 → defaultValue (tyX14 j) = vp_V [va_rf none, va_rf none] j := by
  intro j hj
  match j, hj with
  | 0, _ => rfl
  | 1, _ => rfl
  | j + 2, h => exact absurd h (by omega)
theorem ga_df_J2 : ∀ j, j < 3 → defaultValue (tyJ2 j) = vp_V [.int 0, va_rf none, .int 0] j := by
  intro j hj
  match j, hj with
  | 0, _ => rfl
  | 1, _ => rfl
  | 2, _ => rfl
  | j + 3, h => exact absurd h (by omega)
theorem ga_df_J16 : ∀ j, j < 4 → defaultValue (tyJ16 j) = vp_V [.int 0, .int 0, .int 0, va_rf none] j := by
  intro j hj
  match j, hj with
  | 0, _ => rfl
  | 1, _ => rfl
  | 2, _ => rfl
  | 3, _ => rfl
  | j + 4, h => exact absurd h (by omega)
theorem ga_df_J4 : ∀ j, j < 8 → defaultValue (tyJ4 j) = vp_V [va_rf none, va_rf none, va_rf none, va_rf none, .int 0, .int 0, .int 0, .float 0] j := by
  intro j hj
  match j, hj with
  | 0, _ => rfl
  | 1, _ => rfl
  | 2, _ => rfl
  | 3, _ => rfl
  | 4, _ => rfl
  | 5, _ => rfl
  | 6, _ => rfl
  | 7, _ => rfl
  | j + 8, h => exact absurd h (by omega)
theorem ga_df_J32 : ∀ j, j < 4 → defaultValue (tyJ32 j) = vp_V [.int 0, va_rf none, va_rf none, va_rf none] j := by
  intro j hj
  match j, hj with
  | 0, _ => rfl
  | 1, _ => rfl
  | 2, _ => rfl
  | 3, _ => rfl
  | j + 4, h => exact absurd h (by omega)
theorem ga_df_J37 : ∀ j, j < 1 → defaultValue (tyJ37 j) = vp_V [va_rf none] j := by
  intro j hj
  match j, hj with
  | 0, _ => rfl
  | j + 1, h => exact absurd h (by omega)
theorem ga_df_J18 : ∀ j, j < 5 → defaultValue (tyJ18 j) = vp_V [va_rf none, va_rf none, .int 0, .int 0, va_rf none] j := by
  intro j hj
  match j, hj with
  | 0, _ => rfl
  | 1, _ => rfl
  | 2, _ => rfl
  | 3, _ => rfl
  | 4, _ => rfl
  | j + 5, h => exact absurd h (by omega)
theorem ga_df_J21 : ∀ j, j < 1 → defaultValue (tyJ21 j) = vp_V [va_rf none] j := by
  intro j hj
  match j, hj with
  | 0, _ => rfl
  | j + 1, h => exact absurd h (by omega)
theorem ga_df_J19 : ∀ j, j < 5 → defaultValue (tyJ19 j) = vp_V [va_rf none, va_rf none, .int 0, .int 0, va_rf none] j := by
  intro j hj
  match j, hj with
  | 0, _ => rfl
  | 1, _ => rfl
  | 2, _ => rfl
  | 3, _ => rfl
  | 4, _ => rfl
  | j + 5, h => exact absurd h (by omega)
theorem ga_df_J44 : ∀ j, j < 1 → defaultValue (tyJ44 j) = vp_V [va_rf none] j := by
  intro j hj
  match j, hj with
  | 0, _ => rfl
  | j + 1, h => exact absurd h (by omega)
theorem ga_df_J6 : ∀ j, j < 4 → defaultValue (tyJ6 j) = vp_V [va_rf none, .int 0, .int 0, .int 0] j := by
  intro j hj
  match j, hj with
  | 0, _ => rfl
  | 1, _ => rfl
  | 2, _ => rfl
  | 3, _ => rfl
  | j + 4, h => exact absurd h (by omega)
theorem ga_df_J7 : ∀ j, j < 4 → defaultValue (tyJ7 j) = vp_V [va_rf none, .int 0, .int 0, .int 0] j := by
  intro j hj
  match j, hj with
  | 0, _ => rfl
  | 1, _ => rfl
  | 2, _ => rfl
  | 3, _ => rfl
  | j + 4, h => exact absurd h (by omega)
theorem ga_df_J30 : ∀ j, j < 1 → defaultValue (tyJ30 j) = vp_V [.int 0] j := by
  intro j hj
  match j, hj with
  | 0, _ => rfl
  | j + 1, h => exact absurd h (by omega)
theorem ga_df_J40 : ∀ j, j < 3 → defaultValue (tyJ40 j) = vp_V [va_rf none, .int 0, .int 0] j := by
  intro j hj
  match j, hj with
  | 0, _ => rfl
  | 1, _ => rfl
  | 2, _ => rfl
  | j + 3, h => exact absurd h (by omega)
theorem ga_df_J49 : ∀ j, j < 2 → defaultValue (tyJ49 j) = vp_V [va_rf none, .int 0] j := by
  intro j hj
  match j, hj with
  | 0, _ => rfl
  | 1, _ => rfl
  | j + 2, h => exact absurd h (by omega)
theorem ga_df_J22 : ∀ j, j < 4 → defaultValue (tyJ22 j) = vp_V [va_rf none, .int 0, .int 0, .int 0] j := by
  intro j hj
  match j, hj with
  | 0, _ => rfl
  | 1, _ => rfl
  | 2, _ => rfl
  | 3, _ => rfl
  | j + 4, h => exact absurd h (by omega)
theorem ga_df_X5 : ∀ j, j < 16 → defaultValue (tyX5 j) = vp_V [.int 0, va_rf none, .int 0, .int 0, .int 0, .int 0, .int 0, va_rf none, .int 0, va_rf none, .int 0, .int 0, .int 0, .int 0, va_rf none, .int 0] j := by
  intro j hj
  match j, hj with
  | 0, _ => rfl
  | 1, _ => rfl
  | 2, _ => rfl
  | 3, _ => rfl
  | 4, _ => rfl
  | 5, _ => rfl
  | 6, _ => rfl
  | 7, _ => rfl
  | 8, _ => rfl
  | 9, _ => rfl
  | 10, _ => rfl
  | 11, _ => rfl
  | 12, _ => rfl
  | 13, _ => rfl
  | 14, _ => rfl
  | 15, _ => rfl
  | j + 16, h => exact absurd h (by omega)
theorem ga_noover {own X : String} {names : List String} {ic : Nat} {t : FieldType} (h : Cond.arrayOver t ∈ Bundle.ownAtoms0 own ic X names) : False := by
  have k : ∀ (names : List String) (X : String), ¬ Cond.arrayOver t ∈ Bundle.chain0Atoms X names := by
    intro names
    induction names with
    | nil => intro X h; simp [Bundle.chain0Atoms, Bundle.passAtoms] at h
    | cons Y r ih =>
      intro X h
      rcases List.mem_append.mp (show Cond.arrayOver t ∈ Bundle.passAtoms X Y 1 Bundle.five ++ Bundle.chain0Atoms Y r from h) with h | h
      · simp [Bundle.passAtoms] at h
      · exact ih Y h
  rcases List.mem_append.mp (show Cond.arrayOver t ∈ (Bundle.throwableAtoms ++ Bundle.chain0Atoms X names) ++ _ from h) with h | h
  · rcases List.mem_append.mp h with h | h
    · simp [Bundle.throwableAtoms] at h
    · exact k names X h
  · simp at h
theorem ga_atoms {own X : String} {names : List String} {ic : Nat} {g : ga_G} {h : ga_H} {s : State} {H : Heap} {locs : List Loc} {args : Array Value} (hts : ∀ w ∈ lw_all, w.before args s = true) (hI : ga_I g h s H locs) (hw : ∀ w ∈ Bundle.ownAtoms0 own ic X names, vx_no w = true → w ∈ lw_all ∨ w ∈ ga_nw) : ∀ w ∈ vx_at0 own ic X names, w.before args s = true := by
  intro w hq
  obtain ⟨h1, h2⟩ := List.mem_filter.mp hq
  rcases hw w h1 h2 with h3 | h3
  · exact hts w h3
  · have h4 := hI.2.1.1.2.1 w h3
    have h5 := (List.mem_filter.mp h3).2
    cases w with
    | fieldLinkNest a b c d e f => exact va_Nw.use rfl h4
    | methodLinkNest a b c d => exact va_Nw.use rfl h4
    | castable a b => exact va_Nw.use rfl h4
    | declares a => exact va_Nw.use rfl h4
    | privateMethod a => exact va_Nw.use rfl h4
    | arrayOver t => exact h4
    | _ => cases h5
theorem ga_otok {own X : String} {names : List String} {ic ik : Nat} (hw : ∀ w ∈ Bundle.ownAtoms0 own ic X names, vx_no w = true → w ∈ lw_all ∨ w ∈ ga_nw) : ∀ w ∈ Cond.classLink own ik X :: Cond.initialized X :: vx_at0 own ic X names, vx_ot w = true := by
  intro w hq
  rcases List.mem_cons.mp hq with rfl | hq
  · rfl
  rcases List.mem_cons.mp hq with rfl | hq
  · rfl
  obtain ⟨h1, h2⟩ := List.mem_filter.mp hq
  rcases hw w h1 h2 with h3 | h3
  · have h5 := (List.mem_filter.mp h3).2
    show (w.onTables || goodWord w) = true
    rw [h5, Bool.or_true]
  · have h5 := (List.mem_filter.mp h3).2
    cases w with
    | fieldLinkNest a b c d e f => rfl
    | methodLinkNest a b c d => rfl
    | castable a b => rfl
    | declares a => rfl
    | privateMethod a => rfl
    | arrayOver t =>
      exfalso
      have h6 : (Cond.arrayOver t) ∈ Bundle.ownAtoms0 own ic X names := h1
      exact ga_noover h6
    | _ => cases h5
set_option maxRecDepth 100000 in
theorem ga_ow_iae {own : String} {ic : Nat} (hlk : Cond.methodLink own ic ⟨"java/lang/IllegalArgumentException", "<init>", "()V"⟩ ∈ lw_all) : ∀ w ∈ Bundle.ownAtoms0 own ic "java/lang/IllegalArgumentException" ["java/lang/RuntimeException", "java/lang/Exception"], vx_no w = true → w ∈ lw_all ∨ w ∈ ga_nw := by
  show ∀ w ∈ (Bundle.throwableAtoms ++ Bundle.chain0Atoms "java/lang/IllegalArgumentException" ["java/lang/RuntimeException", "java/lang/Exception"]) ++ _, _
  refine List.forall_mem_append.mpr ⟨List.forall_mem_append.mpr ⟨(List.forall_mem_cons.mpr ⟨fun _ => Or.inl q114, List.forall_mem_cons.mpr ⟨fun _ => Or.inl q752, List.forall_mem_cons.mpr ⟨fun _ => Or.inl q761, List.forall_mem_cons.mpr ⟨fun _ => Or.inl q773, List.forall_mem_cons.mpr ⟨fun _ => Or.inl q776, List.forall_mem_cons.mpr ⟨fun _ => Or.inl q778, List.forall_mem_cons.mpr ⟨fun _ => Or.inl q753, List.forall_mem_cons.mpr ⟨fun _ => Or.inl q754, List.forall_mem_cons.mpr ⟨fun _ => Or.inl q179, List.forall_mem_cons.mpr ⟨fun _ => Or.inl q180, List.forall_mem_cons.mpr ⟨fun _ => Or.inl q755, List.forall_mem_cons.mpr ⟨fun _ => Or.inl q760, List.forall_mem_cons.mpr ⟨fun _ => Or.inl q774, List.forall_mem_cons.mpr ⟨fun _ => Or.inl q791, List.forall_mem_cons.mpr ⟨fun _ => Or.inl q742, List.forall_mem_cons.mpr ⟨fun _ => Or.inl q792, List.forall_mem_cons.mpr ⟨fun _ => Or.inl q744, List.forall_mem_cons.mpr ⟨fun _ => Or.inl q793, List.forall_mem_cons.mpr ⟨fun _ => Or.inl q746, List.forall_mem_cons.mpr ⟨fun _ => Or.inl q756, List.forall_mem_cons.mpr ⟨fun z => absurd z (by decide +kernel), List.forall_mem_cons.mpr ⟨fun _ => Or.inl q758, List.forall_mem_cons.mpr ⟨fun z => absurd z (by decide +kernel), List.forall_mem_cons.mpr ⟨fun _ => Or.inl q748, fun _ h => absurd h List.not_mem_nil⟩⟩⟩⟩⟩⟩⟩⟩⟩⟩⟩⟩⟩⟩⟩⟩⟩⟩⟩⟩⟩⟩⟩⟩), ?_⟩, (List.forall_mem_cons.mpr ⟨fun _ => Or.inl hlk, List.forall_mem_cons.mpr ⟨fun _ => Or.inl q1053, List.forall_mem_cons.mpr ⟨fun _ => Or.inr (ga_nin q1054 rfl), List.forall_mem_cons.mpr ⟨fun _ => Or.inl q1055, List.forall_mem_cons.mpr ⟨fun _ => Or.inl q768, List.forall_mem_cons.mpr ⟨fun _ => Or.inl q1056, List.forall_mem_cons.mpr ⟨fun _ => Or.inl q1057, List.forall_mem_cons.mpr ⟨fun _ => Or.inl q1058, List.forall_mem_cons.mpr ⟨fun _ => Or.inl q1059, List.forall_mem_cons.mpr ⟨fun z => absurd z (by decide +kernel), List.forall_mem_cons.mpr ⟨fun z => absurd z (by decide +kernel), List.forall_mem_cons.mpr ⟨fun _ => Or.inl q789, List.forall_mem_cons.mpr ⟨fun _ => Or.inl q750, List.forall_mem_cons.mpr ⟨fun _ => Or.inl q1060, fun _ h => absurd h List.not_mem_nil⟩⟩⟩⟩⟩⟩⟩⟩⟩⟩⟩⟩⟩⟩)⟩
  show ∀ w ∈ Bundle.passAtoms "java/lang/IllegalArgumentException" "java/lang/RuntimeException" 1 Bundle.five ++ (Bundle.passAtoms "java/lang/RuntimeException" "java/lang/Exception" 1 Bundle.five ++ Bundle.passAtoms "java/lang/Exception" Bundle.tN 1 Bundle.five), _
  exact List.forall_mem_append.mpr ⟨(List.forall_mem_cons.mpr ⟨fun _ => Or.inl q2032, List.forall_mem_cons.mpr ⟨fun _ => Or.inl q2033, List.forall_mem_cons.mpr ⟨fun _ => Or.inl q2034, List.forall_mem_cons.mpr ⟨fun _ => Or.inl q783, List.forall_mem_cons.mpr ⟨fun _ => Or.inr (ga_nin q733 rfl), fun _ h => absurd h List.not_mem_nil⟩⟩⟩⟩⟩), List.forall_mem_append.mpr ⟨(List.forall_mem_cons.mpr ⟨fun _ => Or.inl q783, List.forall_mem_cons.mpr ⟨fun _ => Or.inl q784, List.forall_mem_cons.mpr ⟨fun _ => Or.inl q785, List.forall_mem_cons.mpr ⟨fun _ => Or.inl q786, List.forall_mem_cons.mpr ⟨fun _ => Or.inr (ga_nin q735 rfl), fun _ h => absurd h List.not_mem_nil⟩⟩⟩⟩⟩), (List.forall_mem_cons.mpr ⟨fun _ => Or.inl q786, List.forall_mem_cons.mpr ⟨fun _ => Or.inl q787, List.forall_mem_cons.mpr ⟨fun _ => Or.inl q788, List.forall_mem_cons.mpr ⟨fun _ => Or.inl q753, List.forall_mem_cons.mpr ⟨fun _ => Or.inr (ga_nin q737 rfl), fun _ h => absurd h List.not_mem_nil⟩⟩⟩⟩⟩)⟩⟩
set_option maxRecDepth 100000 in
theorem ga_ow_ioobe {own : String} {ic : Nat} (hlk : Cond.methodLink own ic ⟨"java/lang/IndexOutOfBoundsException", "<init>", "()V"⟩ ∈ lw_all) : ∀ w ∈ Bundle.ownAtoms0 own ic "java/lang/IndexOutOfBoundsException" ["java/lang/RuntimeException", "java/lang/Exception"], vx_no w = true → w ∈ lw_all ∨ w ∈ ga_nw := by
  show ∀ w ∈ (Bundle.throwableAtoms ++ Bundle.chain0Atoms "java/lang/IndexOutOfBoundsException" ["java/lang/RuntimeException", "java/lang/Exception"]) ++ _, _
  refine List.forall_mem_append.mpr ⟨List.forall_mem_append.mpr ⟨(List.forall_mem_cons.mpr ⟨fun _ => Or.inl q114, List.forall_mem_cons.mpr ⟨fun _ => Or.inl q752, List.forall_mem_cons.mpr ⟨fun _ => Or.inl q761, List.forall_mem_cons.mpr ⟨fun _ => Or.inl q773, List.forall_mem_cons.mpr ⟨fun _ => Or.inl q776, List.forall_mem_cons.mpr ⟨fun _ => Or.inl q778, List.forall_mem_cons.mpr ⟨fun _ => Or.inl q753, List.forall_mem_cons.mpr ⟨fun _ => Or.inl q754, List.forall_mem_cons.mpr ⟨fun _ => Or.inl q179, List.forall_mem_cons.mpr ⟨fun _ => Or.inl q180, List.forall_mem_cons.mpr ⟨fun _ => Or.inl q755, List.forall_mem_cons.mpr ⟨fun _ => Or.inl q760, List.forall_mem_cons.mpr ⟨fun _ => Or.inl q774, List.forall_mem_cons.mpr ⟨fun _ => Or.inl q791, List.forall_mem_cons.mpr ⟨fun _ => Or.inl q742, List.forall_mem_cons.mpr ⟨fun _ => Or.inl q792, List.forall_mem_cons.mpr ⟨fun _ => Or.inl q744, List.forall_mem_cons.mpr ⟨fun _ => Or.inl q793, List.forall_mem_cons.mpr ⟨fun _ => Or.inl q746, List.forall_mem_cons.mpr ⟨fun _ => Or.inl q756, List.forall_mem_cons.mpr ⟨fun z => absurd z (by decide +kernel), List.forall_mem_cons.mpr ⟨fun _ => Or.inl q758, List.forall_mem_cons.mpr ⟨fun z => absurd z (by decide +kernel), List.forall_mem_cons.mpr ⟨fun _ => Or.inl q748, fun _ h => absurd h List.not_mem_nil⟩⟩⟩⟩⟩⟩⟩⟩⟩⟩⟩⟩⟩⟩⟩⟩⟩⟩⟩⟩⟩⟩⟩⟩), ?_⟩, (List.forall_mem_cons.mpr ⟨fun _ => Or.inl hlk, List.forall_mem_cons.mpr ⟨fun _ => Or.inl q865, List.forall_mem_cons.mpr ⟨fun _ => Or.inr (ga_nin q866 rfl), List.forall_mem_cons.mpr ⟨fun _ => Or.inl q867, List.forall_mem_cons.mpr ⟨fun _ => Or.inl q770, List.forall_mem_cons.mpr ⟨fun _ => Or.inl q868, List.forall_mem_cons.mpr ⟨fun _ => Or.inl q869, List.forall_mem_cons.mpr ⟨fun _ => Or.inl q870, List.forall_mem_cons.mpr ⟨fun _ => Or.inl q871, List.forall_mem_cons.mpr ⟨fun z => absurd z (by decide +kernel), List.forall_mem_cons.mpr ⟨fun z => absurd z (by decide +kernel), List.forall_mem_cons.mpr ⟨fun _ => Or.inl q789, List.forall_mem_cons.mpr ⟨fun _ => Or.inl q750, List.forall_mem_cons.mpr ⟨fun _ => Or.inl q872, fun _ h => absurd h List.not_mem_nil⟩⟩⟩⟩⟩⟩⟩⟩⟩⟩⟩⟩⟩⟩)⟩
  show ∀ w ∈ Bundle.passAtoms "java/lang/IndexOutOfBoundsException" "java/lang/RuntimeException" 1 Bundle.five ++ (Bundle.passAtoms "java/lang/RuntimeException" "java/lang/Exception" 1 Bundle.five ++ Bundle.passAtoms "java/lang/Exception" Bundle.tN 1 Bundle.five), _
  exact List.forall_mem_append.mpr ⟨(List.forall_mem_cons.mpr ⟨fun _ => Or.inl q2139, List.forall_mem_cons.mpr ⟨fun _ => Or.inl q2140, List.forall_mem_cons.mpr ⟨fun _ => Or.inl q2141, List.forall_mem_cons.mpr ⟨fun _ => Or.inl q783, List.forall_mem_cons.mpr ⟨fun _ => Or.inr (ga_nin q733 rfl), fun _ h => absurd h List.not_mem_nil⟩⟩⟩⟩⟩), List.forall_mem_append.mpr ⟨(List.forall_mem_cons.mpr ⟨fun _ => Or.inl q783, List.forall_mem_cons.mpr ⟨fun _ => Or.inl q784, List.forall_mem_cons.mpr ⟨fun _ => Or.inl q785, List.forall_mem_cons.mpr ⟨fun _ => Or.inl q786, List.forall_mem_cons.mpr ⟨fun _ => Or.inr (ga_nin q735 rfl), fun _ h => absurd h List.not_mem_nil⟩⟩⟩⟩⟩), (List.forall_mem_cons.mpr ⟨fun _ => Or.inl q786, List.forall_mem_cons.mpr ⟨fun _ => Or.inl q787, List.forall_mem_cons.mpr ⟨fun _ => Or.inl q788, List.forall_mem_cons.mpr ⟨fun _ => Or.inl q753, List.forall_mem_cons.mpr ⟨fun _ => Or.inr (ga_nin q737 rfl), fun _ h => absurd h List.not_mem_nil⟩⟩⟩⟩⟩)⟩⟩
set_option maxRecDepth 100000 in
theorem ga_ow_ise {own : String} {ic : Nat} (hlk : Cond.methodLink own ic ⟨"java/lang/IllegalStateException", "<init>", "()V"⟩ ∈ lw_all) : ∀ w ∈ Bundle.ownAtoms0 own ic "java/lang/IllegalStateException" ["java/lang/RuntimeException", "java/lang/Exception"], vx_no w = true → w ∈ lw_all ∨ w ∈ ga_nw := by
  show ∀ w ∈ (Bundle.throwableAtoms ++ Bundle.chain0Atoms "java/lang/IllegalStateException" ["java/lang/RuntimeException", "java/lang/Exception"]) ++ _, _
  refine List.forall_mem_append.mpr ⟨List.forall_mem_append.mpr ⟨(List.forall_mem_cons.mpr ⟨fun _ => Or.inl q114, List.forall_mem_cons.mpr ⟨fun _ => Or.inl q752, List.forall_mem_cons.mpr ⟨fun _ => Or.inl q761, List.forall_mem_cons.mpr ⟨fun _ => Or.inl q773, List.forall_mem_cons.mpr ⟨fun _ => Or.inl q776, List.forall_mem_cons.mpr ⟨fun _ => Or.inl q778, List.forall_mem_cons.mpr ⟨fun _ => Or.inl q753, List.forall_mem_cons.mpr ⟨fun _ => Or.inl q754, List.forall_mem_cons.mpr ⟨fun _ => Or.inl q179, List.forall_mem_cons.mpr ⟨fun _ => Or.inl q180, List.forall_mem_cons.mpr ⟨fun _ => Or.inl q755, List.forall_mem_cons.mpr ⟨fun _ => Or.inl q760, List.forall_mem_cons.mpr ⟨fun _ => Or.inl q774, List.forall_mem_cons.mpr ⟨fun _ => Or.inl q791, List.forall_mem_cons.mpr ⟨fun _ => Or.inl q742, List.forall_mem_cons.mpr ⟨fun _ => Or.inl q792, List.forall_mem_cons.mpr ⟨fun _ => Or.inl q744, List.forall_mem_cons.mpr ⟨fun _ => Or.inl q793, List.forall_mem_cons.mpr ⟨fun _ => Or.inl q746, List.forall_mem_cons.mpr ⟨fun _ => Or.inl q756, List.forall_mem_cons.mpr ⟨fun z => absurd z (by decide +kernel), List.forall_mem_cons.mpr ⟨fun _ => Or.inl q758, List.forall_mem_cons.mpr ⟨fun z => absurd z (by decide +kernel), List.forall_mem_cons.mpr ⟨fun _ => Or.inl q748, fun _ h => absurd h List.not_mem_nil⟩⟩⟩⟩⟩⟩⟩⟩⟩⟩⟩⟩⟩⟩⟩⟩⟩⟩⟩⟩⟩⟩⟩⟩), ?_⟩, (List.forall_mem_cons.mpr ⟨fun _ => Or.inl hlk, List.forall_mem_cons.mpr ⟨fun _ => Or.inl q2821, List.forall_mem_cons.mpr ⟨fun _ => Or.inr (ga_nin q2822 rfl), List.forall_mem_cons.mpr ⟨fun _ => Or.inl q2823, List.forall_mem_cons.mpr ⟨fun _ => Or.inl q769, List.forall_mem_cons.mpr ⟨fun _ => Or.inl q2824, List.forall_mem_cons.mpr ⟨fun _ => Or.inl q2825, List.forall_mem_cons.mpr ⟨fun _ => Or.inl q2826, List.forall_mem_cons.mpr ⟨fun _ => Or.inl q2827, List.forall_mem_cons.mpr ⟨fun z => absurd z (by decide +kernel), List.forall_mem_cons.mpr ⟨fun z => absurd z (by decide +kernel), List.forall_mem_cons.mpr ⟨fun _ => Or.inl q789, List.forall_mem_cons.mpr ⟨fun _ => Or.inl q750, List.forall_mem_cons.mpr ⟨fun _ => Or.inl q2828, fun _ h => absurd h List.not_mem_nil⟩⟩⟩⟩⟩⟩⟩⟩⟩⟩⟩⟩⟩⟩)⟩
  show ∀ w ∈ Bundle.passAtoms "java/lang/IllegalStateException" "java/lang/RuntimeException" 1 Bundle.five ++ (Bundle.passAtoms "java/lang/RuntimeException" "java/lang/Exception" 1 Bundle.five ++ Bundle.passAtoms "java/lang/Exception" Bundle.tN 1 Bundle.five), _
  exact List.forall_mem_append.mpr ⟨(List.forall_mem_cons.mpr ⟨fun _ => Or.inl q2830, List.forall_mem_cons.mpr ⟨fun _ => Or.inl q2831, List.forall_mem_cons.mpr ⟨fun _ => Or.inl q2832, List.forall_mem_cons.mpr ⟨fun _ => Or.inl q783, List.forall_mem_cons.mpr ⟨fun _ => Or.inr (ga_nin q733 rfl), fun _ h => absurd h List.not_mem_nil⟩⟩⟩⟩⟩), List.forall_mem_append.mpr ⟨(List.forall_mem_cons.mpr ⟨fun _ => Or.inl q783, List.forall_mem_cons.mpr ⟨fun _ => Or.inl q784, List.forall_mem_cons.mpr ⟨fun _ => Or.inl q785, List.forall_mem_cons.mpr ⟨fun _ => Or.inl q786, List.forall_mem_cons.mpr ⟨fun _ => Or.inr (ga_nin q735 rfl), fun _ h => absurd h List.not_mem_nil⟩⟩⟩⟩⟩), (List.forall_mem_cons.mpr ⟨fun _ => Or.inl q786, List.forall_mem_cons.mpr ⟨fun _ => Or.inl q787, List.forall_mem_cons.mpr ⟨fun _ => Or.inl q788, List.forall_mem_cons.mpr ⟨fun _ => Or.inl q753, List.forall_mem_cons.mpr ⟨fun _ => Or.inr (ga_nin q737 rfl), fun _ h => absurd h List.not_mem_nil⟩⟩⟩⟩⟩)⟩⟩
set_option maxRecDepth 100000 in
theorem ga_ow_nsee {own : String} {ic : Nat} (hlk : Cond.methodLink own ic ⟨"java/util/NoSuchElementException", "<init>", "()V"⟩ ∈ lw_all) : ∀ w ∈ Bundle.ownAtoms0 own ic "java/util/NoSuchElementException" ["java/lang/RuntimeException", "java/lang/Exception"], vx_no w = true → w ∈ lw_all ∨ w ∈ ga_nw := by
  show ∀ w ∈ (Bundle.throwableAtoms ++ Bundle.chain0Atoms "java/util/NoSuchElementException" ["java/lang/RuntimeException", "java/lang/Exception"]) ++ _, _
  refine List.forall_mem_append.mpr ⟨List.forall_mem_append.mpr ⟨(List.forall_mem_cons.mpr ⟨fun _ => Or.inl q114, List.forall_mem_cons.mpr ⟨fun _ => Or.inl q752, List.forall_mem_cons.mpr ⟨fun _ => Or.inl q761, List.forall_mem_cons.mpr ⟨fun _ => Or.inl q773, List.forall_mem_cons.mpr ⟨fun _ => Or.inl q776, List.forall_mem_cons.mpr ⟨fun _ => Or.inl q778, List.forall_mem_cons.mpr ⟨fun _ => Or.inl q753, List.forall_mem_cons.mpr ⟨fun _ => Or.inl q754, List.forall_mem_cons.mpr ⟨fun _ => Or.inl q179, List.forall_mem_cons.mpr ⟨fun _ => Or.inl q180, List.forall_mem_cons.mpr ⟨fun _ => Or.inl q755, List.forall_mem_cons.mpr ⟨fun _ => Or.inl q760, List.forall_mem_cons.mpr ⟨fun _ => Or.inl q774, List.forall_mem_cons.mpr ⟨fun _ => Or.inl q791, List.forall_mem_cons.mpr ⟨fun _ => Or.inl q742, List.forall_mem_cons.mpr ⟨fun _ => Or.inl q792, List.forall_mem_cons.mpr ⟨fun _ => Or.inl q744, List.forall_mem_cons.mpr ⟨fun _ => Or.inl q793, List.forall_mem_cons.mpr ⟨fun _ => Or.inl q746, List.forall_mem_cons.mpr ⟨fun _ => Or.inl q756, List.forall_mem_cons.mpr ⟨fun z => absurd z (by decide +kernel), List.forall_mem_cons.mpr ⟨fun _ => Or.inl q758, List.forall_mem_cons.mpr ⟨fun z => absurd z (by decide +kernel), List.forall_mem_cons.mpr ⟨fun _ => Or.inl q748, fun _ h => absurd h List.not_mem_nil⟩⟩⟩⟩⟩⟩⟩⟩⟩⟩⟩⟩⟩⟩⟩⟩⟩⟩⟩⟩⟩⟩⟩⟩), ?_⟩, (List.forall_mem_cons.mpr ⟨fun _ => Or.inl hlk, List.forall_mem_cons.mpr ⟨fun _ => Or.inl q731, List.forall_mem_cons.mpr ⟨fun _ => Or.inr (ga_nin q732 rfl), List.forall_mem_cons.mpr ⟨fun _ => Or.inl q739, List.forall_mem_cons.mpr ⟨fun _ => Or.inl q740, List.forall_mem_cons.mpr ⟨fun _ => Or.inl q741, List.forall_mem_cons.mpr ⟨fun _ => Or.inl q743, List.forall_mem_cons.mpr ⟨fun _ => Or.inl q745, List.forall_mem_cons.mpr ⟨fun _ => Or.inl q747, List.forall_mem_cons.mpr ⟨fun z => absurd z (by decide +kernel), List.forall_mem_cons.mpr ⟨fun z => absurd z (by decide +kernel), List.forall_mem_cons.mpr ⟨fun _ => Or.inl q789, List.forall_mem_cons.mpr ⟨fun _ => Or.inl q750, List.forall_mem_cons.mpr ⟨fun _ => Or.inl q749, fun _ h => absurd h List.not_mem_nil⟩⟩⟩⟩⟩⟩⟩⟩⟩⟩⟩⟩⟩⟩)⟩
  show ∀ w ∈ Bundle.passAtoms "java/util/NoSuchElementException" "java/lang/RuntimeException" 1 Bundle.five ++ (Bundle.passAtoms "java/lang/RuntimeException" "java/lang/Exception" 1 Bundle.five ++ Bundle.passAtoms "java/lang/Exception" Bundle.tN 1 Bundle.five), _
  exact List.forall_mem_append.mpr ⟨(List.forall_mem_cons.mpr ⟨fun _ => Or.inl q780, List.forall_mem_cons.mpr ⟨fun _ => Or.inl q781, List.forall_mem_cons.mpr ⟨fun _ => Or.inl q782, List.forall_mem_cons.mpr ⟨fun _ => Or.inl q783, List.forall_mem_cons.mpr ⟨fun _ => Or.inr (ga_nin q733 rfl), fun _ h => absurd h List.not_mem_nil⟩⟩⟩⟩⟩), List.forall_mem_append.mpr ⟨(List.forall_mem_cons.mpr ⟨fun _ => Or.inl q783, List.forall_mem_cons.mpr ⟨fun _ => Or.inl q784, List.forall_mem_cons.mpr ⟨fun _ => Or.inl q785, List.forall_mem_cons.mpr ⟨fun _ => Or.inl q786, List.forall_mem_cons.mpr ⟨fun _ => Or.inr (ga_nin q735 rfl), fun _ h => absurd h List.not_mem_nil⟩⟩⟩⟩⟩), (List.forall_mem_cons.mpr ⟨fun _ => Or.inl q786, List.forall_mem_cons.mpr ⟨fun _ => Or.inl q787, List.forall_mem_cons.mpr ⟨fun _ => Or.inl q788, List.forall_mem_cons.mpr ⟨fun _ => Or.inl q753, List.forall_mem_cons.mpr ⟨fun _ => Or.inr (ga_nin q737 rfl), fun _ h => absurd h List.not_mem_nil⟩⟩⟩⟩⟩)⟩⟩
set_option maxRecDepth 100000 in
theorem ga_ow_are {own : String} {ic : Nat} (hlk : Cond.methodLink own ic ⟨"java/lang/ArithmeticException", "<init>", "()V"⟩ ∈ lw_all) : ∀ w ∈ Bundle.ownAtoms0 own ic "java/lang/ArithmeticException" ["java/lang/RuntimeException", "java/lang/Exception"], vx_no w = true → w ∈ lw_all ∨ w ∈ ga_nw := by
  show ∀ w ∈ (Bundle.throwableAtoms ++ Bundle.chain0Atoms "java/lang/ArithmeticException" ["java/lang/RuntimeException", "java/lang/Exception"]) ++ _, _
  refine List.forall_mem_append.mpr ⟨List.forall_mem_append.mpr ⟨(List.forall_mem_cons.mpr ⟨fun _ => Or.inl q114, List.forall_mem_cons.mpr ⟨fun _ => Or.inl q752, List.forall_mem_cons.mpr ⟨fun _ => Or.inl q761, List.forall_mem_cons.mpr ⟨fun _ => Or.inl q773, List.forall_mem_cons.mpr ⟨fun _ => Or.inl q776, List.forall_mem_cons.mpr ⟨fun _ => Or.inl q778, List.forall_mem_cons.mpr ⟨fun _ => Or.inl q753, List.forall_mem_cons.mpr ⟨fun _ => Or.inl q754, List.forall_mem_cons.mpr ⟨fun _ => Or.inl q179, List.forall_mem_cons.mpr ⟨fun _ => Or.inl q180, List.forall_mem_cons.mpr ⟨fun _ => Or.inl q755, List.forall_mem_cons.mpr ⟨fun _ => Or.inl q760, List.forall_mem_cons.mpr ⟨fun _ => Or.inl q774, List.forall_mem_cons.mpr ⟨fun _ => Or.inl q791, List.forall_mem_cons.mpr ⟨fun _ => Or.inl q742, List.forall_mem_cons.mpr ⟨fun _ => Or.inl q792, List.forall_mem_cons.mpr ⟨fun _ => Or.inl q744, List.forall_mem_cons.mpr ⟨fun _ => Or.inl q793, List.forall_mem_cons.mpr ⟨fun _ => Or.inl q746, List.forall_mem_cons.mpr ⟨fun _ => Or.inl q756, List.forall_mem_cons.mpr ⟨fun z => absurd z (by decide +kernel), List.forall_mem_cons.mpr ⟨fun _ => Or.inl q758, List.forall_mem_cons.mpr ⟨fun z => absurd z (by decide +kernel), List.forall_mem_cons.mpr ⟨fun _ => Or.inl q748, fun _ h => absurd h List.not_mem_nil⟩⟩⟩⟩⟩⟩⟩⟩⟩⟩⟩⟩⟩⟩⟩⟩⟩⟩⟩⟩⟩⟩⟩⟩), ?_⟩, (List.forall_mem_cons.mpr ⟨fun _ => Or.inl hlk, List.forall_mem_cons.mpr ⟨fun _ => Or.inl q2758, List.forall_mem_cons.mpr ⟨fun _ => Or.inr (ga_nin q2769 rfl), List.forall_mem_cons.mpr ⟨fun _ => Or.inl q2770, List.forall_mem_cons.mpr ⟨fun _ => Or.inl q765, List.forall_mem_cons.mpr ⟨fun _ => Or.inl q2764, List.forall_mem_cons.mpr ⟨fun _ => Or.inl q2765, List.forall_mem_cons.mpr ⟨fun _ => Or.inl q2767, List.forall_mem_cons.mpr ⟨fun _ => Or.inl q2763, List.forall_mem_cons.mpr ⟨fun z => absurd z (by decide +kernel), List.forall_mem_cons.mpr ⟨fun z => absurd z (by decide +kernel), List.forall_mem_cons.mpr ⟨fun _ => Or.inl q789, List.forall_mem_cons.mpr ⟨fun _ => Or.inl q750, List.forall_mem_cons.mpr ⟨fun _ => Or.inl q2762, fun _ h => absurd h List.not_mem_nil⟩⟩⟩⟩⟩⟩⟩⟩⟩⟩⟩⟩⟩⟩)⟩
  show ∀ w ∈ Bundle.passAtoms "java/lang/ArithmeticException" "java/lang/RuntimeException" 1 Bundle.five ++ (Bundle.passAtoms "java/lang/RuntimeException" "java/lang/Exception" 1 Bundle.five ++ Bundle.passAtoms "java/lang/Exception" Bundle.tN 1 Bundle.five), _
  exact List.forall_mem_append.mpr ⟨(List.forall_mem_cons.mpr ⟨fun _ => Or.inl q2780, List.forall_mem_cons.mpr ⟨fun _ => Or.inl q2781, List.forall_mem_cons.mpr ⟨fun _ => Or.inl q2782, List.forall_mem_cons.mpr ⟨fun _ => Or.inl q783, List.forall_mem_cons.mpr ⟨fun _ => Or.inr (ga_nin q733 rfl), fun _ h => absurd h List.not_mem_nil⟩⟩⟩⟩⟩), List.forall_mem_append.mpr ⟨(List.forall_mem_cons.mpr ⟨fun _ => Or.inl q783, List.forall_mem_cons.mpr ⟨fun _ => Or.inl q784, List.forall_mem_cons.mpr ⟨fun _ => Or.inl q785, List.forall_mem_cons.mpr ⟨fun _ => Or.inl q786, List.forall_mem_cons.mpr ⟨fun _ => Or.inr (ga_nin q735 rfl), fun _ h => absurd h List.not_mem_nil⟩⟩⟩⟩⟩), (List.forall_mem_cons.mpr ⟨fun _ => Or.inl q786, List.forall_mem_cons.mpr ⟨fun _ => Or.inl q787, List.forall_mem_cons.mpr ⟨fun _ => Or.inl q788, List.forall_mem_cons.mpr ⟨fun _ => Or.inl q753, List.forall_mem_cons.mpr ⟨fun _ => Or.inr (ga_nin q737 rfl), fun _ h => absurd h List.not_mem_nil⟩⟩⟩⟩⟩)⟩⟩
set_option maxRecDepth 100000 in
theorem ga_ow_uoe {own : String} {ic : Nat} (hlk : Cond.methodLink own ic ⟨"java/lang/UnsupportedOperationException", "<init>", "()V"⟩ ∈ lw_all) : ∀ w ∈ Bundle.ownAtoms0 own ic "java/lang/UnsupportedOperationException" ["java/lang/RuntimeException", "java/lang/Exception"], vx_no w = true → w ∈ lw_all ∨ w ∈ ga_nw := by
  show ∀ w ∈ (Bundle.throwableAtoms ++ Bundle.chain0Atoms "java/lang/UnsupportedOperationException" ["java/lang/RuntimeException", "java/lang/Exception"]) ++ _, _
  refine List.forall_mem_append.mpr ⟨List.forall_mem_append.mpr ⟨(List.forall_mem_cons.mpr ⟨fun _ => Or.inl q114, List.forall_mem_cons.mpr ⟨fun _ => Or.inl q752, List.forall_mem_cons.mpr ⟨fun _ => Or.inl q761, List.forall_mem_cons.mpr ⟨fun _ => Or.inl q773, List.forall_mem_cons.mpr ⟨fun _ => Or.inl q776, List.forall_mem_cons.mpr ⟨fun _ => Or.inl q778, List.forall_mem_cons.mpr ⟨fun _ => Or.inl q753, List.forall_mem_cons.mpr ⟨fun _ => Or.inl q754, List.forall_mem_cons.mpr ⟨fun _ => Or.inl q179, List.forall_mem_cons.mpr ⟨fun _ => Or.inl q180, List.forall_mem_cons.mpr ⟨fun _ => Or.inl q755, List.forall_mem_cons.mpr ⟨fun _ => Or.inl q760, List.forall_mem_cons.mpr ⟨fun _ => Or.inl q774, List.forall_mem_cons.mpr ⟨fun _ => Or.inl q791, List.forall_mem_cons.mpr ⟨fun _ => Or.inl q742, List.forall_mem_cons.mpr ⟨fun _ => Or.inl q792, List.forall_mem_cons.mpr ⟨fun _ => Or.inl q744, List.forall_mem_cons.mpr ⟨fun _ => Or.inl q793, List.forall_mem_cons.mpr ⟨fun _ => Or.inl q746, List.forall_mem_cons.mpr ⟨fun _ => Or.inl q756, List.forall_mem_cons.mpr ⟨fun z => absurd z (by decide +kernel), List.forall_mem_cons.mpr ⟨fun _ => Or.inl q758, List.forall_mem_cons.mpr ⟨fun z => absurd z (by decide +kernel), List.forall_mem_cons.mpr ⟨fun _ => Or.inl q748, fun _ h => absurd h List.not_mem_nil⟩⟩⟩⟩⟩⟩⟩⟩⟩⟩⟩⟩⟩⟩⟩⟩⟩⟩⟩⟩⟩⟩⟩⟩), ?_⟩, (List.forall_mem_cons.mpr ⟨fun _ => Or.inl hlk, List.forall_mem_cons.mpr ⟨fun _ => Or.inl q2088, List.forall_mem_cons.mpr ⟨fun _ => Or.inr (ga_nin q2089 rfl), List.forall_mem_cons.mpr ⟨fun _ => Or.inl q2090, List.forall_mem_cons.mpr ⟨fun _ => Or.inl q772, List.forall_mem_cons.mpr ⟨fun _ => Or.inl q2091, List.forall_mem_cons.mpr ⟨fun _ => Or.inl q2092, List.forall_mem_cons.mpr ⟨fun _ => Or.inl q2093, List.forall_mem_cons.mpr ⟨fun _ => Or.inl q2094, List.forall_mem_cons.mpr ⟨fun z => absurd z (by decide +kernel), List.forall_mem_cons.mpr ⟨fun z => absurd z (by decide +kernel), List.forall_mem_cons.mpr ⟨fun _ => Or.inl q789, List.forall_mem_cons.mpr ⟨fun _ => Or.inl q750, List.forall_mem_cons.mpr ⟨fun _ => Or.inl q2095, fun _ h => absurd h List.not_mem_nil⟩⟩⟩⟩⟩⟩⟩⟩⟩⟩⟩⟩⟩⟩)⟩
  show ∀ w ∈ Bundle.passAtoms "java/lang/UnsupportedOperationException" "java/lang/RuntimeException" 1 Bundle.five ++ (Bundle.passAtoms "java/lang/RuntimeException" "java/lang/Exception" 1 Bundle.five ++ Bundle.passAtoms "java/lang/Exception" Bundle.tN 1 Bundle.five), _
  exact List.forall_mem_append.mpr ⟨(List.forall_mem_cons.mpr ⟨fun _ => Or.inl q2097, List.forall_mem_cons.mpr ⟨fun _ => Or.inl q2098, List.forall_mem_cons.mpr ⟨fun _ => Or.inl q2099, List.forall_mem_cons.mpr ⟨fun _ => Or.inl q783, List.forall_mem_cons.mpr ⟨fun _ => Or.inr (ga_nin q733 rfl), fun _ h => absurd h List.not_mem_nil⟩⟩⟩⟩⟩), List.forall_mem_append.mpr ⟨(List.forall_mem_cons.mpr ⟨fun _ => Or.inl q783, List.forall_mem_cons.mpr ⟨fun _ => Or.inl q784, List.forall_mem_cons.mpr ⟨fun _ => Or.inl q785, List.forall_mem_cons.mpr ⟨fun _ => Or.inl q786, List.forall_mem_cons.mpr ⟨fun _ => Or.inr (ga_nin q735 rfl), fun _ h => absurd h List.not_mem_nil⟩⟩⟩⟩⟩), (List.forall_mem_cons.mpr ⟨fun _ => Or.inl q786, List.forall_mem_cons.mpr ⟨fun _ => Or.inl q787, List.forall_mem_cons.mpr ⟨fun _ => Or.inl q788, List.forall_mem_cons.mpr ⟨fun _ => Or.inl q753, List.forall_mem_cons.mpr ⟨fun _ => Or.inr (ga_nin q737 rfl), fun _ h => absurd h List.not_mem_nil⟩⟩⟩⟩⟩)⟩⟩
section GT
variable {p : Program} {l : Launch} {e : Env} {R : Room} {s : State} {m : MethodId} {args : Array Value} {below : List Frame} {meth : Method} {c : Code} {H : Heap} {locs : List Loc} {cells slots : Nat} {Q : State → Prop}
variable {cc : ByteArray} {pc nL : Nat} {ls : Array Slot} {rest st : List Value} {g : ga_G} {h : ga_H} {bc bs mc ms : Nat} {own : String} {ik ic : Nat}
theorem ga_thr_iae {Qc : Array Value → State → Outcome → State → Prop} {xp : String → Nat → ga_H → Prop} (hx : p.tables.exec = Jvm.exec) (hb : c.code = cc) (hst : l.stackTraces = false) (hts : ∀ w ∈ lw_all, w.before args s = true) (hown : s.vm.findClass own = some m.cls) (hcl : Cond.classLink own ik "java/lang/IllegalArgumentException" ∈ lw_all) (hlk0 : Cond.methodLink own ic ⟨"java/lang/IllegalArgumentException", "<init>", "()V"⟩ ∈ lw_all) (hI : ga_I g h s H locs) (hsize : ls.size = c.maxLocals) (d0 : decode cc pc = .ok (.new ik, 3)) (d3 : decode cc (pc + 3) = .ok (.dup, 1)) (d4 : decode cc (pc + 4) = .ok (.invokespecial ic, 3)) (d7 : decode cc (pc + 7) = .ok (.athrow, 1)) (hout : ∀ x ∈ c.exceptionTable.toList, covers x (pc + 7) = false) (hRf : 5 < R.frames) (hRl : (rest.map fun v => v.category).sum + 81 ≤ R.locals) (hlk : meth.locks = false) (hbc : cells + bc ≤ R.cells) (hbs : slots + bs ≤ R.slots) (h1 : 1 ≤ bc) (h2 : 6 ≤ bs) (hp : ∀ q : Nat, xp "java/lang/IllegalArgumentException" q h) (e1 : R.cells = mc := by rfl) (e2 : R.slots = ms := by rfl) : W p l e R s m args below meth c H locs cells slots (vx_MQ below Qc (ga_X g xp) args s mc ms (ga_A g)) (F0 m pc ls rest) := by
  refine vx_throw0 (names := ["java/lang/RuntimeException", "java/lang/Exception"]) hx hb hst hown (by decide +kernel) (by decide +kernel) (hts _ hcl) (hts _ q117) (ga_atoms hts hI (ga_ow_iae hlk0)) (ga_otok (ga_ow_iae hlk0)) hI.2.1.2.2.2.2.1 hI.2.1.2.2.2.2.2.1 hI.2.2 hsize d0 d3 d4 d7 hout hRf (by simpa using hRl) (by omega) (by omega) hlk (fun q t hA hz hk => ⟨("java/lang/IllegalArgumentException", q, h), hp q, ⟨rfl, rfl, ?_⟩, Nat.le_trans hI.2.2.1 hz, fun a z1 z2 => ?_⟩) hI.2.2.2.2 (by omega) (by omega)
  · obtain ⟨L, hL, hP, hD⟩ := hI.1
    exact ⟨L, hL, hP.kept (fun k x hx => hk x.1 (hP k x hx).lt), hD⟩
  · rw [hk a (Nat.lt_of_lt_of_le z1 hI.2.2.1)]
    exact hI.2.2.2.1 a z1 z2
theorem ga_thr_ioobe {Qc : Array Value → State → Outcome → State → Prop} {xp : String → Nat → ga_H → Prop} (hx : p.tables.exec = Jvm.exec) (hb : c.code = cc) (hst : l.stackTraces = false) (hts : ∀ w ∈ lw_all, w.before args s = true) (hown : s.vm.findClass own = some m.cls) (hcl : Cond.classLink own ik "java/lang/IndexOutOfBoundsException" ∈ lw_all) (hlk0 : Cond.methodLink own ic ⟨"java/lang/IndexOutOfBoundsException", "<init>", "()V"⟩ ∈ lw_all) (hI : ga_I g h s H locs) (hsize : ls.size = c.maxLocals) (d0 : decode cc pc = .ok (.new ik, 3)) (d3 : decode cc (pc + 3) = .ok (.dup, 1)) (d4 : decode cc (pc + 4) = .ok (.invokespecial ic, 3)) (d7 : decode cc (pc + 7) = .ok (.athrow, 1)) (hout : ∀ x ∈ c.exceptionTable.toList, covers x (pc + 7) = false) (hRf : 5 < R.frames) (hRl : (rest.map fun v => v.category).sum + 81 ≤ R.locals) (hlk : meth.locks = false) (hbc : cells + bc ≤ R.cells) (hbs : slots + bs ≤ R.slots) (h1 : 1 ≤ bc) (h2 : 6 ≤ bs) (hp : ∀ q : Nat, xp "java/lang/IndexOutOfBoundsException" q h) (e1 : R.cells = mc := by rfl) (e2 : R.slots = ms := by rfl) : W p l e R s m args below meth c H locs cells slots (vx_MQ below Qc (ga_X g xp) args s mc ms (ga_A g)) (F0 m pc ls rest) := by
  refine vx_throw0 (names := ["java/lang/RuntimeException", "java/lang/Exception"]) hx hb hst hown (by decide +kernel) (by decide +kernel) (hts _ hcl) (hts _ q132) (ga_atoms hts hI (ga_ow_ioobe hlk0)) (ga_otok (ga_ow_ioobe hlk0)) hI.2.1.2.2.2.2.1 hI.2.1.2.2.2.2.2.1 hI.2.2 hsize d0 d3 d4 d7 hout hRf (by simpa using hRl) (by omega) (by omega) hlk (fun q t hA hz hk => ⟨("java/lang/IndexOutOfBoundsException", q, h), hp q, ⟨rfl, rfl, ?_⟩, Nat.le_trans hI.2.2.1 hz, fun a z1 z2 => ?_⟩) hI.2.2.2.2 (by omega) (by omega)
  · obtain ⟨L, hL, hP, hD⟩ := hI.1
    exact ⟨L, hL, hP.kept (fun k x hx => hk x.1 (hP k x hx).lt), hD⟩
  · rw [hk a (Nat.lt_of_lt_of_le z1 hI.2.2.1)]
    exact hI.2.2.2.1 a z1 z2
theorem ga_thr_ise {Qc : Array Value → State → Outcome → State → Prop} {xp : String → Nat → ga_H → Prop} (hx : p.tables.exec = Jvm.exec) (hb : c.code = cc) (hst : l.stackTraces = false) (hts : ∀ w ∈ lw_all, w.before args s = true) (hown : s.vm.findClass own = some m.cls) (hcl : Cond.classLink own ik "java/lang/IllegalStateException" ∈ lw_all) (hlk0 : Cond.methodLink own ic ⟨"java/lang/IllegalStateException", "<init>", "()V"⟩ ∈ lw_all) (hI : ga_I g h s H locs) (hsize : ls.size = c.maxLocals) (d0 : decode cc pc = .ok (.new ik, 3)) (d3 : decode cc (pc + 3) = .ok (.dup, 1)) (d4 : decode cc (pc + 4) = .ok (.invokespecial ic, 3)) (d7 : decode cc (pc + 7) = .ok (.athrow, 1)) (hout : ∀ x ∈ c.exceptionTable.toList, covers x (pc + 7) = false) (hRf : 5 < R.frames) (hRl : (rest.map fun v => v.category).sum + 81 ≤ R.locals) (hlk : meth.locks = false) (hbc : cells + bc ≤ R.cells) (hbs : slots + bs ≤ R.slots) (h1 : 1 ≤ bc) (h2 : 6 ≤ bs) (hp : ∀ q : Nat, xp "java/lang/IllegalStateException" q h) (e1 : R.cells = mc := by rfl) (e2 : R.slots = ms := by rfl) : W p l e R s m args below meth c H locs cells slots (vx_MQ below Qc (ga_X g xp) args s mc ms (ga_A g)) (F0 m pc ls rest) := by
  refine vx_throw0 (names := ["java/lang/RuntimeException", "java/lang/Exception"]) hx hb hst hown (by decide +kernel) (by decide +kernel) (hts _ hcl) (hts _ q158) (ga_atoms hts hI (ga_ow_ise hlk0)) (ga_otok (ga_ow_ise hlk0)) hI.2.1.2.2.2.2.1 hI.2.1.2.2.2.2.2.1 hI.2.2 hsize d0 d3 d4 d7 hout hRf (by simpa using hRl) (by omega) (by omega) hlk (fun q t hA hz hk => ⟨("java/lang/IllegalStateException", q, h), hp q, ⟨rfl, rfl, ?_⟩, Nat.le_trans hI.2.2.1 hz, fun a z1 z2 => ?_⟩) hI.2.2.2.2 (by omega) (by omega)
  · obtain ⟨L, hL, hP, hD⟩ := hI.1
    exact ⟨L, hL, hP.kept (fun k x hx => hk x.1 (hP k x hx).lt), hD⟩
  · rw [hk a (Nat.lt_of_lt_of_le z1 hI.2.2.1)]
    exact hI.2.2.2.1 a z1 z2
theorem ga_thr_nsee {Qc : Array Value → State → Outcome → State → Prop} {xp : String → Nat → ga_H → Prop} (hx : p.tables.exec = Jvm.exec) (hb : c.code = cc) (hst : l.stackTraces = false) (hts : ∀ w ∈ lw_all, w.before args s = true) (hown : s.vm.findClass own = some m.cls) (hcl : Cond.classLink own ik "java/util/NoSuchElementException" ∈ lw_all) (hlk0 : Cond.methodLink own ic ⟨"java/util/NoSuchElementException", "<init>", "()V"⟩ ∈ lw_all) (hI : ga_I g h s H locs) (hsize : ls.size = c.maxLocals) (d0 : decode cc pc = .ok (.new ik, 3)) (d3 : decode cc (pc + 3) = .ok (.dup, 1)) (d4 : decode cc (pc + 4) = .ok (.invokespecial ic, 3)) (d7 : decode cc (pc + 7) = .ok (.athrow, 1)) (hout : ∀ x ∈ c.exceptionTable.toList, covers x (pc + 7) = false) (hRf : 5 < R.frames) (hRl : (rest.map fun v => v.category).sum + 81 ≤ R.locals) (hlk : meth.locks = false) (hbc : cells + bc ≤ R.cells) (hbs : slots + bs ≤ R.slots) (h1 : 1 ≤ bc) (h2 : 6 ≤ bs) (hp : ∀ q : Nat, xp "java/util/NoSuchElementException" q h) (e1 : R.cells = mc := by rfl) (e2 : R.slots = ms := by rfl) : W p l e R s m args below meth c H locs cells slots (vx_MQ below Qc (ga_X g xp) args s mc ms (ga_A g)) (F0 m pc ls rest) := by
  refine vx_throw0 (names := ["java/lang/RuntimeException", "java/lang/Exception"]) hx hb hst hown (by decide +kernel) (by decide +kernel) (hts _ hcl) (hts _ q129) (ga_atoms hts hI (ga_ow_nsee hlk0)) (ga_otok (ga_ow_nsee hlk0)) hI.2.1.2.2.2.2.1 hI.2.1.2.2.2.2.2.1 hI.2.2 hsize d0 d3 d4 d7 hout hRf (by simpa using hRl) (by omega) (by omega) hlk (fun q t hA hz hk => ⟨("java/util/NoSuchElementException", q, h), hp q, ⟨rfl, rfl, ?_⟩, Nat.le_trans hI.2.2.1 hz, fun a z1 z2 => ?_⟩) hI.2.2.2.2 (by omega) (by omega)
  · obtain ⟨L, hL, hP, hD⟩ := hI.1
    exact ⟨L, hL, hP.kept (fun k x hx => hk x.1 (hP k x hx).lt), hD⟩
  · rw [hk a (Nat.lt_of_lt_of_le z1 hI.2.2.1)]
    exact hI.2.2.2.1 a z1 z2
theorem ga_thr_are {Qc : Array Value → State → Outcome → State → Prop} {xp : String → Nat → ga_H → Prop} (hx : p.tables.exec = Jvm.exec) (hb : c.code = cc) (hst : l.stackTraces = false) (hts : ∀ w ∈ lw_all, w.before args s = true) (hown : s.vm.findClass own = some m.cls) (hcl : Cond.classLink own ik "java/lang/ArithmeticException" ∈ lw_all) (hlk0 : Cond.methodLink own ic ⟨"java/lang/ArithmeticException", "<init>", "()V"⟩ ∈ lw_all) (hI : ga_I g h s H locs) (hsize : ls.size = c.maxLocals) (d0 : decode cc pc = .ok (.new ik, 3)) (d3 : decode cc (pc + 3) = .ok (.dup, 1)) (d4 : decode cc (pc + 4) = .ok (.invokespecial ic, 3)) (d7 : decode cc (pc + 7) = .ok (.athrow, 1)) (hout : ∀ x ∈ c.exceptionTable.toList, covers x (pc + 7) = false) (hRf : 5 < R.frames) (hRl : (rest.map fun v => v.category).sum + 81 ≤ R.locals) (hlk : meth.locks = false) (hbc : cells + bc ≤ R.cells) (hbs : slots + bs ≤ R.slots) (h1 : 1 ≤ bc) (h2 : 6 ≤ bs) (hp : ∀ q : Nat, xp "java/lang/ArithmeticException" q h) (e1 : R.cells = mc := by rfl) (e2 : R.slots = ms := by rfl) : W p l e R s m args below meth c H locs cells slots (vx_MQ below Qc (ga_X g xp) args s mc ms (ga_A g)) (F0 m pc ls rest) := by
  refine vx_throw0 (names := ["java/lang/RuntimeException", "java/lang/Exception"]) hx hb hst hown (by decide +kernel) (by decide +kernel) (hts _ hcl) (hts _ q157) (ga_atoms hts hI (ga_ow_are hlk0)) (ga_otok (ga_ow_are hlk0)) hI.2.1.2.2.2.2.1 hI.2.1.2.2.2.2.2.1 hI.2.2 hsize d0 d3 d4 d7 hout hRf (by simpa using hRl) (by omega) (by omega) hlk (fun q t hA hz hk => ⟨("java/lang/ArithmeticException", q, h), hp q, ⟨rfl, rfl, ?_⟩, Nat.le_trans hI.2.2.1 hz, fun a z1 z2 => ?_⟩) hI.2.2.2.2 (by omega) (by omega)
  · obtain ⟨L, hL, hP, hD⟩ := hI.1
    exact ⟨L, hL, hP.kept (fun k x hx => hk x.1 (hP k x hx).lt), hD⟩
  · rw [hk a (Nat.lt_of_lt_of_le z1 hI.2.2.1)]
    exact hI.2.2.2.1 a z1 z2
theorem ga_mk_uoe (hx : p.tables.exec = Jvm.exec) (hb : c.code = cc) (hst : l.stackTraces = false) (hts : ∀ w ∈ lw_all, w.before args s = true) (hown : s.vm.findClass own = some m.cls) (hcl : Cond.classLink own ik "java/lang/UnsupportedOperationException" ∈ lw_all) (hlk0 : Cond.methodLink own ic ⟨"java/lang/UnsupportedOperationException", "<init>", "()V"⟩ ∈ lw_all) (hI : ga_I g h s H locs) (hsize : ls.size = c.maxLocals) (d0 : decode cc pc = .ok (.new ik, 3)) (d3 : decode cc (pc + 3) = .ok (.dup, 1)) (d4 : decode cc (pc + 4) = .ok (.invokespecial ic, 3)) (hRf : 5 < R.frames) (hRl : (rest.map fun v => v.category).sum + 81 ≤ R.locals) (hbc : cells + bc ≤ R.cells) (hbs : slots + bs ≤ R.slots) (h1 : 1 ≤ bc) (h2 : 6 ≤ bs) (kk : ∀ (q : Nat) (H : Heap) (cells slots : Nat), h q = none → ga_I g (ga_set h q (ga_O 28 [])) s H locs → cells + (bc - 1) ≤ R.cells → slots + (bs - 6) ≤ R.slots → W p l e R s m args below meth c H locs cells slots Q (F0 m (pc + 7) ls (.ref q :: rest))) : W p l e R s m args below meth c H locs cells slots Q (F0 m pc ls rest) := by
  obtain ⟨ws, hP, hD, hset⟩ := hI.1.mk1
  refine vx_make0 (names := ["java/lang/RuntimeException", "java/lang/Exception"]) (ci := 28) (T0 := TJ38) hx hb hst hown (by decide +kernel) (by decide +kernel) (hts _ hcl) (hts _ q151) (ga_atoms hts hI (ga_ow_uoe hlk0)) (ga_otok (ga_ow_uoe hlk0)) hI.2.1.2.2.2.2.1 hI.2.1.2.2.2.2.2.1 hI.2.2 hsize d0 d3 d4 hI.2.1.1.1 hP hD (fun q z => Nat.le_trans hI.2.1.2.2.2.1 z) rfl hRf (by simpa using hRl) (by omega) (by omega) (fun q H1 k1 k2 k3 => ?_)
  obtain ⟨f1, f2, f3⟩ := hset H1 q (ga_O 28 []) k1 k2
  exact kk q H1 (cells + 1) (slots + 6) f1 ⟨f3, hI.2.1, k3⟩ (by omega) (by omega)
end GT
