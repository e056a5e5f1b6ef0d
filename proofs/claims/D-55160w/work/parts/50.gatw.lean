/-! the reference's object within the system's map: its five cells, and calls of its methods -/
abbrev ga_Z : Type := Nat × Nat × Nat × Nat × Nat
def ga_gz (g : ga_G) (z : ga_Z) : zt_G := (((fun _ => g.1.1.1 30, fun _ => g.1.1.2 30), g.1.2 0, g.1.2 2), z)
def ga_zfs (z : ga_Z) (S : zt_S) : List Value := [.int (S 0 0), .ref z.2.1, .int (S 0 2), .int (S 0 3), .int (S 0 4), .int (S 0 5), .int (S 0 6), .ref z.2.2.1, .int (S 0 8), .ref z.2.2.2.1, .int (S 0 10), .int (S 0 11), .int (S 0 12), .int (S 0 13), .ref z.2.2.2.2, .int (S 0 15)]
def ga_Tw (z : ga_Z) (h : ga_H) (S : zt_S) : Prop := h z.1 = some (ga_O 30 (ga_zfs z S)) ∧ h z.2.1 = some (ga_Ai 3810 (S 1)) ∧ h z.2.2.1 = some (ga_Ac 100 (S 2)) ∧ h z.2.2.2.1 = some (ga_Ac 60 (S 3)) ∧ h z.2.2.2.2 = some (ga_Ai 244 (S 4))
def ga_tws (z : ga_Z) (h : ga_H) (S : zt_S) : ga_H := fun b => if b = z.1 then some (ga_O 30 (ga_zfs z S)) else if b = z.2.1 then some (ga_Ai 3810 (S 1)) else if b = z.2.2.1 then some (ga_Ac 100 (S 2)) else if b = z.2.2.2.1 then some (ga_Ac 60 (S 3)) else if b = z.2.2.2.2 then some (ga_Ai 244 (S 4)) else h b
/-- the five lie apart -/
theorem ga_Tw.apart {z : ga_Z} {h : ga_H} {S : zt_S} (T : ga_Tw z h S) : z.1 ≠ z.2.1 ∧ z.1 ≠ z.2.2.1 ∧ z.1 ≠ z.2.2.2.1 ∧ z.1 ≠ z.2.2.2.2 ∧ z.2.1 ≠ z.2.2.1 ∧ z.2.1 ≠ z.2.2.2.1 ∧ z.2.1 ≠ z.2.2.2.2 ∧ z.2.2.1 ≠ z.2.2.2.1 ∧ z.2.2.1 ≠ z.2.2.2.2 ∧ z.2.2.2.1 ≠ z.2.2.2.2 := by
  obtain ⟨h0, h1, h2, h3, h4⟩ := T
  refine ⟨fun e => ?_, fun e => ?_, fun e => ?_, fun e => ?_, fun e => ?_, fun e => ?_, fun e => ?_, fun e => ?_, fun e => ?_, fun e => ?_⟩
  · rw [e, h1] at h0; injection h0 with h0; injection h0
  · rw [e, h2] at h0; injection h0 with h0; injection h0
  · rw [e, h3] at h0; injection h0 with h0; injection h0
  · rw [e, h4] at h0; injection h0 with h0; injection h0
  · rw [e, h2] at h1; injection h1 with h1; injection h1 with h1; injection h1 with h1; cases h1
  · rw [e, h3] at h1; injection h1 with h1; injection h1 with h1; injection h1 with h1; cases h1
  · rw [e, h4] at h1; injection h1 with h1; injection h1 with h1; injection h1 with _ h1; injection h1 with h1; cases h1
  · rw [e, h3] at h2; injection h2 with h2; injection h2 with h2; injection h2 with _ h2; injection h2 with h2; cases h2
  · rw [e, h4] at h2; injection h2 with h2; injection h2 with h2; injection h2 with h2; cases h2
  · rw [e, h4] at h3; injection h3 with h3; injection h3 with h3; injection h3 with h3; cases h3
theorem ga_tws_tw {z : ga_Z} {h : ga_H} {S : zt_S} (T : ga_Tw z h S) (S2 : zt_S) : ga_Tw z (ga_tws z h S2) S2 := by
  obtain ⟨a1, a2, a3, a4, a5, a6, a7, a8, a9, a10⟩ := T.apart
  refine ⟨?_, ?_, ?_, ?_, ?_⟩ <;> simp [ga_tws, a1.symm, a2.symm, a3.symm, a4.symm, a5.symm, a6.symm, a7.symm, a8.symm, a9.symm, a10.symm]
theorem ga_tws_o {z : ga_Z} {h : ga_H} {S : zt_S} {b : Nat} (h1 : b ≠ z.1) (h2 : b ≠ z.2.1) (h3 : b ≠ z.2.2.1) (h4 : b ≠ z.2.2.2.1) (h5 : b ≠ z.2.2.2.2) : ga_tws z h S b = h b := by
  simp [ga_tws, h1, h2, h3, h4, h5]
theorem ga_pl_at {L : List Nat} {f : Nat → va_E} {k : Nat} {q : Nat × va_E} (h : (va_pl L f)[k]? = some q) : L[k]? = some q.1 ∧ q.2 = f q.1 := by
  unfold va_pl at h
  rw [List.getElem?_map] at h
  cases hL : L[k]? with
  | none => rw [hL] at h; cases h
  | some a => rw [hL] at h; cases h; exact ⟨rfl, rfl⟩
theorem ga_D_re {A : Nat → Prop} {L : List Nat} {f f' : Nat → va_E} (h : va_D A (va_pl L f)) : va_D A (va_pl L f') := by
  have key : ∀ (k : Nat) (q : Nat × va_E), (va_pl L f')[k]? = some q → (va_pl L f)[k]? = some (q.1, f q.1) := by
    intro k q hq
    have := (ga_pl_at hq).1
    unfold va_pl
    rw [List.getElem?_map, this]
    rfl
  exact ⟨fun i j p q h1 h2 e => h.1 i j _ _ (key i p h1) (key j q h2) e, fun k q hq => h.2 k (q.1, f q.1) (key k q hq)⟩
theorem ga_Tw.to {g : ga_G} {z : ga_Z} {h : ga_H} {S : zt_S} {s U : State} {H : Heap} {locs : List Loc} (hI : ga_I g h s H locs) (T : ga_Tw z h S) (hU : U.heap = H) (hA : s.vm.Alike U.vm) : zt_B (ga_gz g z) S U := by
  obtain ⟨t0, t1, t2, t3, t4⟩ := T
  obtain ⟨a1, a2, a3, a4, a5, a6, a7, a8, a9, a10⟩ := ga_Tw.apart ⟨t0, t1, t2, t3, t4⟩
  refine ⟨fun k q hk => ?_, va_K.moved hA ⟨fun c q hq => ?_, fun k q hq => ?_⟩, ⟨fun i j p q hi hj e => ?_, fun k q hk => ?_⟩⟩
  · rw [hU]
    match k, hk with
    | 0, hk =>
      cases hk
      obtain ⟨r, r1, r2⟩ := hI.1.get t0 0 _ rfl
      cases r1
      exact ⟨_, rfl, r2⟩
    | 1, hk => cases hk; exact hI.1.get t1 0 _ rfl
    | 2, hk => cases hk; exact hI.1.get t2 0 _ rfl
    | 3, hk => cases hk; exact hI.1.get t3 0 _ rfl
    | 4, hk => cases hk; exact hI.1.get t4 0 _ rfl
    | k + 5, hk => simp [zt_ws] at hk
  · match c, hq with
    | 0, hq => cases hq; exact hI.2.1.1.1.1 30 _ rfl
    | c + 1, hq => simp [zt_cl] at hq
  · match k, hq with
    | 0, hq => cases hq; exact hI.2.1.1.1.2 0 _ rfl
    | 1, hq => cases hq; exact hI.2.1.1.1.2 2 _ rfl
    | k + 2, hq => simp [zt_ty] at hq
  · match i, j, hi, hj with
    | 0, 0, _, _ => rfl
    | 1, 1, _, _ => rfl
    | 2, 2, _, _ => rfl
    | 3, 3, _, _ => rfl
    | 4, 4, _, _ => rfl
    | 0, 1, hi, hj => cases hi; cases hj; exact absurd e a1
    | 0, 2, hi, hj => cases hi; cases hj; exact absurd e a2
    | 0, 3, hi, hj => cases hi; cases hj; exact absurd e a3
    | 0, 4, hi, hj => cases hi; cases hj; exact absurd e a4
    | 1, 2, hi, hj => cases hi; cases hj; exact absurd e a5
    | 1, 3, hi, hj => cases hi; cases hj; exact absurd e a6
    | 1, 4, hi, hj => cases hi; cases hj; exact absurd e a7
    | 2, 3, hi, hj => cases hi; cases hj; exact absurd e a8
    | 2, 4, hi, hj => cases hi; cases hj; exact absurd e a9
    | 3, 4, hi, hj => cases hi; cases hj; exact absurd e a10
    | 1, 0, hi, hj => cases hi; cases hj; exact absurd e.symm a1
    | 2, 0, hi, hj => cases hi; cases hj; exact absurd e.symm a2
    | 3, 0, hi, hj => cases hi; cases hj; exact absurd e.symm a3
    | 4, 0, hi, hj => cases hi; cases hj; exact absurd e.symm a4
    | 2, 1, hi, hj => cases hi; cases hj; exact absurd e.symm a5
    | 3, 1, hi, hj => cases hi; cases hj; exact absurd e.symm a6
    | 4, 1, hi, hj => cases hi; cases hj; exact absurd e.symm a7
    | 3, 2, hi, hj => cases hi; cases hj; exact absurd e.symm a8
    | 4, 2, hi, hj => cases hi; cases hj; exact absurd e.symm a9
    | 4, 3, hi, hj => cases hi; cases hj; exact absurd e.symm a10
    | i + 5, _, hi, _ => simp [zt_ws] at hi
    | _, j + 5, _, hj => simp [zt_ws] at hj
  · match k, hk with
    | 0, hk => cases hk; exact Or.inl rfl
    | 1, hk => cases hk; exact Or.inr (Or.inl rfl)
    | 2, hk => cases hk; exact Or.inr (Or.inr (Or.inl rfl))
    | 3, hk => cases hk; exact Or.inr (Or.inr (Or.inr (Or.inl rfl)))
    | 4, hk => cases hk; exact Or.inr (Or.inr (Or.inr (Or.inr rfl)))
    | k + 5, hk => simp [zt_ws] at hk
theorem ga_Tw.back {g : ga_G} {z : ga_Z} {h : ga_H} {S S2 : zt_S} {H H1 : Heap} (hR : ga_R g h H) (T : ga_Tw z h S) (hP : va_P (ga_gz g z).1.1 zt_cl (zt_ws (ga_gz g z) S2) H1) (hk : ∀ q : Nat, q < H.size → ¬ zt_A (ga_gz g z) q → H1[q]? = H[q]?) : ga_R g (ga_tws z h S2) H1 := by
  obtain ⟨a1, a2, a3, a4, a5, a6, a7, a8, a9, a10⟩ := T.apart
  obtain ⟨u0, u1, u2, u3, u4⟩ := ga_tws_tw T S2
  obtain ⟨L, hL, hP0, hD⟩ := hR
  refine ⟨L, fun b => ?_, fun k q hq => ?_, ga_D_re hD⟩
  · rw [hL b]
    by_cases e0 : b = z.1
    · subst e0; rw [u0, T.1]; simp
    by_cases e1 : b = z.2.1
    · subst e1; rw [u1, T.2.1]; simp
    by_cases e2 : b = z.2.2.1
    · subst e2; rw [u2, T.2.2.1]; simp
    by_cases e3 : b = z.2.2.2.1
    · subst e3; rw [u3, T.2.2.2.1]; simp
    by_cases e4 : b = z.2.2.2.2
    · subst e4; rw [u4, T.2.2.2.2]; simp
    rw [ga_tws_o e0 e1 e2 e3 e4]
  · obtain ⟨b, w⟩ := q
    obtain ⟨f1, f2⟩ := ga_pl_at hq
    dsimp only at f1 f2
    subst f2
    by_cases e0 : b = z.1
    · subst e0
      rw [ga_f_s u0]
      obtain ⟨r, r1, r2⟩ := hP 0 _ rfl
      cases r1
      exact ⟨_, rfl, r2⟩
    by_cases e1 : b = z.2.1
    · subst e1; rw [ga_f_s u1]; exact hP 1 _ rfl
    by_cases e2 : b = z.2.2.1
    · subst e2; rw [ga_f_s u2]; exact hP 2 _ rfl
    by_cases e3 : b = z.2.2.2.1
    · subst e3; rw [ga_f_s u3]; exact hP 3 _ rfl
    by_cases e4 : b = z.2.2.2.2
    · subst e4; rw [ga_f_s u4]; exact hP 4 _ rfl
    have hb : (va_pl L (ga_f g h))[k]? = some (b, ga_f g h b) := by
      unfold va_pl
      rw [List.getElem?_map, f1]
      rfl
    have h9 := hP0 k _ hb
    have e9 : ga_f g (ga_tws z h S2) b = ga_f g h b := by unfold ga_f; rw [ga_tws_o e0 e1 e2 e3 e4]
    rw [e9]
    exact h9.kept (hk b h9.lt (fun q => by rcases q with q | q | q | q | q <;> contradiction))
theorem ga_Tw.inA {g : ga_G} {z : ga_Z} {h : ga_H} {S : zt_S} {s : State} {H : Heap} {locs : List Loc} (hI : ga_I g h s H locs) (T : ga_Tw z h S) {q : Nat} (w : zt_A (ga_gz g z) q) : ga_A g q := by
  obtain ⟨t0, t1, t2, t3, t4⟩ := T
  rcases w with w | w | w | w | w
  · rw [show q = z.1 from w]; exact hI.1.in t0
  · rw [show q = z.2.1 from w]; exact hI.1.in t1
  · rw [show q = z.2.2.1 from w]; exact hI.1.in t2
  · rw [show q = z.2.2.2.1 from w]; exact hI.1.in t3
  · rw [show q = z.2.2.2.2 from w]; exact hI.1.in t4
theorem ga_preT {g : ga_G} {z : ga_Z} {h : ga_H} {S : zt_S} {s : State} {H : Heap} {locs : List Loc} (hI : ga_I g h s H locs) (T : ga_Tw z h S) {As As' : List Value} (e : As' = .ref z.1 :: As) : PreV s H RX5 z.1 (va_Pc As' (zt_B (ga_gz g z) S)) As := by
  subst e
  exact ⟨zt_blind, va_recv hI.2.1.1.1 (hI.get (ga_at.h T.1)) (q0 := 0) (ci := 30) rfl rfl, fun U hU hW => ⟨rfl, T.to hI hU hW.alike⟩⟩
section GCT
variable {p : Program} {l : Launch} {e : Env} {R : Room} {s : State} {m : MethodId} {args : Array Value} {below : List Frame} {meth : Method} {c : Code} {H : Heap} {locs : List Loc} {cells slots : Nat} {Q : State → Prop}
variable {pc : Nat} {ls : Array Slot} {rest st : List Value} {g : ga_G} {h : ga_H} {bc bs : Nat} {z : ga_Z} {S : zt_S} {a : Array Value}
theorem ga_callTi {post : Int32 → zt_S → Prop} (hr : va_Run p l e R s m args below meth c H locs cells slots 0 0 (F0 m pc ls st) rest (va_Qi post (zt_B (ga_gz g z)) (zt_A (ga_gz g z)) a) (zt_A (ga_gz g z))) (hI : ga_I g h s H locs) (T : ga_Tw z h S) (hbc : cells + bc ≤ R.cells) (hbs : slots + bs ≤ R.slots)
    (kk : ∀ (r : Int32) (S2 : zt_S) (H : Heap) (locs : List Loc) (cells slots : Nat), post r S2 → ga_I g (ga_tws z h S2) s H locs → cells + bc ≤ R.cells → slots + bs ≤ R.slots → W p l e R s m args below meth c H locs cells slots Q (F0 m (pc + 3) ls (.int r :: rest))) : W p l e R s m args below meth c H locs cells slots Q (F0 m pc ls st) :=
  va_calli hr hI.2.2 (fun q _ w => T.inA hI w) (fun q w => T.inA hI w) (fun r u t H1 locs1 ht hvm hp hB hz hk hS => kk r u H1 locs1 _ _ hp ⟨T.back hI.1 (by have w := hB.1; rw [ht] at w; exact w) hk, hI.2.1, hS⟩ (by omega) (by omega))
theorem ga_callTf {post : UInt32 → zt_S → Prop} (hr : va_Run p l e R s m args below meth c H locs cells slots 0 0 (F0 m pc ls st) rest (va_Qf post (zt_B (ga_gz g z)) (zt_A (ga_gz g z)) a) (zt_A (ga_gz g z))) (hI : ga_I g h s H locs) (T : ga_Tw z h S) (hbc : cells + bc ≤ R.cells) (hbs : slots + bs ≤ R.slots)
    (kk : ∀ (r : UInt32) (S2 : zt_S) (H : Heap) (locs : List Loc) (cells slots : Nat), post r S2 → ga_I g (ga_tws z h S2) s H locs → cells + bc ≤ R.cells → slots + bs ≤ R.slots → W p l e R s m args below meth c H locs cells slots Q (F0 m (pc + 3) ls (.float r :: rest))) : W p l e R s m args below meth c H locs cells slots Q (F0 m pc ls st) :=
  va_callf hr hI.2.2 (fun q _ w => T.inA hI w) (fun q w => T.inA hI w) (fun r u t H1 locs1 ht hvm hp hB hz hk hS => kk r u H1 locs1 _ _ hp ⟨T.back hI.1 (by have w := hB.1; rw [ht] at w; exact w) hk, hI.2.1, hS⟩ (by omega) (by omega))
theorem ga_callTd {post : UInt64 → zt_S → Prop} (hr : va_Run p l e R s m args below meth c H locs cells slots 0 0 (F0 m pc ls st) rest (va_Qd post (zt_B (ga_gz g z)) (zt_A (ga_gz g z)) a) (zt_A (ga_gz g z))) (hI : ga_I g h s H locs) (T : ga_Tw z h S) (hbc : cells + bc ≤ R.cells) (hbs : slots + bs ≤ R.slots)
    (kk : ∀ (r : UInt64) (S2 : zt_S) (H : Heap) (locs : List Loc) (cells slots : Nat), post r S2 → ga_I g (ga_tws z h S2) s H locs → cells + bc ≤ R.cells → slots + bs ≤ R.slots → W p l e R s m args below meth c H locs cells slots Q (F0 m (pc + 3) ls (.double r :: rest))) : W p l e R s m args below meth c H locs cells slots Q (F0 m pc ls st) :=
  va_calld hr hI.2.2 (fun q _ w => T.inA hI w) (fun q w => T.inA hI w) (fun r u t H1 locs1 ht hvm hp hB hz hk hS => kk r u H1 locs1 _ _ hp ⟨T.back hI.1 (by have w := hB.1; rw [ht] at w; exact w) hk, hI.2.1, hS⟩ (by omega) (by omega))
end GCT
