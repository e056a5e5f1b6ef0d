set_option maxRecDepth 100000
def zw_thrown (S : zt_S) (post : Int32 → zt_S → Prop) : Prop :=
  post (S 0 0) S
set_option maxHeartbeats 4000000 in
theorem zm_thrown (l : Launch) (g : zt_G) (S : zt_S) (post : Int32 → zt_S → Prop) (hw : zw_thrown S post) : Met l yX5_thrown (ws_ yX5_thrown cX5_thrown 1 (some .int)) ({ frames := 0, cells := 0, slots := 0, locals := 0 } : Room) (va_Pc (.ref g.2.1 :: []) (zt_B g S)) (va_Qi post (zt_B g) (zt_A g)) 0 0 (zt_A g) := by
  refine zt_met (by decide) rfl (Nat.le_of_ble_eq_true rfl) (fun p e s m below meth c ls hC hI hl => ?_)
  generalize (Value.ref g.2.1 :: ([] : List Value)).toArray = args at hC ⊢
  obtain ⟨hx, hb, hml, hown, hts, hr, hlk⟩ := hC
  have hl : lv_has ls 1 [(0, .ref g.2.1)] := hl
  unfold zw_thrown at hw
  obtain ⟨H, eH⟩ : ∃ z, z = s.heap := ⟨_, rfl⟩
  obtain ⟨locs, elo⟩ : ∃ z : List Loc, z = [] := ⟨_, rfl⟩
  rw [← eH, ← elo] at hI ⊢
  refine lv_aload_n hx hb dX5_thrown_0 rfl (lv_at hl 0 rfl) ?_
  refine zt_get hx hb hts hown hI 0 (v := .int (S 0 0)) (by decide) q3632 rfl rfl dX5_thrown_1 ?_
  exact zt_iret hx hb hr hlk hI hw dX5_thrown_4
theorem hdT_thrown : yX5_thrown.cls = RX5 ∧ yX5_thrown.cls ≠ "java/lang/invoke/MethodHandle" ∧ yX5_thrown.cls ≠ "java/lang/invoke/VarHandle" ∧ (parseMethodDescriptor yX5_thrown.desc).map (fun d => d.parameters.length) = some 0 := by decide +kernel
def zw_reason_13 (post : Int32 → zt_S → Prop) (t0 : Int32) (v1 : Int32) (S : zt_S) : Prop :=
  ∀ S_2 : zt_S, S_2 = zt_us S 0 0 t0 → ((S_2 0 0 = (0 : Int32) → ((v1 = (0 : Int32) → (post (S_2 0 5) S_2)) ∧ (¬ v1 = (0 : Int32) → (post (S_2 0 6) S_2)))) ∧ (¬ S_2 0 0 = (0 : Int32) → (post (0 : Int32) S_2)))
set_option maxHeartbeats 4000000 in
theorem zj_reason_13 {p : Program} {l : Launch} {e : Env} {s : State} {m : MethodId} {args : Array Value} {below : List Frame} {meth : Method} {c : Code} {H : Heap} {locs : List Loc} {ls : Array Slot} (g : zt_G) (post : Int32 → zt_S → Prop) (t0 : Int32) (v1 : Int32) (S : zt_S) (hC : zt_C p s m args meth c cX5_reason 2 (some .int)) (hw : zw_reason_13 post t0 v1 S) (hI : zt_I g S s H locs) (hl : lv_has ls 2 [(0, .ref g.2.1), (1, .int v1)]) : W p l e ({ frames := 0, cells := 0, slots := 0, locals := 0 } : Room) s m args below meth c H locs 0 0 (MQ below (va_Qi post (zt_B g) (zt_A g)) args s 0 0 (zt_A g)) (F0 m 13 ls [.int t0, .ref g.2.1]) := by
  obtain ⟨hx, hb, hml, hown, hts, hr, hlk⟩ := hC
  unfold zw_reason_13 at hw
  refine zt_put hx hb hts hown hI 0 (v := t0) (ty := .int) (by decide) q3632 rfl rfl (by decide +kernel) rfl rfl rfl dX5_reason_13 (fun H locs hI => ?_)
  obtain ⟨S_2, eS_2⟩ : ∃ z, z = zt_us S 0 0 t0 := ⟨_, rfl⟩
  rw [← eS_2] at hI
  have hw := hw S_2 eS_2
  refine lv_aload_n hx hb dX5_reason_16 rfl (lv_at hl 0 rfl) ?_
  refine zt_get hx hb hts hown hI 0 (v := .int (S_2 0 0)) (by decide) q3632 rfl rfl dX5_reason_17 ?_
  refine lv_if_eq (tgt := 27) hx hb dX5_reason_20 (by decide) (fun hc_3 => ?_) (fun hc_3 => ?_)
  · have hw := hw.1 hc_3
    refine lv_iload_n hx hb dX5_reason_27 rfl (lv_at hl 1 rfl) ?_
    refine lv_if_eq (tgt := 38) hx hb dX5_reason_28 (by decide) (fun hc_4 => ?_) (fun hc_4 => ?_)
    · have hw := hw.1 hc_4
      refine lv_aload_n hx hb dX5_reason_38 rfl (lv_at hl 0 rfl) ?_
      refine zt_get hx hb hts hown hI 5 (v := .int (S_2 0 5)) (by decide) q3637 rfl rfl dX5_reason_39 ?_
      exact zt_iret hx hb hr hlk hI hw dX5_reason_42
    · have hw := hw.2 hc_4
      refine lv_aload_n hx hb dX5_reason_31 rfl (lv_at hl 0 rfl) ?_
      refine zt_get hx hb hts hown hI 6 (v := .int (S_2 0 6)) (by decide) q3638 rfl rfl dX5_reason_32 ?_
      refine lv_goto (tgt := 42) hx hb dX5_reason_35 (by decide) ?_
      exact zt_iret hx hb hr hlk hI hw dX5_reason_42
  · have hw := hw.2 hc_3
    refine lv_iconst (v := 0) hx hb dX5_reason_23 (by decide) ?_
    refine lv_goto (tgt := 42) hx hb dX5_reason_24 (by decide) ?_
    exact zt_iret hx hb hr hlk hI hw dX5_reason_42
def zw_reason (p1 : Int32) (S : zt_S) (post : Int32 → zt_S → Prop) : Prop :=
  (¬ S 0 5 = (0 : Int32) → (zw_reason_13 post (0 : Int32) p1 S)) ∧ (S 0 5 = (0 : Int32) → (zw_reason_13 post (1 : Int32) p1 S))
set_option maxHeartbeats 4000000 in
theorem zm_reason (l : Launch) (g : zt_G) (p1 : Int32) (S : zt_S) (post : Int32 → zt_S → Prop) (hw : zw_reason p1 S post) : Met l yX5_reason (ws_ yX5_reason cX5_reason 2 (some .int)) ({ frames := 0, cells := 0, slots := 0, locals := 0 } : Room) (va_Pc (.ref g.2.1 :: [.int p1]) (zt_B g S)) (va_Qi post (zt_B g) (zt_A g)) 0 0 (zt_A g) := by
  refine zt_met (by decide) rfl (Nat.le_of_ble_eq_true rfl) (fun p e s m below meth c ls hC hI hl => ?_)
  generalize (Value.ref g.2.1 :: ([.int p1] : List Value)).toArray = args at hC ⊢
  obtain ⟨hx, hb, hml, hown, hts, hr, hlk⟩ := hC
  have hl : lv_has ls 2 [(0, .ref g.2.1), (1, .int p1)] := hl
  unfold zw_reason at hw
  obtain ⟨H, eH⟩ : ∃ z, z = s.heap := ⟨_, rfl⟩
  obtain ⟨locs, elo⟩ : ∃ z : List Loc, z = [] := ⟨_, rfl⟩
  rw [← eH, ← elo] at hI ⊢
  refine lv_aload_n hx hb dX5_reason_0 rfl (lv_at hl 0 rfl) ?_
  refine lv_aload_n hx hb dX5_reason_1 rfl (lv_at hl 0 rfl) ?_
  refine zt_get hx hb hts hown hI 5 (v := .int (S 0 5)) (by decide) q3637 rfl rfl dX5_reason_2 ?_
  refine lv_if_ne (tgt := 12) hx hb dX5_reason_5 (by decide) (fun hc_1 => ?_) (fun hc_1 => ?_)
  · have hw := hw.1 hc_1
    refine lv_iconst (v := 0) hx hb dX5_reason_12 (by decide) ?_
    exact zj_reason_13 g post (0 : Int32) p1 S ⟨hx, hb, hml, hown, hts, hr, hlk⟩ hw hI (lv_sub hl [0, 1] rfl)
  · have hw := hw.2 hc_1
    refine lv_iconst (v := 1) hx hb dX5_reason_8 (by decide) ?_
    refine lv_goto (tgt := 13) hx hb dX5_reason_9 (by decide) ?_
    exact zj_reason_13 g post (1 : Int32) p1 S ⟨hx, hb, hml, hown, hts, hr, hlk⟩ hw hI (lv_sub hl [0, 1] rfl)
theorem hdT_reason : yX5_reason.cls = RX5 ∧ yX5_reason.cls ≠ "java/lang/invoke/MethodHandle" ∧ yX5_reason.cls ≠ "java/lang/invoke/VarHandle" ∧ (parseMethodDescriptor yX5_reason.desc).map (fun d => d.parameters.length) = some 1 := by decide +kernel
def zw_in (p0 : Int32) (p1 : Int32) (p2 : Int32) (post : Int32 → Prop) : Prop :=
  (p0 < p1 → (post (0 : Int32))) ∧ (¬ p0 < p1 → ((p2 < p0 → (post (0 : Int32))) ∧ (¬ p2 < p0 → (post (1 : Int32)))))
set_option maxHeartbeats 4000000 in
theorem zm_in (l : Launch) (p0 : Int32) (p1 : Int32) (p2 : Int32) (post : Int32 → Prop) (hw : zw_in p0 p1 p2 post) : Met l yX5_in (ws_ yX5_in cX5_in 3 (some .boolean)) ({ frames := 0, cells := 0, slots := 0, locals := 0 } : Room) (va_Pc [.int p0, .int p1, .int p2] (fun _ => True)) (vp_Si post) 0 0 (fun _ => False) := by
  refine zt_metS (by decide) rfl (Nat.le_of_ble_eq_true rfl) (fun p e s m below meth c ls hC hl => ?_)
  generalize (([.int p0, .int p1, .int p2] : List Value)).toArray = args at hC ⊢
  obtain ⟨hx, hb, hml, hown, hts, hr, hlk⟩ := hC
  have hl : lv_has ls 3 [(0, .int p0), (1, .int p1), (2, .int p2)] := hl
  unfold zw_in at hw
  refine lv_iload_n hx hb dX5_in_0 rfl (lv_at hl 0 rfl) ?_
  refine lv_iload_n hx hb dX5_in_1 rfl (lv_at hl 1 rfl) ?_
  refine lv_icmp_lt (tgt := 14) hx hb dX5_in_2 (by decide) (fun hc_1 => ?_) (fun hc_1 => ?_)
  · have hw := hw.1 hc_1
    refine lv_iconst (v := 0) hx hb dX5_in_14 (by decide) ?_
    exact zt_sret hx hb hr hlk rfl hw dX5_in_15
  · have hw := hw.2 hc_1
    refine lv_iload_n hx hb dX5_in_5 rfl (lv_at hl 0 rfl) ?_
    refine lv_iload_n hx hb dX5_in_6 rfl (lv_at hl 2 rfl) ?_
    refine lv_icmp_gt (tgt := 14) hx hb dX5_in_7 (by decide) (fun hc_2 => ?_) (fun hc_2 => ?_)
    · have hw := hw.1 hc_2
      refine lv_iconst (v := 0) hx hb dX5_in_14 (by decide) ?_
      exact zt_sret hx hb hr hlk rfl hw dX5_in_15
    · have hw := hw.2 hc_2
      refine lv_iconst (v := 1) hx hb dX5_in_10 (by decide) ?_
      refine lv_goto (tgt := 15) hx hb dX5_in_11 (by decide) ?_
      exact zt_sret hx hb hr hlk rfl hw dX5_in_15
theorem hdT_in : yX5_in.cls ≠ "java/lang/invoke/MethodHandle" ∧ yX5_in.cls ≠ "java/lang/invoke/VarHandle" ∧ (parseMethodDescriptor yX5_in.desc).map (fun d => d.parameters.length) = some 3 := by decide +kernel
def zw_refuses (p1 : Int32) (p2 : Int32) (p3 : Int32) (S : zt_S) (post : Int32 → zt_S → Prop) : Prop :=
  (p1 = (0 : Int32) → (zt_nar .boolean p1 ∧ post p1 S)) ∧ (¬ p1 = (0 : Int32) → (∀ S_2 : zt_S, S_2 = zt_us S 0 5 p2 → (∀ S_3 : zt_S, S_3 = zt_us S_2 0 6 p3 → (zt_nar .boolean p1 ∧ post p1 S_3))))
set_option maxHeartbeats 4000000 in
theorem zm_refuses (l : Launch) (g : zt_G) (p1 : Int32) (p2 : Int32) (p3 : Int32) (S : zt_S) (post : Int32 → zt_S → Prop) (hw : zw_refuses p1 p2 p3 S post) : Met l yX5_refuses (ws_ yX5_refuses cX5_refuses 4 (some .boolean)) ({ frames := 0, cells := 0, slots := 0, locals := 0 } : Room) (va_Pc (.ref g.2.1 :: [.int p1, .int p2, .int p3]) (zt_B g S)) (va_Qi post (zt_B g) (zt_A g)) 0 0 (zt_A g) := by
  refine zt_met (by decide) rfl (Nat.le_of_ble_eq_true rfl) (fun p e s m below meth c ls hC hI hl => ?_)
  generalize (Value.ref g.2.1 :: ([.int p1, .int p2, .int p3] : List Value)).toArray = args at hC ⊢
  obtain ⟨hx, hb, hml, hown, hts, hr, hlk⟩ := hC
  have hl : lv_has ls 4 [(0, .ref g.2.1), (1, .int p1), (2, .int p2), (3, .int p3)] := hl
  unfold zw_refuses at hw
  obtain ⟨H, eH⟩ : ∃ z, z = s.heap := ⟨_, rfl⟩
  obtain ⟨locs, elo⟩ : ∃ z : List Loc, z = [] := ⟨_, rfl⟩
  rw [← eH, ← elo] at hI ⊢
  refine lv_iload_n hx hb dX5_refuses_0 rfl (lv_at hl 1 rfl) ?_
  refine lv_if_eq (tgt := 14) hx hb dX5_refuses_1 (by decide) (fun hc_1 => ?_) (fun hc_1 => ?_)
  · have hw := hw.1 hc_1
    refine lv_iload_n hx hb dX5_refuses_14 rfl (lv_at hl 1 rfl) ?_
    exact zt_zret hx hb hr hlk hI hw.1 hw.2 dX5_refuses_15
  · have hw := hw.2 hc_1
    refine lv_aload_n hx hb dX5_refuses_4 rfl (lv_at hl 0 rfl) ?_
    refine lv_iload_n hx hb dX5_refuses_5 rfl (lv_at hl 2 rfl) ?_
    refine zt_put hx hb hts hown hI 5 (v := p2) (ty := .int) (by decide) q3637 rfl rfl (by decide +kernel) rfl rfl rfl dX5_refuses_6 (fun H locs hI => ?_)
    obtain ⟨S_2, eS_2⟩ : ∃ z, z = zt_us S 0 5 p2 := ⟨_, rfl⟩
    rw [← eS_2] at hI
    have hw := hw S_2 eS_2
    refine lv_aload_n hx hb dX5_refuses_9 rfl (lv_at hl 0 rfl) ?_
    refine lv_iload_n hx hb dX5_refuses_10 rfl (lv_at hl 3 rfl) ?_
    refine zt_put hx hb hts hown hI 6 (v := p3) (ty := .int) (by decide) q3638 rfl rfl (by decide +kernel) rfl rfl rfl dX5_refuses_11 (fun H locs hI => ?_)
    obtain ⟨S_3, eS_3⟩ : ∃ z, z = zt_us S_2 0 6 p3 := ⟨_, rfl⟩
    rw [← eS_3] at hI
    have hw := hw S_3 eS_3
    refine lv_iload_n hx hb dX5_refuses_14 rfl (lv_at hl 1 rfl) ?_
    exact zt_zret hx hb hr hlk hI hw.1 hw.2 dX5_refuses_15
theorem hdT_refuses : yX5_refuses.cls = RX5 ∧ yX5_refuses.cls ≠ "java/lang/invoke/MethodHandle" ∧ yX5_refuses.cls ≠ "java/lang/invoke/VarHandle" ∧ (parseMethodDescriptor yX5_refuses.desc).map (fun d => d.parameters.length) = some 3 := by decide +kernel
def zw_copies (p1 : Int32) (p2 : Int32) (S : zt_S) (post : zt_S → Prop) : Prop :=
  ∃ (In_1 : Int32 → zt_S → Prop) (mu_1 : Int32 → zt_S → Nat), In_1 (0 : Int32) S ∧ ∀ (x3_1 : Int32) (S_1 : zt_S), In_1 x3_1 S_1 → (((381 : Int32) ≤ x3_1 → (post S_1)) ∧ (¬ (381 : Int32) ≤ x3_1 → (vp_in (((381 : Int32) * p1) + x3_1) 3810 ∧ (vp_in (((381 : Int32) * p2) + x3_1) 3810 ∧ ∀ S_3 : zt_S, S_3 = zt_us S_1 1 (((381 : Int32) * p2) + x3_1).toNatClampNeg (S_1 1 (((381 : Int32) * p1) + x3_1).toNatClampNeg) → (In_1 (x3_1 + (1 : Int32)) S_3 ∧ mu_1 (x3_1 + (1 : Int32)) S_3 < mu_1 x3_1 S_1)))))
set_option maxHeartbeats 4000000 in
theorem zm_copies (l : Launch) (g : zt_G) (p1 : Int32) (p2 : Int32) (S : zt_S) (post : zt_S → Prop) (hw : zw_copies p1 p2 S post) : Met l yX5_copies (ws_ yX5_copies cX5_copies 4 none) ({ frames := 0, cells := 0, slots := 0, locals := 0 } : Room) (va_Pc (.ref g.2.1 :: [.int p1, .int p2]) (zt_B g S)) (va_Qv post (zt_B g) (zt_A g)) 0 0 (zt_A g) := by
  refine zt_met (by decide) rfl (Nat.le_of_ble_eq_true rfl) (fun p e s m below meth c ls hC hI hl => ?_)
  generalize (Value.ref g.2.1 :: ([.int p1, .int p2] : List Value)).toArray = args at hC ⊢
  obtain ⟨hx, hb, hml, hown, hts, hr, hlk⟩ := hC
  have hl : lv_has ls 4 [(0, .ref g.2.1), (1, .int p1), (2, .int p2)] := hl
  unfold zw_copies at hw
  obtain ⟨H, eH⟩ : ∃ z, z = s.heap := ⟨_, rfl⟩
  obtain ⟨locs, elo⟩ : ∃ z : List Loc, z = [] := ⟨_, rfl⟩
  rw [← eH, ← elo] at hI ⊢
  refine lv_iconst (v := 0) hx hb dX5_copies_0 (by decide) ?_
  refine lv_istore_n (lv' := [(3, .int (0 : Int32)), (0, .ref g.2.1), (1, .int p1), (2, .int p2)]) hx hb dX5_copies_1 rfl hl (by decide) rfl (fun ls hl => ?_)
  obtain ⟨In_1, mu_1, h0_1, hw⟩ := hw
  have hL_1 : ∀ (n : Nat) (x3_1 : Int32) (S_1 : zt_S) (H : Heap) (locs : List Loc) (ls : Array Slot), mu_1 x3_1 S_1 < n → In_1 x3_1 S_1 → zt_I g S_1 s H locs → lv_has ls 4 [(0, .ref g.2.1), (1, .int p1), (2, .int p2), (3, .int x3_1)] → W p l e ({ frames := 0, cells := 0, slots := 0, locals := 0 } : Room) s m args below meth c H locs 0 0 (MQ below (va_Qv post (zt_B g) (zt_A g)) args s 0 0 (zt_A g)) (F0 m 2 ls []) := by
    intro n
    induction n with
    | zero => intro x3_1 S_1 H locs ls hn _ _ _; exact absurd hn (Nat.not_lt_zero _)
    | succ n ih_1 =>
      intro x3_1 S_1 H locs ls hn_1 hi_1 hI hl
      have hw := hw x3_1 S_1 hi_1
      refine lv_iload_n hx hb dX5_copies_2 rfl (lv_at hl 3 rfl) ?_
      refine lv_sipush (v := 381) hx hb dX5_copies_3 (by decide) ?_
      refine lv_icmp_ge (tgt := 39) hx hb dX5_copies_6 (by decide) (fun hc_2 => ?_) (fun hc_2 => ?_)
      · have hw := hw.1 hc_2
        exact zt_vret hx hb hr hlk hI hw dX5_copies_39
      · have hw := hw.2 hc_2
        refine lv_aload_n hx hb dX5_copies_9 rfl (lv_at hl 0 rfl) ?_
        refine zt_get hx hb hts hown hI 1 (v := .ref g.2.2.1) (by decide) q3633 rfl rfl dX5_copies_10 ?_
        refine lv_sipush (v := 381) hx hb dX5_copies_13 (by decide) ?_
        refine lv_iload_n hx hb dX5_copies_16 rfl (lv_at hl 2 rfl) ?_
        refine lv_imul hx hb dX5_copies_17 ?_
        refine lv_iload_n hx hb dX5_copies_18 rfl (lv_at hl 3 rfl) ?_
        refine lv_iadd hx hb dX5_copies_19 ?_
        refine lv_aload_n hx hb dX5_copies_20 rfl (lv_at hl 0 rfl) ?_
        refine zt_get hx hb hts hown hI 1 (v := .ref g.2.2.1) (by decide) q3633 rfl rfl dX5_copies_21 ?_
        refine lv_sipush (v := 381) hx hb dX5_copies_24 (by decide) ?_
        refine lv_iload_n hx hb dX5_copies_27 rfl (lv_at hl 1 rfl) ?_
        refine lv_imul hx hb dX5_copies_28 ?_
        refine lv_iload_n hx hb dX5_copies_29 rfl (lv_at hl 3 rfl) ?_
        refine lv_iadd hx hb dX5_copies_30 ?_
        refine zt_ld1 hx hb hI hw.1 dX5_copies_31 ?_
        have hw := hw.2
        refine zt_st1 hx hb hI hw.1 dX5_copies_32 (fun H locs hI => ?_)
        obtain ⟨S_3, eS_3⟩ : ∃ z, z = zt_us S_1 1 (((381 : Int32) * p2) + x3_1).toNatClampNeg (S_1 1 (((381 : Int32) * p1) + x3_1).toNatClampNeg) := ⟨_, rfl⟩
        rw [← eS_3] at hI
        have hw := hw.2 S_3 eS_3
        refine lv_iinc (v := x3_1 + (1 : Int32)) (lv' := [(3, .int (x3_1 + (1 : Int32))), (0, .ref g.2.1), (1, .int p1), (2, .int p2)]) hx hb dX5_copies_33 hl (k := 3) rfl rfl (by decide) rfl (fun ls hl => ?_)
        refine lv_goto (tgt := 2) hx hb dX5_copies_36 (by decide) ?_
        exact ih_1 _ _ H locs ls (Nat.lt_of_lt_of_le hw.2 (Nat.le_of_lt_succ hn_1)) hw.1 hI (lv_sub hl [1, 2, 3, 0] rfl)
  exact hL_1 _ _ _ H locs ls (Nat.lt_succ_self _) h0_1 hI (lv_sub hl [1, 2, 3, 0] rfl)
theorem hdT_copies : yX5_copies.cls = RX5 ∧ yX5_copies.cls ≠ "java/lang/invoke/MethodHandle" ∧ yX5_copies.cls ≠ "java/lang/invoke/VarHandle" ∧ (parseMethodDescriptor yX5_copies.desc).map (fun d => d.parameters.length) = some 2 := by decide +kernel
def zw_begins (S : zt_S) (post : zt_S → Prop) : Prop :=
  zw_copies (0 : Int32) (8 : Int32) S (fun (S_1 : zt_S) => post S_1)
set_option maxHeartbeats 4000000 in
theorem zm_begins (l : Launch) (g : zt_G) (S : zt_S) (post : zt_S → Prop) (hw : zw_begins S post) : Met l yX5_begins (ws_ yX5_begins cX5_begins 1 none) ({ frames := 1, cells := 0, slots := 0, locals := 23 } : Room) (va_Pc (.ref g.2.1 :: []) (zt_B g S)) (va_Qv post (zt_B g) (zt_A g)) 0 0 (zt_A g) := by
  refine zt_met (by decide) rfl (Nat.le_of_ble_eq_true rfl) (fun p e s m below meth c ls hC hI hl => ?_)
  generalize (Value.ref g.2.1 :: ([] : List Value)).toArray = args at hC ⊢
  obtain ⟨hx, hb, hml, hown, hts, hr, hlk⟩ := hC
  have hl : lv_has ls 1 [(0, .ref g.2.1)] := hl
  unfold zw_begins at hw
  obtain ⟨H, eH⟩ : ∃ z, z = s.heap := ⟨_, rfl⟩
  obtain ⟨locs, elo⟩ : ∃ z : List Loc, z = [] := ⟨_, rfl⟩
  rw [← eH, ← elo] at hI ⊢
  refine lv_aload_n hx hb dX5_begins_0 rfl (lv_at hl 0 rfl) ?_
  refine lv_iconst (v := 0) hx hb dX5_begins_1 (by decide) ?_
  refine lv_bipush (v := 8) hx hb dX5_begins_2 (by decide) ?_
  refine zt_callv (As := [.int (0 : Int32), .int (8 : Int32)]) (rest := []) ⟨hx, hb, hml, hown, hts⟩ hI (zm_copies l g (0 : Int32) (8 : Int32) S _ hw) (cwV 2 hts (lw_V q3704 q3706 qs40 q113 q3707) rfl rfl rfl hdT_copies ⟨Nat.le_of_ble_eq_true rfl, Nat.le_of_ble_eq_true rfl⟩) rfl hl.1 rfl (lv_room (Nat.le_of_ble_eq_true rfl)) dX5_begins_4 ⟨Nat.le_refl _, Nat.le_refl _⟩ (fun S_1 H locs hw hI => ?_)
  exact zt_vret hx hb hr hlk hI hw dX5_begins_7
theorem hdT_begins : yX5_begins.cls = RX5 ∧ yX5_begins.cls ≠ "java/lang/invoke/MethodHandle" ∧ yX5_begins.cls ≠ "java/lang/invoke/VarHandle" ∧ (parseMethodDescriptor yX5_begins.desc).map (fun d => d.parameters.length) = some 0 := by decide +kernel
def zw_l (p1 : Int32) (p2 : Int32) (S : zt_S) (post : Int32 → zt_S → Prop) : Prop :=
  vp_in (((274 : Int32) + ((2 : Int32) * p1)) + p2) 3810 ∧ (post (S 1 (((274 : Int32) + ((2 : Int32) * p1)) + p2).toNatClampNeg) S)
set_option maxHeartbeats 4000000 in
theorem zm_l (l : Launch) (g : zt_G) (p1 : Int32) (p2 : Int32) (S : zt_S) (post : Int32 → zt_S → Prop) (hw : zw_l p1 p2 S post) : Met l yX5_l (ws_ yX5_l cX5_l 3 (some .int)) ({ frames := 0, cells := 0, slots := 0, locals := 0 } : Room) (va_Pc (.ref g.2.1 :: [.int p1, .int p2]) (zt_B g S)) (va_Qi post (zt_B g) (zt_A g)) 0 0 (zt_A g) := by
  refine zt_met (by decide) rfl (Nat.le_of_ble_eq_true rfl) (fun p e s m below meth c ls hC hI hl => ?_)
  generalize (Value.ref g.2.1 :: ([.int p1, .int p2] : List Value)).toArray = args at hC ⊢
  obtain ⟨hx, hb, hml, hown, hts, hr, hlk⟩ := hC
  have hl : lv_has ls 3 [(0, .ref g.2.1), (1, .int p1), (2, .int p2)] := hl
  unfold zw_l at hw
  obtain ⟨H, eH⟩ : ∃ z, z = s.heap := ⟨_, rfl⟩
  obtain ⟨locs, elo⟩ : ∃ z : List Loc, z = [] := ⟨_, rfl⟩
  rw [← eH, ← elo] at hI ⊢
  refine lv_aload_n hx hb dX5_l_0 rfl (lv_at hl 0 rfl) ?_
  refine zt_get hx hb hts hown hI 1 (v := .ref g.2.2.1) (by decide) q3633 rfl rfl dX5_l_1 ?_
  refine lv_sipush (v := 274) hx hb dX5_l_4 (by decide) ?_
  refine lv_iconst (v := 2) hx hb dX5_l_7 (by decide) ?_
  refine lv_iload_n hx hb dX5_l_8 rfl (lv_at hl 1 rfl) ?_
  refine lv_imul hx hb dX5_l_9 ?_
  refine lv_iadd hx hb dX5_l_10 ?_
  refine lv_iload_n hx hb dX5_l_11 rfl (lv_at hl 2 rfl) ?_
  refine lv_iadd hx hb dX5_l_12 ?_
  refine zt_ld1 hx hb hI hw.1 dX5_l_13 ?_
  have hw := hw.2
  exact zt_iret hx hb hr hlk hI hw dX5_l_14
theorem hdT_l : yX5_l.cls = RX5 ∧ yX5_l.cls ≠ "java/lang/invoke/MethodHandle" ∧ yX5_l.cls ≠ "java/lang/invoke/VarHandle" ∧ (parseMethodDescriptor yX5_l.desc).map (fun d => d.parameters.length) = some 2 := by decide +kernel
def zw_ladderAt (p1 : Int32) (S : zt_S) (post : Int32 → zt_S → Prop) : Prop :=
  ∃ (In_1 : Int32 → zt_S → Prop) (mu_1 : Int32 → zt_S → Nat), In_1 (0 : Int32) S ∧ ∀ (x2_1 : Int32) (S_1 : zt_S), In_1 x2_1 S_1 → (vp_in (6 : Int32) 3810 ∧ ((S_1 1 (6 : Int32).toNatClampNeg ≤ x2_1 → (post (-1 : Int32) S_1)) ∧ (¬ S_1 1 (6 : Int32).toNatClampNeg ≤ x2_1 → (zw_l x2_1 (1 : Int32) S_1 (fun (r_4 : Int32) (S_3 : zt_S) => (¬ r_4 = p1 → (In_1 (x2_1 + (1 : Int32)) S_3 ∧ mu_1 (x2_1 + (1 : Int32)) S_3 < mu_1 x2_1 S_1)) ∧ (r_4 = p1 → (post x2_1 S_3)))))))
set_option maxHeartbeats 4000000 in
theorem zm_ladderAt (l : Launch) (g : zt_G) (p1 : Int32) (S : zt_S) (post : Int32 → zt_S → Prop) (hw : zw_ladderAt p1 S post) : Met l yX5_ladderAt (ws_ yX5_ladderAt cX5_ladderAt 3 (some .int)) ({ frames := 1, cells := 0, slots := 0, locals := 22 } : Room) (va_Pc (.ref g.2.1 :: [.int p1]) (zt_B g S)) (va_Qi post (zt_B g) (zt_A g)) 0 0 (zt_A g) := by
  refine zt_met (by decide) rfl (Nat.le_of_ble_eq_true rfl) (fun p e s m below meth c ls hC hI hl => ?_)
  generalize (Value.ref g.2.1 :: ([.int p1] : List Value)).toArray = args at hC ⊢
  obtain ⟨hx, hb, hml, hown, hts, hr, hlk⟩ := hC
  have hl : lv_has ls 3 [(0, .ref g.2.1), (1, .int p1)] := hl
  unfold zw_ladderAt at hw
  obtain ⟨H, eH⟩ : ∃ z, z = s.heap := ⟨_, rfl⟩
  obtain ⟨locs, elo⟩ : ∃ z : List Loc, z = [] := ⟨_, rfl⟩
  rw [← eH, ← elo] at hI ⊢
  refine lv_iconst (v := 0) hx hb dX5_ladderAt_0 (by decide) ?_
  refine lv_istore_n (lv' := [(2, .int (0 : Int32)), (0, .ref g.2.1), (1, .int p1)]) hx hb dX5_ladderAt_1 rfl hl (by decide) rfl (fun ls hl => ?_)
  obtain ⟨In_1, mu_1, h0_1, hw⟩ := hw
  have hL_1 : ∀ (n : Nat) (x2_1 : Int32) (S_1 : zt_S) (H : Heap) (locs : List Loc) (ls : Array Slot), mu_1 x2_1 S_1 < n → In_1 x2_1 S_1 → zt_I g S_1 s H locs → lv_has ls 3 [(0, .ref g.2.1), (1, .int p1), (2, .int x2_1)] → W p l e ({ frames := 1, cells := 0, slots := 0, locals := 22 } : Room) s m args below meth c H locs 0 0 (MQ below (va_Qi post (zt_B g) (zt_A g)) args s 0 0 (zt_A g)) (F0 m 2 ls []) := by
    intro n
    induction n with
    | zero => intro x2_1 S_1 H locs ls hn _ _ _; exact absurd hn (Nat.not_lt_zero _)
    | succ n ih_1 =>
      intro x2_1 S_1 H locs ls hn_1 hi_1 hI hl
      have hw := hw x2_1 S_1 hi_1
      refine lv_iload_n hx hb dX5_ladderAt_2 rfl (lv_at hl 2 rfl) ?_
      refine lv_aload_n hx hb dX5_ladderAt_3 rfl (lv_at hl 0 rfl) ?_
      refine zt_get hx hb hts hown hI 1 (v := .ref g.2.2.1) (by decide) q3633 rfl rfl dX5_ladderAt_4 ?_
      refine lv_bipush (v := 6) hx hb dX5_ladderAt_7 (by decide) ?_
      refine zt_ld1 hx hb hI hw.1 dX5_ladderAt_9 ?_
      have hw := hw.2
      refine lv_icmp_ge (tgt := 31) hx hb dX5_ladderAt_10 (by decide) (fun hc_2 => ?_) (fun hc_2 => ?_)
      · have hw := hw.1 hc_2
        refine lv_iconst (v := -1) hx hb dX5_ladderAt_31 (by decide) ?_
        exact zt_iret hx hb hr hlk hI hw dX5_ladderAt_32
      · have hw := hw.2 hc_2
        refine lv_aload_n hx hb dX5_ladderAt_13 rfl (lv_at hl 0 rfl) ?_
        refine lv_iload_n hx hb dX5_ladderAt_14 rfl (lv_at hl 2 rfl) ?_
        refine lv_iconst (v := 1) hx hb dX5_ladderAt_15 (by decide) ?_
        refine zt_calli (As := [.int x2_1, .int (1 : Int32)]) (rest := []) ⟨hx, hb, hml, hown, hts⟩ hI (zm_l l g x2_1 (1 : Int32) S_1 _ hw) (cwV 2 hts (lw_V q3712 q3714 qs42 q113 q3715) rfl rfl rfl hdT_l ⟨Nat.le_of_ble_eq_true rfl, Nat.le_of_ble_eq_true rfl⟩) rfl hl.1 rfl (lv_room (Nat.le_of_ble_eq_true rfl)) dX5_ladderAt_16 ⟨Nat.le_refl _, Nat.le_refl _⟩ (fun r_4 S_3 H locs hw hI => ?_)
        refine lv_iload_n hx hb dX5_ladderAt_19 rfl (lv_at hl 1 rfl) ?_
        refine lv_icmp_ne (tgt := 25) hx hb dX5_ladderAt_20 (by decide) (fun hc_5 => ?_) (fun hc_5 => ?_)
        · have hw := hw.1 hc_5
          refine lv_iinc (v := x2_1 + (1 : Int32)) (lv' := [(2, .int (x2_1 + (1 : Int32))), (0, .ref g.2.1), (1, .int p1)]) hx hb dX5_ladderAt_25 hl (k := 2) rfl rfl (by decide) rfl (fun ls hl => ?_)
          refine lv_goto (tgt := 2) hx hb dX5_ladderAt_28 (by decide) ?_
          exact ih_1 _ _ H locs ls (Nat.lt_of_lt_of_le hw.2 (Nat.le_of_lt_succ hn_1)) hw.1 hI (lv_sub hl [1, 2, 0] rfl)
        · have hw := hw.2 hc_5
          refine lv_iload_n hx hb dX5_ladderAt_23 rfl (lv_at hl 2 rfl) ?_
          exact zt_iret hx hb hr hlk hI hw dX5_ladderAt_24
  exact hL_1 _ _ _ H locs ls (Nat.lt_succ_self _) h0_1 hI (lv_sub hl [1, 2, 0] rfl)
theorem hdT_ladderAt : yX5_ladderAt.cls = RX5 ∧ yX5_ladderAt.cls ≠ "java/lang/invoke/MethodHandle" ∧ yX5_ladderAt.cls ≠ "java/lang/invoke/VarHandle" ∧ (parseMethodDescriptor yX5_ladderAt.desc).map (fun d => d.parameters.length) = some 1 := by decide +kernel
def zw_keeps_41 (post : zt_S → Prop) (S : zt_S) : Prop :=
  ∀ S_2 : zt_S, S_2 = zt_us S 0 2 ((S 0 2) + (1 : Int32)) → (zw_copies (8 : Int32) (S_2 0 2) S_2 (fun (S_3 : zt_S) => post S_3))
set_option maxHeartbeats 4000000 in
theorem zj_keeps_41 {p : Program} {l : Launch} {e : Env} {s : State} {m : MethodId} {args : Array Value} {below : List Frame} {meth : Method} {c : Code} {H : Heap} {locs : List Loc} {ls : Array Slot} (g : zt_G) (post : zt_S → Prop) (S : zt_S) (hC : zt_C p s m args meth c cX5_keeps 2 none) (hw : zw_keeps_41 post S) (hI : zt_I g S s H locs) (hl : lv_has ls 2 [(0, .ref g.2.1)]) : W p l e ({ frames := 1, cells := 0, slots := 0, locals := 23 } : Room) s m args below meth c H locs 0 0 (MQ below (va_Qv post (zt_B g) (zt_A g)) args s 0 0 (zt_A g)) (F0 m 41 ls []) := by
  obtain ⟨hx, hb, hml, hown, hts, hr, hlk⟩ := hC
  unfold zw_keeps_41 at hw
  refine lv_aload_n hx hb dX5_keeps_41 rfl (lv_at hl 0 rfl) ?_
  refine lv_dup hx hb dX5_keeps_42 rfl ?_
  refine zt_get hx hb hts hown hI 2 (v := .int (S 0 2)) (by decide) q3634 rfl rfl dX5_keeps_43 ?_
  refine lv_iconst (v := 1) hx hb dX5_keeps_46 (by decide) ?_
  refine lv_iadd hx hb dX5_keeps_47 ?_
  refine zt_put hx hb hts hown hI 2 (v := (S 0 2) + (1 : Int32)) (ty := .int) (by decide) q3634 rfl rfl (by decide +kernel) rfl rfl rfl dX5_keeps_48 (fun H locs hI => ?_)
  obtain ⟨S_2, eS_2⟩ : ∃ z, z = zt_us S 0 2 ((S 0 2) + (1 : Int32)) := ⟨_, rfl⟩
  rw [← eS_2] at hI
  have hw := hw S_2 eS_2
  refine lv_aload_n hx hb dX5_keeps_51 rfl (lv_at hl 0 rfl) ?_
  refine lv_bipush (v := 8) hx hb dX5_keeps_52 (by decide) ?_
  refine lv_aload_n hx hb dX5_keeps_54 rfl (lv_at hl 0 rfl) ?_
  refine zt_get hx hb hts hown hI 2 (v := .int (S_2 0 2)) (by decide) q3634 rfl rfl dX5_keeps_55 ?_
  refine zt_callv (As := [.int (8 : Int32), .int (S_2 0 2)]) (rest := []) ⟨hx, hb, hml, hown, hts⟩ hI (zm_copies l g (8 : Int32) (S_2 0 2) S_2 _ hw) (cwV 2 hts (lw_V q3704 q3706 qs40 q113 q3707) rfl rfl rfl hdT_copies ⟨Nat.le_of_ble_eq_true rfl, Nat.le_of_ble_eq_true rfl⟩) rfl hl.1 rfl (lv_room (Nat.le_of_ble_eq_true rfl)) dX5_keeps_58 ⟨Nat.le_refl _, Nat.le_refl _⟩ (fun S_3 H locs hw hI => ?_)
  exact zt_vret hx hb hr hlk hI hw dX5_keeps_61
def zw_keeps (S : zt_S) (post : zt_S → Prop) : Prop :=
  (¬ S 0 2 = (6 : Int32) → (zw_keeps_41 post S)) ∧ (S 0 2 = (6 : Int32) → (∃ (In_4 : Int32 → zt_S → Prop) (mu_4 : Int32 → zt_S → Nat), In_4 (1 : Int32) S ∧ ∀ (x1_4 : Int32) (S_4 : zt_S), In_4 x1_4 S_4 → (((6 : Int32) ≤ x1_4 → (∀ S_6 : zt_S, S_6 = zt_us S_4 0 2 ((S_4 0 2) - (1 : Int32)) → (zw_keeps_41 post S_6))) ∧ (¬ (6 : Int32) ≤ x1_4 → (zw_copies (x1_4 + (1 : Int32)) x1_4 S_4 (fun (S_7 : zt_S) => In_4 (x1_4 + (1 : Int32)) S_7 ∧ mu_4 (x1_4 + (1 : Int32)) S_7 < mu_4 x1_4 S_4))))))
set_option maxHeartbeats 4000000 in
theorem zm_keeps (l : Launch) (g : zt_G) (S : zt_S) (post : zt_S → Prop) (hw : zw_keeps S post) : Met l yX5_keeps (ws_ yX5_keeps cX5_keeps 2 none) ({ frames := 1, cells := 0, slots := 0, locals := 23 } : Room) (va_Pc (.ref g.2.1 :: []) (zt_B g S)) (va_Qv post (zt_B g) (zt_A g)) 0 0 (zt_A g) := by
  refine zt_met (by decide) rfl (Nat.le_of_ble_eq_true rfl) (fun p e s m below meth c ls hC hI hl => ?_)
  generalize (Value.ref g.2.1 :: ([] : List Value)).toArray = args at hC ⊢
  obtain ⟨hx, hb, hml, hown, hts, hr, hlk⟩ := hC
  have hl : lv_has ls 2 [(0, .ref g.2.1)] := hl
  unfold zw_keeps at hw
  obtain ⟨H, eH⟩ : ∃ z, z = s.heap := ⟨_, rfl⟩
  obtain ⟨locs, elo⟩ : ∃ z : List Loc, z = [] := ⟨_, rfl⟩
  rw [← eH, ← elo] at hI ⊢
  refine lv_aload_n hx hb dX5_keeps_0 rfl (lv_at hl 0 rfl) ?_
  refine zt_get hx hb hts hown hI 2 (v := .int (S 0 2)) (by decide) q3634 rfl rfl dX5_keeps_1 ?_
  refine lv_bipush (v := 6) hx hb dX5_keeps_4 (by decide) ?_
  refine lv_icmp_ne (tgt := 41) hx hb dX5_keeps_6 (by decide) (fun hc_1 => ?_) (fun hc_1 => ?_)
  · have hw := hw.1 hc_1
    exact zj_keeps_41 g post S ⟨hx, hb, hml, hown, hts, hr, hlk⟩ hw hI (lv_sub hl [0] rfl)
  · have hw := hw.2 hc_1
    refine lv_iconst (v := 1) hx hb dX5_keeps_9 (by decide) ?_
    refine lv_istore_n (lv' := [(1, .int (1 : Int32)), (0, .ref g.2.1)]) hx hb dX5_keeps_10 rfl hl (by decide) rfl (fun ls hl => ?_)
    obtain ⟨In_4, mu_4, h0_4, hw⟩ := hw
    have hL_4 : ∀ (n : Nat) (x1_4 : Int32) (S_4 : zt_S) (H : Heap) (locs : List Loc) (ls : Array Slot), mu_4 x1_4 S_4 < n → In_4 x1_4 S_4 → zt_I g S_4 s H locs → lv_has ls 2 [(0, .ref g.2.1), (1, .int x1_4)] → W p l e ({ frames := 1, cells := 0, slots := 0, locals := 23 } : Room) s m args below meth c H locs 0 0 (MQ below (va_Qv post (zt_B g) (zt_A g)) args s 0 0 (zt_A g)) (F0 m 11 ls []) := by
      intro n
      induction n with
      | zero => intro x1_4 S_4 H locs ls hn _ _ _; exact absurd hn (Nat.not_lt_zero _)
      | succ n ih_4 =>
        intro x1_4 S_4 H locs ls hn_4 hi_4 hI hl
        have hw := hw x1_4 S_4 hi_4
        refine lv_iload_n hx hb dX5_keeps_11 rfl (lv_at hl 1 rfl) ?_
        refine lv_bipush (v := 6) hx hb dX5_keeps_12 (by decide) ?_
        refine lv_icmp_ge (tgt := 31) hx hb dX5_keeps_14 (by decide) (fun hc_5 => ?_) (fun hc_5 => ?_)
        · have hw := hw.1 hc_5
          refine lv_aload_n hx hb dX5_keeps_31 rfl (lv_at hl 0 rfl) ?_
          refine lv_dup hx hb dX5_keeps_32 rfl ?_
          refine zt_get hx hb hts hown hI 2 (v := .int (S_4 0 2)) (by decide) q3634 rfl rfl dX5_keeps_33 ?_
          refine lv_iconst (v := 1) hx hb dX5_keeps_36 (by decide) ?_
          refine lv_isub hx hb dX5_keeps_37 ?_
          refine zt_put hx hb hts hown hI 2 (v := (S_4 0 2) - (1 : Int32)) (ty := .int) (by decide) q3634 rfl rfl (by decide +kernel) rfl rfl rfl dX5_keeps_38 (fun H locs hI => ?_)
          obtain ⟨S_6, eS_6⟩ : ∃ z, z = zt_us S_4 0 2 ((S_4 0 2) - (1 : Int32)) := ⟨_, rfl⟩
          rw [← eS_6] at hI
          have hw := hw S_6 eS_6
          exact zj_keeps_41 g post S_6 ⟨hx, hb, hml, hown, hts, hr, hlk⟩ hw hI (lv_sub hl [0] rfl)
        · have hw := hw.2 hc_5
          refine lv_aload_n hx hb dX5_keeps_17 rfl (lv_at hl 0 rfl) ?_
          refine lv_iload_n hx hb dX5_keeps_18 rfl (lv_at hl 1 rfl) ?_
          refine lv_iconst (v := 1) hx hb dX5_keeps_19 (by decide) ?_
          refine lv_iadd hx hb dX5_keeps_20 ?_
          refine lv_iload_n hx hb dX5_keeps_21 rfl (lv_at hl 1 rfl) ?_
          refine zt_callv (As := [.int (x1_4 + (1 : Int32)), .int x1_4]) (rest := []) ⟨hx, hb, hml, hown, hts⟩ hI (zm_copies l g (x1_4 + (1 : Int32)) x1_4 S_4 _ hw) (cwV 2 hts (lw_V q3704 q3706 qs40 q113 q3707) rfl rfl rfl hdT_copies ⟨Nat.le_of_ble_eq_true rfl, Nat.le_of_ble_eq_true rfl⟩) rfl hl.1 rfl (lv_room (Nat.le_of_ble_eq_true rfl)) dX5_keeps_22 ⟨Nat.le_refl _, Nat.le_refl _⟩ (fun S_7 H locs hw hI => ?_)
          refine lv_iinc (v := x1_4 + (1 : Int32)) (lv' := [(1, .int (x1_4 + (1 : Int32))), (0, .ref g.2.1)]) hx hb dX5_keeps_25 hl (k := 1) rfl rfl (by decide) rfl (fun ls hl => ?_)
          refine lv_goto (tgt := 11) hx hb dX5_keeps_28 (by decide) ?_
          exact ih_4 _ _ H locs ls (Nat.lt_of_lt_of_le hw.2 (Nat.le_of_lt_succ hn_4)) hw.1 hI (lv_sub hl [1, 0] rfl)
    exact hL_4 _ _ _ H locs ls (Nat.lt_succ_self _) h0_4 hI (lv_sub hl [1, 0] rfl)
theorem hdT_keeps : yX5_keeps.cls = RX5 ∧ yX5_keeps.cls ≠ "java/lang/invoke/MethodHandle" ∧ yX5_keeps.cls ≠ "java/lang/invoke/VarHandle" ∧ (parseMethodDescriptor yX5_keeps.desc).map (fun d => d.parameters.length) = some 0 := by decide +kernel
def zw_ladder_45 (post : Int32 → zt_S → Prop) (t0 : Int32) (v1 : Int32) (S : zt_S) : Prop :=
  ∀ S_7 : zt_S, S_7 = zt_us S 0 0 t0 → ((S_7 0 0 = (0 : Int32) → (zw_begins S_7 (fun (S_9 : zt_S) => vp_in (6 : Int32) 3810 ∧ (∃ (In_10 : Int32 → zt_S → Prop) (mu_10 : Int32 → zt_S → Nat), In_10 (0 : Int32) S_9 ∧ ∀ (x3_10 : Int32) (S_10 : zt_S), In_10 x3_10 S_10 → (zw_ladderAt x3_10 S_10 (fun (r_12 : Int32) (S_11 : zt_S) => (r_12 = (-1 : Int32) → (vp_in (((274 : Int32) + ((2 : Int32) * (S_9 1 (6 : Int32).toNatClampNeg))) + (0 : Int32)) 3810 ∧ ∀ S_14 : zt_S, S_14 = zt_us S_11 1 (((274 : Int32) + ((2 : Int32) * (S_9 1 (6 : Int32).toNatClampNeg))) + (0 : Int32)).toNatClampNeg v1 → (vp_in (((274 : Int32) + ((2 : Int32) * (S_9 1 (6 : Int32).toNatClampNeg))) + (1 : Int32)) 3810 ∧ ∀ S_15 : zt_S, S_15 = zt_us S_14 1 (((274 : Int32) + ((2 : Int32) * (S_9 1 (6 : Int32).toNatClampNeg))) + (1 : Int32)).toNatClampNeg x3_10 → (vp_in (6 : Int32) 3810 ∧ (vp_in (6 : Int32) 3810 ∧ ∀ S_16 : zt_S, S_16 = zt_us S_15 1 (6 : Int32).toNatClampNeg ((S_15 1 (6 : Int32).toNatClampNeg) + (1 : Int32)) → (zw_keeps S_16 (fun (S_17 : zt_S) => post (S_9 1 (6 : Int32).toNatClampNeg) S_17))))))) ∧ (¬ r_12 = (-1 : Int32) → (In_10 (x3_10 + (1 : Int32)) S_11 ∧ mu_10 (x3_10 + (1 : Int32)) S_11 < mu_10 x3_10 S_10)))))))) ∧ (¬ S_7 0 0 = (0 : Int32) → (post (0 : Int32) S_7)))
set_option maxHeartbeats 4000000 in
theorem zj_ladder_45 {p : Program} {l : Launch} {e : Env} {s : State} {m : MethodId} {args : Array Value} {below : List Frame} {meth : Method} {c : Code} {H : Heap} {locs : List Loc} {ls : Array Slot} (g : zt_G) (post : Int32 → zt_S → Prop) (t0 : Int32) (v1 : Int32) (S : zt_S) (hC : zt_C p s m args meth c cX5_ladder 4 (some .int)) (hw : zw_ladder_45 post t0 v1 S) (hI : zt_I g S s H locs) (hl : lv_has ls 4 [(0, .ref g.2.1), (1, .int v1)]) : W p l e ({ frames := 2, cells := 0, slots := 0, locals := 44 } : Room) s m args below meth c H locs 0 0 (MQ below (va_Qi post (zt_B g) (zt_A g)) args s 0 0 (zt_A g)) (F0 m 45 ls [.int t0, .ref g.2.1]) := by
  obtain ⟨hx, hb, hml, hown, hts, hr, hlk⟩ := hC
  unfold zw_ladder_45 at hw
  refine zt_put hx hb hts hown hI 0 (v := t0) (ty := .int) (by decide) q3632 rfl rfl (by decide +kernel) rfl rfl rfl dX5_ladder_45 (fun H locs hI => ?_)
  obtain ⟨S_7, eS_7⟩ : ∃ z, z = zt_us S 0 0 t0 := ⟨_, rfl⟩
  rw [← eS_7] at hI
  have hw := hw S_7 eS_7
  refine lv_aload_n hx hb dX5_ladder_48 rfl (lv_at hl 0 rfl) ?_
  refine zt_get hx hb hts hown hI 0 (v := .int (S_7 0 0)) (by decide) q3632 rfl rfl dX5_ladder_49 ?_
  refine lv_if_eq (tgt := 57) hx hb dX5_ladder_52 (by decide) (fun hc_8 => ?_) (fun hc_8 => ?_)
  · have hw := hw.1 hc_8
    refine lv_aload_n hx hb dX5_ladder_57 rfl (lv_at hl 0 rfl) ?_
    refine zt_callv (As := []) (rest := []) ⟨hx, hb, hml, hown, hts⟩ hI (zm_begins l g S_7 _ hw) (cwV 0 hts (lw_V q3700 q3702 qs39 q113 q3703) rfl rfl rfl hdT_begins ⟨Nat.le_of_ble_eq_true rfl, Nat.le_of_ble_eq_true rfl⟩) rfl hl.1 rfl (lv_room (Nat.le_of_ble_eq_true rfl)) dX5_ladder_58 ⟨Nat.le_refl _, Nat.le_refl _⟩ (fun S_9 H locs hw hI => ?_)
    refine lv_aload_n hx hb dX5_ladder_61 rfl (lv_at hl 0 rfl) ?_
    refine zt_get hx hb hts hown hI 1 (v := .ref g.2.2.1) (by decide) q3633 rfl rfl dX5_ladder_62 ?_
    refine lv_bipush (v := 6) hx hb dX5_ladder_65 (by decide) ?_
    refine zt_ld1 hx hb hI hw.1 dX5_ladder_67 ?_
    have hw := hw.2
    refine lv_istore_n (lv' := [(2, .int (S_9 1 (6 : Int32).toNatClampNeg)), (0, .ref g.2.1), (1, .int v1)]) hx hb dX5_ladder_68 rfl hl (by decide) rfl (fun ls hl => ?_)
    refine lv_iconst (v := 0) hx hb dX5_ladder_69 (by decide) ?_
    refine lv_istore_n (lv' := [(3, .int (0 : Int32)), (2, .int (S_9 1 (6 : Int32).toNatClampNeg)), (0, .ref g.2.1), (1, .int v1)]) hx hb dX5_ladder_70 rfl hl (by decide) rfl (fun ls hl => ?_)
    obtain ⟨In_10, mu_10, h0_10, hw⟩ := hw
    have hL_10 : ∀ (n : Nat) (x3_10 : Int32) (S_10 : zt_S) (H : Heap) (locs : List Loc) (ls : Array Slot), mu_10 x3_10 S_10 < n → In_10 x3_10 S_10 → zt_I g S_10 s H locs → lv_has ls 4 [(0, .ref g.2.1), (1, .int v1), (2, .int (S_9 1 (6 : Int32).toNatClampNeg)), (3, .int x3_10)] → W p l e ({ frames := 2, cells := 0, slots := 0, locals := 44 } : Room) s m args below meth c H locs 0 0 (MQ below (va_Qi post (zt_B g) (zt_A g)) args s 0 0 (zt_A g)) (F0 m 71 ls []) := by
      intro n
      induction n with
      | zero => intro x3_10 S_10 H locs ls hn _ _ _; exact absurd hn (Nat.not_lt_zero _)
      | succ n ih_10 =>
        intro x3_10 S_10 H locs ls hn_10 hi_10 hI hl
        have hw := hw x3_10 S_10 hi_10
        refine lv_aload_n hx hb dX5_ladder_71 rfl (lv_at hl 0 rfl) ?_
        refine lv_iload_n hx hb dX5_ladder_72 rfl (lv_at hl 3 rfl) ?_
        refine zt_calli (As := [.int x3_10]) (rest := []) ⟨hx, hb, hml, hown, hts⟩ hI (zm_ladderAt l g x3_10 S_10 _ hw) (cwV 1 hts (lw_V q3708 q3710 qs41 q113 q3711) rfl rfl rfl hdT_ladderAt ⟨Nat.le_of_ble_eq_true rfl, Nat.le_of_ble_eq_true rfl⟩) rfl hl.1 rfl (lv_room (Nat.le_of_ble_eq_true rfl)) dX5_ladder_73 ⟨Nat.le_refl _, Nat.le_refl _⟩ (fun r_12 S_11 H locs hw hI => ?_)
        refine lv_iconst (v := -1) hx hb dX5_ladder_76 (by decide) ?_
        refine lv_icmp_eq (tgt := 86) hx hb dX5_ladder_77 (by decide) (fun hc_13 => ?_) (fun hc_13 => ?_)
        · have hw := hw.1 hc_13
          refine lv_aload_n hx hb dX5_ladder_86 rfl (lv_at hl 0 rfl) ?_
          refine zt_get hx hb hts hown hI 1 (v := .ref g.2.2.1) (by decide) q3633 rfl rfl dX5_ladder_87 ?_
          refine lv_sipush (v := 274) hx hb dX5_ladder_90 (by decide) ?_
          refine lv_iconst (v := 2) hx hb dX5_ladder_93 (by decide) ?_
          refine lv_iload_n hx hb dX5_ladder_94 rfl (lv_at hl 2 rfl) ?_
          refine lv_imul hx hb dX5_ladder_95 ?_
          refine lv_iadd hx hb dX5_ladder_96 ?_
          refine lv_iconst (v := 0) hx hb dX5_ladder_97 (by decide) ?_
          refine lv_iadd hx hb dX5_ladder_98 ?_
          refine lv_iload_n hx hb dX5_ladder_99 rfl (lv_at hl 1 rfl) ?_
          refine zt_st1 hx hb hI hw.1 dX5_ladder_100 (fun H locs hI => ?_)
          obtain ⟨S_14, eS_14⟩ : ∃ z, z = zt_us S_11 1 (((274 : Int32) + ((2 : Int32) * (S_9 1 (6 : Int32).toNatClampNeg))) + (0 : Int32)).toNatClampNeg v1 := ⟨_, rfl⟩
          rw [← eS_14] at hI
          have hw := hw.2 S_14 eS_14
          refine lv_aload_n hx hb dX5_ladder_101 rfl (lv_at hl 0 rfl) ?_
          refine zt_get hx hb hts hown hI 1 (v := .ref g.2.2.1) (by decide) q3633 rfl rfl dX5_ladder_102 ?_
          refine lv_sipush (v := 274) hx hb dX5_ladder_105 (by decide) ?_
          refine lv_iconst (v := 2) hx hb dX5_ladder_108 (by decide) ?_
          refine lv_iload_n hx hb dX5_ladder_109 rfl (lv_at hl 2 rfl) ?_
          refine lv_imul hx hb dX5_ladder_110 ?_
          refine lv_iadd hx hb dX5_ladder_111 ?_
          refine lv_iconst (v := 1) hx hb dX5_ladder_112 (by decide) ?_
          refine lv_iadd hx hb dX5_ladder_113 ?_
          refine lv_iload_n hx hb dX5_ladder_114 rfl (lv_at hl 3 rfl) ?_
          refine zt_st1 hx hb hI hw.1 dX5_ladder_115 (fun H locs hI => ?_)
          obtain ⟨S_15, eS_15⟩ : ∃ z, z = zt_us S_14 1 (((274 : Int32) + ((2 : Int32) * (S_9 1 (6 : Int32).toNatClampNeg))) + (1 : Int32)).toNatClampNeg x3_10 := ⟨_, rfl⟩
          rw [← eS_15] at hI
          have hw := hw.2 S_15 eS_15
          refine lv_aload_n hx hb dX5_ladder_116 rfl (lv_at hl 0 rfl) ?_
          refine zt_get hx hb hts hown hI 1 (v := .ref g.2.2.1) (by decide) q3633 rfl rfl dX5_ladder_117 ?_
          refine lv_bipush (v := 6) hx hb dX5_ladder_120 (by decide) ?_
          refine lv_dup2_11 hx hb dX5_ladder_122 rfl rfl ?_
          refine zt_ld1 hx hb hI hw.1 dX5_ladder_123 ?_
          have hw := hw.2
          refine lv_iconst (v := 1) hx hb dX5_ladder_124 (by decide) ?_
          refine lv_iadd hx hb dX5_ladder_125 ?_
          refine zt_st1 hx hb hI hw.1 dX5_ladder_126 (fun H locs hI => ?_)
          obtain ⟨S_16, eS_16⟩ : ∃ z, z = zt_us S_15 1 (6 : Int32).toNatClampNeg ((S_15 1 (6 : Int32).toNatClampNeg) + (1 : Int32)) := ⟨_, rfl⟩
          rw [← eS_16] at hI
          have hw := hw.2 S_16 eS_16
          refine lv_aload_n hx hb dX5_ladder_127 rfl (lv_at hl 0 rfl) ?_
          refine zt_callv (As := []) (rest := []) ⟨hx, hb, hml, hown, hts⟩ hI (zm_keeps l g S_16 _ hw) (cwV 0 hts (lw_V q3716 q3718 qs43 q113 q3719) rfl rfl rfl hdT_keeps ⟨Nat.le_of_ble_eq_true rfl, Nat.le_of_ble_eq_true rfl⟩) rfl hl.1 rfl (lv_room (Nat.le_of_ble_eq_true rfl)) dX5_ladder_128 ⟨Nat.le_refl _, Nat.le_refl _⟩ (fun S_17 H locs hw hI => ?_)
          refine lv_iload_n hx hb dX5_ladder_131 rfl (lv_at hl 2 rfl) ?_
          exact zt_iret hx hb hr hlk hI hw dX5_ladder_132
        · have hw := hw.2 hc_13
          refine lv_iinc (v := x3_10 + (1 : Int32)) (lv' := [(3, .int (x3_10 + (1 : Int32))), (0, .ref g.2.1), (1, .int v1), (2, .int (S_9 1 (6 : Int32).toNatClampNeg))]) hx hb dX5_ladder_80 hl (k := 3) rfl rfl (by decide) rfl (fun ls hl => ?_)
          refine lv_goto (tgt := 71) hx hb dX5_ladder_83 (by decide) ?_
          exact ih_10 _ _ H locs ls (Nat.lt_of_lt_of_le hw.2 (Nat.le_of_lt_succ hn_10)) hw.1 hI (lv_sub hl [1, 2, 3, 0] rfl)
    exact hL_10 _ _ _ H locs ls (Nat.lt_succ_self _) h0_10 hI (lv_sub hl [2, 3, 1, 0] rfl)
  · have hw := hw.2 hc_8
    refine lv_iconst (v := 0) hx hb dX5_ladder_55 (by decide) ?_
    exact zt_iret hx hb hr hlk hI hw dX5_ladder_56
def zw_ladder_32 (post : Int32 → zt_S → Prop) (t0 : Int32) (v1 : Int32) (S : zt_S) : Prop :=
  zw_refuses t0 (1 : Int32) (3 : Int32) S (fun (r_5 : Int32) (S_4 : zt_S) => (r_5 = (0 : Int32) → (zw_ladder_45 post (0 : Int32) v1 S_4)) ∧ (¬ r_5 = (0 : Int32) → (zw_ladder_45 post (2 : Int32) v1 S_4)))
set_option maxHeartbeats 4000000 in
theorem zj_ladder_32 {p : Program} {l : Launch} {e : Env} {s : State} {m : MethodId} {args : Array Value} {below : List Frame} {meth : Method} {c : Code} {H : Heap} {locs : List Loc} {ls : Array Slot} (g : zt_G) (post : Int32 → zt_S → Prop) (t0 : Int32) (v1 : Int32) (S : zt_S) (hC : zt_C p s m args meth c cX5_ladder 4 (some .int)) (hw : zw_ladder_32 post t0 v1 S) (hI : zt_I g S s H locs) (hl : lv_has ls 4 [(0, .ref g.2.1), (1, .int v1)]) : W p l e ({ frames := 2, cells := 0, slots := 0, locals := 44 } : Room) s m args below meth c H locs 0 0 (MQ below (va_Qi post (zt_B g) (zt_A g)) args s 0 0 (zt_A g)) (F0 m 32 ls [.int t0, .ref g.2.1, .ref g.2.1]) := by
  obtain ⟨hx, hb, hml, hown, hts, hr, hlk⟩ := hC
  unfold zw_ladder_32 at hw
  refine lv_iconst (v := 1) hx hb dX5_ladder_32 (by decide) ?_
  refine lv_iconst (v := 3) hx hb dX5_ladder_33 (by decide) ?_
  refine zt_calli (As := [.int t0, .int (1 : Int32), .int (3 : Int32)]) (rest := [.ref g.2.1]) ⟨hx, hb, hml, hown, hts⟩ hI (zm_refuses l g t0 (1 : Int32) (3 : Int32) S _ hw) (cwV 3 hts (lw_V q3696 q3698 qs38 q113 q3699) rfl rfl rfl hdT_refuses ⟨Nat.le_of_ble_eq_true rfl, Nat.le_of_ble_eq_true rfl⟩) rfl hl.1 rfl (lv_room (Nat.le_of_ble_eq_true rfl)) dX5_ladder_34 ⟨Nat.le_refl _, Nat.le_refl _⟩ (fun r_5 S_4 H locs hw hI => ?_)
  refine lv_if_eq (tgt := 44) hx hb dX5_ladder_37 (by decide) (fun hc_6 => ?_) (fun hc_6 => ?_)
  · have hw := hw.1 hc_6
    refine lv_iconst (v := 0) hx hb dX5_ladder_44 (by decide) ?_
    exact zj_ladder_45 g post (0 : Int32) v1 S_4 ⟨hx, hb, hml, hown, hts, hr, hlk⟩ hw hI (lv_sub hl [0, 1] rfl)
  · have hw := hw.2 hc_6
    refine lv_iconst (v := 2) hx hb dX5_ladder_40 (by decide) ?_
    refine lv_goto (tgt := 45) hx hb dX5_ladder_41 (by decide) ?_
    exact zj_ladder_45 g post (2 : Int32) v1 S_4 ⟨hx, hb, hml, hown, hts, hr, hlk⟩ hw hI (lv_sub hl [0, 1] rfl)
def zw_ladder (p1 : Int32) (S : zt_S) (post : Int32 → zt_S → Prop) : Prop :=
  zw_in p1 (1 : Int32) (6 : Int32) (fun (r_1 : Int32) => (¬ r_1 = (0 : Int32) → (vp_in (6 : Int32) 3810 ∧ ((¬ S 1 (6 : Int32).toNatClampNeg = (3 : Int32) → (zw_ladder_32 post (0 : Int32) p1 S)) ∧ (S 1 (6 : Int32).toNatClampNeg = (3 : Int32) → (zw_ladder_32 post (1 : Int32) p1 S))))) ∧ (r_1 = (0 : Int32) → (zw_ladder_45 post (1 : Int32) p1 S)))
set_option maxHeartbeats 4000000 in
theorem zm_ladder (l : Launch) (g : zt_G) (p1 : Int32) (S : zt_S) (post : Int32 → zt_S → Prop) (hw : zw_ladder p1 S post) : Met l yX5_ladder (ws_ yX5_ladder cX5_ladder 4 (some .int)) ({ frames := 2, cells := 0, slots := 0, locals := 44 } : Room) (va_Pc (.ref g.2.1 :: [.int p1]) (zt_B g S)) (va_Qi post (zt_B g) (zt_A g)) 0 0 (zt_A g) := by
  refine zt_met (by decide) rfl (Nat.le_of_ble_eq_true rfl) (fun p e s m below meth c ls hC hI hl => ?_)
  generalize (Value.ref g.2.1 :: ([.int p1] : List Value)).toArray = args at hC ⊢
  obtain ⟨hx, hb, hml, hown, hts, hr, hlk⟩ := hC
  have hl : lv_has ls 4 [(0, .ref g.2.1), (1, .int p1)] := hl
  unfold zw_ladder at hw
  obtain ⟨H, eH⟩ : ∃ z, z = s.heap := ⟨_, rfl⟩
  obtain ⟨locs, elo⟩ : ∃ z : List Loc, z = [] := ⟨_, rfl⟩
  rw [← eH, ← elo] at hI ⊢
  refine lv_aload_n hx hb dX5_ladder_0 rfl (lv_at hl 0 rfl) ?_
  refine lv_iload_n hx hb dX5_ladder_1 rfl (lv_at hl 1 rfl) ?_
  refine lv_iconst (v := 1) hx hb dX5_ladder_2 (by decide) ?_
  refine lv_bipush (v := 6) hx hb dX5_ladder_3 (by decide) ?_
  refine zt_callS (As := [.int p1, .int (1 : Int32), .int (6 : Int32)]) (rest := [.ref g.2.1]) ⟨hx, hb, hml, hown, hts⟩ (zm_in l p1 (1 : Int32) (6 : Int32) _ hw) (va_cwS 3 hts (lw_S q3693 q3694 q113 q3695) rfl rfl rfl hdT_in ⟨Nat.le_of_ble_eq_true rfl, Nat.le_of_ble_eq_true rfl⟩) rfl hl.1 rfl (lv_room (Nat.le_of_ble_eq_true rfl)) dX5_ladder_5 ⟨Nat.le_refl _, Nat.le_refl _⟩ (fun r_1 hw => ?_)
  refine lv_if_ne (tgt := 15) hx hb dX5_ladder_8 (by decide) (fun hc_2 => ?_) (fun hc_2 => ?_)
  · have hw := hw.1 hc_2
    refine lv_aload_n hx hb dX5_ladder_15 rfl (lv_at hl 0 rfl) ?_
    refine lv_aload_n hx hb dX5_ladder_16 rfl (lv_at hl 0 rfl) ?_
    refine zt_get hx hb hts hown hI 1 (v := .ref g.2.2.1) (by decide) q3633 rfl rfl dX5_ladder_17 ?_
    refine lv_bipush (v := 6) hx hb dX5_ladder_20 (by decide) ?_
    refine zt_ld1 hx hb hI hw.1 dX5_ladder_22 ?_
    have hw := hw.2
    refine lv_iconst (v := 3) hx hb dX5_ladder_23 (by decide) ?_
    refine lv_icmp_ne (tgt := 31) hx hb dX5_ladder_24 (by decide) (fun hc_3 => ?_) (fun hc_3 => ?_)
    · have hw := hw.1 hc_3
      refine lv_iconst (v := 0) hx hb dX5_ladder_31 (by decide) ?_
      exact zj_ladder_32 g post (0 : Int32) p1 S ⟨hx, hb, hml, hown, hts, hr, hlk⟩ hw hI (lv_sub hl [0, 1] rfl)
    · have hw := hw.2 hc_3
      refine lv_iconst (v := 1) hx hb dX5_ladder_27 (by decide) ?_
      refine lv_goto (tgt := 32) hx hb dX5_ladder_28 (by decide) ?_
      exact zj_ladder_32 g post (1 : Int32) p1 S ⟨hx, hb, hml, hown, hts, hr, hlk⟩ hw hI (lv_sub hl [0, 1] rfl)
  · have hw := hw.2 hc_2
    refine lv_iconst (v := 1) hx hb dX5_ladder_11 (by decide) ?_
    refine lv_goto (tgt := 45) hx hb dX5_ladder_12 (by decide) ?_
    exact zj_ladder_45 g post (1 : Int32) p1 S ⟨hx, hb, hml, hown, hts, hr, hlk⟩ hw hI (lv_sub hl [0, 1] rfl)
theorem hdT_ladder : yX5_ladder.cls = RX5 ∧ yX5_ladder.cls ≠ "java/lang/invoke/MethodHandle" ∧ yX5_ladder.cls ≠ "java/lang/invoke/VarHandle" ∧ (parseMethodDescriptor yX5_ladder.desc).map (fun d => d.parameters.length) = some 1 := by decide +kernel
def zw_isLadder (p1 : Int32) (S : zt_S) (post : Int32 → zt_S → Prop) : Prop :=
  vp_in (6 : Int32) 3810 ∧ (zw_in p1 (0 : Int32) ((S 1 (6 : Int32).toNatClampNeg) - (1 : Int32)) (fun (r_1 : Int32) => zt_nar .boolean r_1 ∧ post r_1 S))
set_option maxHeartbeats 4000000 in
theorem zm_isLadder (l : Launch) (g : zt_G) (p1 : Int32) (S : zt_S) (post : Int32 → zt_S → Prop) (hw : zw_isLadder p1 S post) : Met l yX5_isLadder (ws_ yX5_isLadder cX5_isLadder 2 (some .boolean)) ({ frames := 1, cells := 0, slots := 0, locals := 22 } : Room) (va_Pc (.ref g.2.1 :: [.int p1]) (zt_B g S)) (va_Qi post (zt_B g) (zt_A g)) 0 0 (zt_A g) := by
  refine zt_met (by decide) rfl (Nat.le_of_ble_eq_true rfl) (fun p e s m below meth c ls hC hI hl => ?_)
  generalize (Value.ref g.2.1 :: ([.int p1] : List Value)).toArray = args at hC ⊢
  obtain ⟨hx, hb, hml, hown, hts, hr, hlk⟩ := hC
  have hl : lv_has ls 2 [(0, .ref g.2.1), (1, .int p1)] := hl
  unfold zw_isLadder at hw
  obtain ⟨H, eH⟩ : ∃ z, z = s.heap := ⟨_, rfl⟩
  obtain ⟨locs, elo⟩ : ∃ z : List Loc, z = [] := ⟨_, rfl⟩
  rw [← eH, ← elo] at hI ⊢
  refine lv_iload_n hx hb dX5_isLadder_0 rfl (lv_at hl 1 rfl) ?_
  refine lv_iconst (v := 0) hx hb dX5_isLadder_1 (by decide) ?_
  refine lv_aload_n hx hb dX5_isLadder_2 rfl (lv_at hl 0 rfl) ?_
  refine zt_get hx hb hts hown hI 1 (v := .ref g.2.2.1) (by decide) q3633 rfl rfl dX5_isLadder_3 ?_
  refine lv_bipush (v := 6) hx hb dX5_isLadder_6 (by decide) ?_
  refine zt_ld1 hx hb hI hw.1 dX5_isLadder_8 ?_
  have hw := hw.2
  refine lv_iconst (v := 1) hx hb dX5_isLadder_9 (by decide) ?_
  refine lv_isub hx hb dX5_isLadder_10 ?_
  refine zt_callS (As := [.int p1, .int (0 : Int32), .int ((S 1 (6 : Int32).toNatClampNeg) - (1 : Int32))]) (rest := []) ⟨hx, hb, hml, hown, hts⟩ (zm_in l p1 (0 : Int32) ((S 1 (6 : Int32).toNatClampNeg) - (1 : Int32)) _ hw) (va_cwS 3 hts (lw_S q3693 q3694 q113 q3695) rfl rfl rfl hdT_in ⟨Nat.le_of_ble_eq_true rfl, Nat.le_of_ble_eq_true rfl⟩) rfl hl.1 rfl (lv_room (Nat.le_of_ble_eq_true rfl)) dX5_isLadder_11 ⟨Nat.le_refl _, Nat.le_refl _⟩ (fun r_1 hw => ?_)
  exact zt_zret hx hb hr hlk hI hw.1 hw.2 dX5_isLadder_14
theorem hdT_isLadder : yX5_isLadder.cls = RX5 ∧ yX5_isLadder.cls ≠ "java/lang/invoke/MethodHandle" ∧ yX5_isLadder.cls ≠ "java/lang/invoke/VarHandle" ∧ (parseMethodDescriptor yX5_isLadder.desc).map (fun d => d.parameters.length) = some 1 := by decide +kernel
def zw_isAisle (p0 : Int32) (post : Int32 → Prop) : Prop :=
  zw_in p0 (0 : Int32) (4 : Int32) (fun (r_1 : Int32) => zt_nar .boolean r_1 ∧ post r_1)
set_option maxHeartbeats 4000000 in
theorem zm_isAisle (l : Launch) (p0 : Int32) (post : Int32 → Prop) (hw : zw_isAisle p0 post) : Met l yX5_isAisle (ws_ yX5_isAisle cX5_isAisle 1 (some .boolean)) ({ frames := 1, cells := 0, slots := 0, locals := 22 } : Room) (va_Pc [.int p0] (fun _ => True)) (vp_Si post) 0 0 (fun _ => False) := by
  refine zt_metS (by decide) rfl (Nat.le_of_ble_eq_true rfl) (fun p e s m below meth c ls hC hl => ?_)
  generalize (([.int p0] : List Value)).toArray = args at hC ⊢
  obtain ⟨hx, hb, hml, hown, hts, hr, hlk⟩ := hC
  have hl : lv_has ls 1 [(0, .int p0)] := hl
  unfold zw_isAisle at hw
  refine lv_iload_n hx hb dX5_isAisle_0 rfl (lv_at hl 0 rfl) ?_
  refine lv_iconst (v := 0) hx hb dX5_isAisle_1 (by decide) ?_
  refine lv_iconst (v := 4) hx hb dX5_isAisle_2 (by decide) ?_
  refine zt_callS (As := [.int p0, .int (0 : Int32), .int (4 : Int32)]) (rest := []) ⟨hx, hb, hml, hown, hts⟩ (zm_in l p0 (0 : Int32) (4 : Int32) _ hw) (va_cwS 3 hts (lw_S q3693 q3694 q113 q3695) rfl rfl rfl hdT_in ⟨Nat.le_of_ble_eq_true rfl, Nat.le_of_ble_eq_true rfl⟩) rfl hl.1 rfl (lv_room (Nat.le_of_ble_eq_true rfl)) dX5_isAisle_3 ⟨Nat.le_refl _, Nat.le_refl _⟩ (fun r_1 hw => ?_)
  exact zt_sret hx hb hr hlk hw.1 hw.2 dX5_isAisle_6
theorem hdT_isAisle : yX5_isAisle.cls ≠ "java/lang/invoke/MethodHandle" ∧ yX5_isAisle.cls ≠ "java/lang/invoke/VarHandle" ∧ (parseMethodDescriptor yX5_isAisle.desc).map (fun d => d.parameters.length) = some 1 := by decide +kernel
def zw_pushes_41 (post : Int32 → zt_S → Prop) (t0 : Int32) (v1 : Int32) (v2 : Int32) (v3 : Int32) (S : zt_S) : Prop :=
  zw_refuses t0 (4 : Int32) v3 S (fun (r_10 : Int32) (S_9 : zt_S) => (r_10 = (0 : Int32) → (zw_l v1 (1 : Int32) S_9 (fun (r_13 : Int32) (S_12 : zt_S) => ∀ S_14 : zt_S, S_14 = zt_us S_12 0 4 r_13 → (vp_in (((274 : Int32) + ((2 : Int32) * v1)) + (1 : Int32)) 3810 ∧ ∀ S_15 : zt_S, S_15 = zt_us S_14 1 (((274 : Int32) + ((2 : Int32) * v1)) + (1 : Int32)).toNatClampNeg v2 → (post (0 : Int32) S_15))))) ∧ (¬ r_10 = (0 : Int32) → (post (3 : Int32) S_9)))
set_option maxHeartbeats 4000000 in
theorem zj_pushes_41 {p : Program} {l : Launch} {e : Env} {s : State} {m : MethodId} {args : Array Value} {below : List Frame} {meth : Method} {c : Code} {H : Heap} {locs : List Loc} {ls : Array Slot} (g : zt_G) (post : Int32 → zt_S → Prop) (t0 : Int32) (v1 : Int32) (v2 : Int32) (v3 : Int32) (S : zt_S) (hC : zt_C p s m args meth c cX5_pushes 4 (some .int)) (hw : zw_pushes_41 post t0 v1 v2 v3 S) (hI : zt_I g S s H locs) (hl : lv_has ls 4 [(0, .ref g.2.1), (1, .int v1), (2, .int v2), (3, .int v3)]) : W p l e ({ frames := 2, cells := 0, slots := 0, locals := 44 } : Room) s m args below meth c H locs 0 0 (MQ below (va_Qi post (zt_B g) (zt_A g)) args s 0 0 (zt_A g)) (F0 m 41 ls [.int t0, .ref g.2.1]) := by
  obtain ⟨hx, hb, hml, hown, hts, hr, hlk⟩ := hC
  unfold zw_pushes_41 at hw
  refine lv_iconst (v := 4) hx hb dX5_pushes_41 (by decide) ?_
  refine lv_iload_n hx hb dX5_pushes_42 rfl (lv_at hl 3 rfl) ?_
  refine zt_calli (As := [.int t0, .int (4 : Int32), .int v3]) (rest := []) ⟨hx, hb, hml, hown, hts⟩ hI (zm_refuses l g t0 (4 : Int32) v3 S _ hw) (cwV 3 hts (lw_V q3696 q3698 qs38 q113 q3699) rfl rfl rfl hdT_refuses ⟨Nat.le_of_ble_eq_true rfl, Nat.le_of_ble_eq_true rfl⟩) rfl hl.1 rfl (lv_room (Nat.le_of_ble_eq_true rfl)) dX5_pushes_43 ⟨Nat.le_refl _, Nat.le_refl _⟩ (fun r_10 S_9 H locs hw hI => ?_)
  refine lv_if_eq (tgt := 51) hx hb dX5_pushes_46 (by decide) (fun hc_11 => ?_) (fun hc_11 => ?_)
  · have hw := hw.1 hc_11
    refine lv_aload_n hx hb dX5_pushes_51 rfl (lv_at hl 0 rfl) ?_
    refine lv_aload_n hx hb dX5_pushes_52 rfl (lv_at hl 0 rfl) ?_
    refine lv_iload_n hx hb dX5_pushes_53 rfl (lv_at hl 1 rfl) ?_
    refine lv_iconst (v := 1) hx hb dX5_pushes_54 (by decide) ?_
    refine zt_calli (As := [.int v1, .int (1 : Int32)]) (rest := [.ref g.2.1]) ⟨hx, hb, hml, hown, hts⟩ hI (zm_l l g v1 (1 : Int32) S_9 _ hw) (cwV 2 hts (lw_V q3712 q3714 qs42 q113 q3715) rfl rfl rfl hdT_l ⟨Nat.le_of_ble_eq_true rfl, Nat.le_of_ble_eq_true rfl⟩) rfl hl.1 rfl (lv_room (Nat.le_of_ble_eq_true rfl)) dX5_pushes_55 ⟨Nat.le_refl _, Nat.le_refl _⟩ (fun r_13 S_12 H locs hw hI => ?_)
    refine zt_put hx hb hts hown hI 4 (v := r_13) (ty := .int) (by decide) q3636 rfl rfl (by decide +kernel) rfl rfl rfl dX5_pushes_58 (fun H locs hI => ?_)
    obtain ⟨S_14, eS_14⟩ : ∃ z, z = zt_us S_12 0 4 r_13 := ⟨_, rfl⟩
    rw [← eS_14] at hI
    have hw := hw S_14 eS_14
    refine lv_aload_n hx hb dX5_pushes_61 rfl (lv_at hl 0 rfl) ?_
    refine zt_get hx hb hts hown hI 1 (v := .ref g.2.2.1) (by decide) q3633 rfl rfl dX5_pushes_62 ?_
    refine lv_sipush (v := 274) hx hb dX5_pushes_65 (by decide) ?_
    refine lv_iconst (v := 2) hx hb dX5_pushes_68 (by decide) ?_
    refine lv_iload_n hx hb dX5_pushes_69 rfl (lv_at hl 1 rfl) ?_
    refine lv_imul hx hb dX5_pushes_70 ?_
    refine lv_iadd hx hb dX5_pushes_71 ?_
    refine lv_iconst (v := 1) hx hb dX5_pushes_72 (by decide) ?_
    refine lv_iadd hx hb dX5_pushes_73 ?_
    refine lv_iload_n hx hb dX5_pushes_74 rfl (lv_at hl 2 rfl) ?_
    refine zt_st1 hx hb hI hw.1 dX5_pushes_75 (fun H locs hI => ?_)
    obtain ⟨S_15, eS_15⟩ : ∃ z, z = zt_us S_14 1 (((274 : Int32) + ((2 : Int32) * v1)) + (1 : Int32)).toNatClampNeg v2 := ⟨_, rfl⟩
    rw [← eS_15] at hI
    have hw := hw.2 S_15 eS_15
    refine lv_iconst (v := 0) hx hb dX5_pushes_76 (by decide) ?_
    exact zt_iret hx hb hr hlk hI hw dX5_pushes_77
  · have hw := hw.2 hc_11
    refine lv_iconst (v := 3) hx hb dX5_pushes_49 (by decide) ?_
    exact zt_iret hx hb hr hlk hI hw dX5_pushes_50
def zw_pushes_40 (post : Int32 → zt_S → Prop) (v1 : Int32) (v2 : Int32) (v3 : Int32) (S : zt_S) : Prop :=
  zw_pushes_41 post (0 : Int32) v1 v2 v3 S
set_option maxHeartbeats 4000000 in
theorem zj_pushes_40 {p : Program} {l : Launch} {e : Env} {s : State} {m : MethodId} {args : Array Value} {below : List Frame} {meth : Method} {c : Code} {H : Heap} {locs : List Loc} {ls : Array Slot} (g : zt_G) (post : Int32 → zt_S → Prop) (v1 : Int32) (v2 : Int32) (v3 : Int32) (S : zt_S) (hC : zt_C p s m args meth c cX5_pushes 4 (some .int)) (hw : zw_pushes_40 post v1 v2 v3 S) (hI : zt_I g S s H locs) (hl : lv_has ls 4 [(0, .ref g.2.1), (1, .int v1), (2, .int v2), (3, .int v3)]) : W p l e ({ frames := 2, cells := 0, slots := 0, locals := 44 } : Room) s m args below meth c H locs 0 0 (MQ below (va_Qi post (zt_B g) (zt_A g)) args s 0 0 (zt_A g)) (F0 m 40 ls [.ref g.2.1]) := by
  obtain ⟨hx, hb, hml, hown, hts, hr, hlk⟩ := hC
  unfold zw_pushes_40 at hw
  refine lv_iconst (v := 0) hx hb dX5_pushes_40 (by decide) ?_
  exact zj_pushes_41 g post (0 : Int32) v1 v2 v3 S ⟨hx, hb, hml, hown, hts, hr, hlk⟩ hw hI (lv_sub hl [0, 1, 2, 3] rfl)
def zw_pushes (p1 : Int32) (p2 : Int32) (S : zt_S) (post : Int32 → zt_S → Prop) : Prop :=
  zw_isLadder p1 S (fun (r_2 : Int32) (S_1 : zt_S) => (¬ r_2 = (0 : Int32) → (zw_isAisle p2 (fun (r_4 : Int32) => (¬ r_4 = (0 : Int32) → (zw_ladderAt p2 S_1 (fun (r_7 : Int32) (S_6 : zt_S) => (r_7 = (-1 : Int32) → (zw_pushes_40 post p1 p2 r_7 S_6)) ∧ (¬ r_7 = (-1 : Int32) → ((r_7 = p1 → (zw_pushes_40 post p1 p2 r_7 S_6)) ∧ (¬ r_7 = p1 → (zw_pushes_41 post (1 : Int32) p1 p2 r_7 S_6))))))) ∧ (r_4 = (0 : Int32) → (post (2 : Int32) S_1))))) ∧ (r_2 = (0 : Int32) → (post (1 : Int32) S_1)))
set_option maxHeartbeats 4000000 in
theorem zm_pushes (l : Launch) (g : zt_G) (p1 : Int32) (p2 : Int32) (S : zt_S) (post : Int32 → zt_S → Prop) (hw : zw_pushes p1 p2 S post) : Met l yX5_pushes (ws_ yX5_pushes cX5_pushes 4 (some .int)) ({ frames := 2, cells := 0, slots := 0, locals := 44 } : Room) (va_Pc (.ref g.2.1 :: [.int p1, .int p2]) (zt_B g S)) (va_Qi post (zt_B g) (zt_A g)) 0 0 (zt_A g) := by
  refine zt_met (by decide) rfl (Nat.le_of_ble_eq_true rfl) (fun p e s m below meth c ls hC hI hl => ?_)
  generalize (Value.ref g.2.1 :: ([.int p1, .int p2] : List Value)).toArray = args at hC ⊢
  obtain ⟨hx, hb, hml, hown, hts, hr, hlk⟩ := hC
  have hl : lv_has ls 4 [(0, .ref g.2.1), (1, .int p1), (2, .int p2)] := hl
  unfold zw_pushes at hw
  obtain ⟨H, eH⟩ : ∃ z, z = s.heap := ⟨_, rfl⟩
  obtain ⟨locs, elo⟩ : ∃ z : List Loc, z = [] := ⟨_, rfl⟩
  rw [← eH, ← elo] at hI ⊢
  refine lv_aload_n hx hb dX5_pushes_0 rfl (lv_at hl 0 rfl) ?_
  refine lv_iload_n hx hb dX5_pushes_1 rfl (lv_at hl 1 rfl) ?_
  refine zt_calli (As := [.int p1]) (rest := []) ⟨hx, hb, hml, hown, hts⟩ hI (zm_isLadder l g p1 S _ hw) (cwV 1 hts (lw_V q3728 q3730 qs45 q113 q3731) rfl rfl rfl hdT_isLadder ⟨Nat.le_of_ble_eq_true rfl, Nat.le_of_ble_eq_true rfl⟩) rfl hl.1 rfl (lv_room (Nat.le_of_ble_eq_true rfl)) dX5_pushes_2 ⟨Nat.le_refl _, Nat.le_refl _⟩ (fun r_2 S_1 H locs hw hI => ?_)
  refine lv_if_ne (tgt := 10) hx hb dX5_pushes_5 (by decide) (fun hc_3 => ?_) (fun hc_3 => ?_)
  · have hw := hw.1 hc_3
    refine lv_iload_n hx hb dX5_pushes_10 rfl (lv_at hl 2 rfl) ?_
    refine zt_callS (As := [.int p2]) (rest := []) ⟨hx, hb, hml, hown, hts⟩ (zm_isAisle l p2 _ hw) (va_cwS 1 hts (lw_S q3732 q3733 q113 q3734) rfl rfl rfl hdT_isAisle ⟨Nat.le_of_ble_eq_true rfl, Nat.le_of_ble_eq_true rfl⟩) rfl hl.1 rfl (lv_room (Nat.le_of_ble_eq_true rfl)) dX5_pushes_11 ⟨Nat.le_refl _, Nat.le_refl _⟩ (fun r_4 hw => ?_)
    refine lv_if_ne (tgt := 19) hx hb dX5_pushes_14 (by decide) (fun hc_5 => ?_) (fun hc_5 => ?_)
    · have hw := hw.1 hc_5
      refine lv_aload_n hx hb dX5_pushes_19 rfl (lv_at hl 0 rfl) ?_
      refine lv_iload_n hx hb dX5_pushes_20 rfl (lv_at hl 2 rfl) ?_
      refine zt_calli (As := [.int p2]) (rest := []) ⟨hx, hb, hml, hown, hts⟩ hI (zm_ladderAt l g p2 S_1 _ hw) (cwV 1 hts (lw_V q3708 q3710 qs41 q113 q3711) rfl rfl rfl hdT_ladderAt ⟨Nat.le_of_ble_eq_true rfl, Nat.le_of_ble_eq_true rfl⟩) rfl hl.1 rfl (lv_room (Nat.le_of_ble_eq_true rfl)) dX5_pushes_21 ⟨Nat.le_refl _, Nat.le_refl _⟩ (fun r_7 S_6 H locs hw hI => ?_)
      refine lv_istore_n (lv' := [(3, .int r_7), (0, .ref g.2.1), (1, .int p1), (2, .int p2)]) hx hb dX5_pushes_24 rfl hl (by decide) rfl (fun ls hl => ?_)
      refine lv_aload_n hx hb dX5_pushes_25 rfl (lv_at hl 1 rfl) ?_
      refine lv_iload_n hx hb dX5_pushes_26 rfl (lv_at hl 0 rfl) ?_
      refine lv_iconst (v := -1) hx hb dX5_pushes_27 (by decide) ?_
      refine lv_icmp_eq (tgt := 40) hx hb dX5_pushes_28 (by decide) (fun hc_8 => ?_) (fun hc_8 => ?_)
      · have hw := hw.1 hc_8
        exact zj_pushes_40 g post p1 p2 r_7 S_6 ⟨hx, hb, hml, hown, hts, hr, hlk⟩ hw hI (lv_sub hl [1, 2, 3, 0] rfl)
      · have hw := hw.2 hc_8
        refine lv_iload_n hx hb dX5_pushes_31 rfl (lv_at hl 0 rfl) ?_
        refine lv_iload_n hx hb dX5_pushes_32 rfl (lv_at hl 2 rfl) ?_
        refine lv_icmp_eq (tgt := 40) hx hb dX5_pushes_33 (by decide) (fun hc_16 => ?_) (fun hc_16 => ?_)
        · have hw := hw.1 hc_16
          exact zj_pushes_40 g post p1 p2 r_7 S_6 ⟨hx, hb, hml, hown, hts, hr, hlk⟩ hw hI (lv_sub hl [1, 2, 3, 0] rfl)
        · have hw := hw.2 hc_16
          refine lv_iconst (v := 1) hx hb dX5_pushes_36 (by decide) ?_
          refine lv_goto (tgt := 41) hx hb dX5_pushes_37 (by decide) ?_
          exact zj_pushes_41 g post (1 : Int32) p1 p2 r_7 S_6 ⟨hx, hb, hml, hown, hts, hr, hlk⟩ hw hI (lv_sub hl [1, 2, 3, 0] rfl)
    · have hw := hw.2 hc_5
      refine lv_iconst (v := 2) hx hb dX5_pushes_17 (by decide) ?_
      exact zt_iret hx hb hr hlk hI hw dX5_pushes_18
  · have hw := hw.2 hc_3
    refine lv_iconst (v := 1) hx hb dX5_pushes_8 (by decide) ?_
    exact zt_iret hx hb hr hlk hI hw dX5_pushes_9
theorem hdT_pushes : yX5_pushes.cls = RX5 ∧ yX5_pushes.cls ≠ "java/lang/invoke/MethodHandle" ∧ yX5_pushes.cls ≠ "java/lang/invoke/VarHandle" ∧ (parseMethodDescriptor yX5_pushes.desc).map (fun d => d.parameters.length) = some 2 := by decide +kernel
def zw_ends_29 (post : Int32 → zt_S → Prop) (t0 : Int32) (v1 : Int32) (S : zt_S) : Prop :=
  ∀ S_4 : zt_S, S_4 = zt_us S 0 0 t0 → ((v1 = (0 : Int32) → (zw_keeps S_4 (fun (S_6 : zt_S) => post (S_6 0 4) S_6))) ∧ (¬ v1 = (0 : Int32) → (zw_copies (8 : Int32) (0 : Int32) S_4 (fun (S_7 : zt_S) => post (0 : Int32) S_7))))
set_option maxHeartbeats 4000000 in
theorem zj_ends_29 {p : Program} {l : Launch} {e : Env} {s : State} {m : MethodId} {args : Array Value} {below : List Frame} {meth : Method} {c : Code} {H : Heap} {locs : List Loc} {ls : Array Slot} (g : zt_G) (post : Int32 → zt_S → Prop) (t0 : Int32) (v1 : Int32) (S : zt_S) (hC : zt_C p s m args meth c cX5_ends 5 (some .int)) (hw : zw_ends_29 post t0 v1 S) (hI : zt_I g S s H locs) (hl : lv_has ls 5 [(0, .ref g.2.1), (1, .int v1)]) : W p l e ({ frames := 2, cells := 0, slots := 0, locals := 44 } : Room) s m args below meth c H locs 0 0 (MQ below (va_Qi post (zt_B g) (zt_A g)) args s 0 0 (zt_A g)) (F0 m 29 ls [.int t0, .ref g.2.1]) := by
  obtain ⟨hx, hb, hml, hown, hts, hr, hlk⟩ := hC
  unfold zw_ends_29 at hw
  refine zt_put hx hb hts hown hI 0 (v := t0) (ty := .int) (by decide) q3632 rfl rfl (by decide +kernel) rfl rfl rfl dX5_ends_29 (fun H locs hI => ?_)
  obtain ⟨S_4, eS_4⟩ : ∃ z, z = zt_us S 0 0 t0 := ⟨_, rfl⟩
  rw [← eS_4] at hI
  have hw := hw S_4 eS_4
  refine lv_iload_n hx hb dX5_ends_32 rfl (lv_at hl 1 rfl) ?_
  refine lv_if_eq (tgt := 45) hx hb dX5_ends_33 (by decide) (fun hc_5 => ?_) (fun hc_5 => ?_)
  · have hw := hw.1 hc_5
    refine lv_aload_n hx hb dX5_ends_45 rfl (lv_at hl 0 rfl) ?_
    refine zt_callv (As := []) (rest := []) ⟨hx, hb, hml, hown, hts⟩ hI (zm_keeps l g S_4 _ hw) (cwV 0 hts (lw_V q3716 q3718 qs43 q113 q3719) rfl rfl rfl hdT_keeps ⟨Nat.le_of_ble_eq_true rfl, Nat.le_of_ble_eq_true rfl⟩) rfl hl.1 rfl (lv_room (Nat.le_of_ble_eq_true rfl)) dX5_ends_46 ⟨Nat.le_refl _, Nat.le_refl _⟩ (fun S_6 H locs hw hI => ?_)
    refine lv_aload_n hx hb dX5_ends_49 rfl (lv_at hl 0 rfl) ?_
    refine zt_get hx hb hts hown hI 4 (v := .int (S_6 0 4)) (by decide) q3636 rfl rfl dX5_ends_50 ?_
    exact zt_iret hx hb hr hlk hI hw dX5_ends_53
  · have hw := hw.2 hc_5
    refine lv_aload_n hx hb dX5_ends_36 rfl (lv_at hl 0 rfl) ?_
    refine lv_bipush (v := 8) hx hb dX5_ends_37 (by decide) ?_
    refine lv_iconst (v := 0) hx hb dX5_ends_39 (by decide) ?_
    refine zt_callv (As := [.int (8 : Int32), .int (0 : Int32)]) (rest := []) ⟨hx, hb, hml, hown, hts⟩ hI (zm_copies l g (8 : Int32) (0 : Int32) S_4 _ hw) (cwV 2 hts (lw_V q3704 q3706 qs40 q113 q3707) rfl rfl rfl hdT_copies ⟨Nat.le_of_ble_eq_true rfl, Nat.le_of_ble_eq_true rfl⟩) rfl hl.1 rfl (lv_room (Nat.le_of_ble_eq_true rfl)) dX5_ends_40 ⟨Nat.le_refl _, Nat.le_refl _⟩ (fun S_7 H locs hw hI => ?_)
    refine lv_iconst (v := 0) hx hb dX5_ends_43 (by decide) ?_
    exact zt_iret hx hb hr hlk hI hw dX5_ends_44
def zw_ends (p1 : Int32) (p2 : Int32) (p3 : Int32) (p4 : Int32) (S : zt_S) (post : Int32 → zt_S → Prop) : Prop :=
  (¬ p1 = (0 : Int32) → ((¬ p1 = (1 : Int32) → ((¬ p1 = (2 : Int32) → (zw_ends_29 post p4 p1 S)) ∧ (p1 = (2 : Int32) → (zw_ends_29 post p3 p1 S)))) ∧ (p1 = (1 : Int32) → (zw_ends_29 post p2 p1 S)))) ∧ (p1 = (0 : Int32) → (zw_ends_29 post (0 : Int32) p1 S))
set_option maxHeartbeats 4000000 in
theorem zm_ends (l : Launch) (g : zt_G) (p1 : Int32) (p2 : Int32) (p3 : Int32) (p4 : Int32) (S : zt_S) (post : Int32 → zt_S → Prop) (hw : zw_ends p1 p2 p3 p4 S post) : Met l yX5_ends (ws_ yX5_ends cX5_ends 5 (some .int)) ({ frames := 2, cells := 0, slots := 0, locals := 44 } : Room) (va_Pc (.ref g.2.1 :: [.int p1, .int p2, .int p3, .int p4]) (zt_B g S)) (va_Qi post (zt_B g) (zt_A g)) 0 0 (zt_A g) := by
  refine zt_met (by decide) rfl (Nat.le_of_ble_eq_true rfl) (fun p e s m below meth c ls hC hI hl => ?_)
  generalize (Value.ref g.2.1 :: ([.int p1, .int p2, .int p3, .int p4] : List Value)).toArray = args at hC ⊢
  obtain ⟨hx, hb, hml, hown, hts, hr, hlk⟩ := hC
  have hl : lv_has ls 5 [(0, .ref g.2.1), (1, .int p1), (2, .int p2), (3, .int p3), (4, .int p4)] := hl
  unfold zw_ends at hw
  obtain ⟨H, eH⟩ : ∃ z, z = s.heap := ⟨_, rfl⟩
  obtain ⟨locs, elo⟩ : ∃ z : List Loc, z = [] := ⟨_, rfl⟩
  rw [← eH, ← elo] at hI ⊢
  refine lv_aload_n hx hb dX5_ends_0 rfl (lv_at hl 0 rfl) ?_
  refine lv_iload_n hx hb dX5_ends_1 rfl (lv_at hl 1 rfl) ?_
  refine lv_if_ne (tgt := 9) hx hb dX5_ends_2 (by decide) (fun hc_1 => ?_) (fun hc_1 => ?_)
  · have hw := hw.1 hc_1
    refine lv_iload_n hx hb dX5_ends_9 rfl (lv_at hl 1 rfl) ?_
    refine lv_iconst (v := 1) hx hb dX5_ends_10 (by decide) ?_
    refine lv_icmp_ne (tgt := 18) hx hb dX5_ends_11 (by decide) (fun hc_2 => ?_) (fun hc_2 => ?_)
    · have hw := hw.1 hc_2
      refine lv_iload_n hx hb dX5_ends_18 rfl (lv_at hl 1 rfl) ?_
      refine lv_iconst (v := 2) hx hb dX5_ends_19 (by decide) ?_
      refine lv_icmp_ne (tgt := 27) hx hb dX5_ends_20 (by decide) (fun hc_3 => ?_) (fun hc_3 => ?_)
      · have hw := hw.1 hc_3
        refine lv_iload hx hb dX5_ends_27 (lv_at hl 4 rfl) ?_
        exact zj_ends_29 g post p4 p1 S ⟨hx, hb, hml, hown, hts, hr, hlk⟩ hw hI (lv_sub hl [0, 1] rfl)
      · have hw := hw.2 hc_3
        refine lv_iload_n hx hb dX5_ends_23 rfl (lv_at hl 3 rfl) ?_
        refine lv_goto (tgt := 29) hx hb dX5_ends_24 (by decide) ?_
        exact zj_ends_29 g post p3 p1 S ⟨hx, hb, hml, hown, hts, hr, hlk⟩ hw hI (lv_sub hl [0, 1] rfl)
    · have hw := hw.2 hc_2
      refine lv_iload_n hx hb dX5_ends_14 rfl (lv_at hl 2 rfl) ?_
      refine lv_goto (tgt := 29) hx hb dX5_ends_15 (by decide) ?_
      exact zj_ends_29 g post p2 p1 S ⟨hx, hb, hml, hown, hts, hr, hlk⟩ hw hI (lv_sub hl [0, 1] rfl)
  · have hw := hw.2 hc_1
    refine lv_iconst (v := 0) hx hb dX5_ends_5 (by decide) ?_
    refine lv_goto (tgt := 29) hx hb dX5_ends_6 (by decide) ?_
    exact zj_ends_29 g post (0 : Int32) p1 S ⟨hx, hb, hml, hown, hts, hr, hlk⟩ hw hI (lv_sub hl [0, 1] rfl)
theorem hdT_ends : yX5_ends.cls = RX5 ∧ yX5_ends.cls ≠ "java/lang/invoke/MethodHandle" ∧ yX5_ends.cls ≠ "java/lang/invoke/VarHandle" ∧ (parseMethodDescriptor yX5_ends.desc).map (fun d => d.parameters.length) = some 4 := by decide +kernel
def zw_push (p1 : Int32) (p2 : Int32) (S : zt_S) (post : Int32 → zt_S → Prop) : Prop :=
  zw_begins S (fun (S_1 : zt_S) => zw_pushes p1 p2 S_1 (fun (r_3 : Int32) (S_2 : zt_S) => zw_ends r_3 (1 : Int32) (2 : Int32) (3 : Int32) S_2 (fun (r_5 : Int32) (S_4 : zt_S) => post r_5 S_4)))
set_option maxHeartbeats 4000000 in
theorem zm_push (l : Launch) (g : zt_G) (p1 : Int32) (p2 : Int32) (S : zt_S) (post : Int32 → zt_S → Prop) (hw : zw_push p1 p2 S post) : Met l yX5_push (ws_ yX5_push cX5_push 3 (some .int)) ({ frames := 3, cells := 0, slots := 0, locals := 68 } : Room) (va_Pc (.ref g.2.1 :: [.int p1, .int p2]) (zt_B g S)) (va_Qi post (zt_B g) (zt_A g)) 0 0 (zt_A g) := by
  refine zt_met (by decide) rfl (Nat.le_of_ble_eq_true rfl) (fun p e s m below meth c ls hC hI hl => ?_)
  generalize (Value.ref g.2.1 :: ([.int p1, .int p2] : List Value)).toArray = args at hC ⊢
  obtain ⟨hx, hb, hml, hown, hts, hr, hlk⟩ := hC
  have hl : lv_has ls 3 [(0, .ref g.2.1), (1, .int p1), (2, .int p2)] := hl
  unfold zw_push at hw
  obtain ⟨H, eH⟩ : ∃ z, z = s.heap := ⟨_, rfl⟩
  obtain ⟨locs, elo⟩ : ∃ z : List Loc, z = [] := ⟨_, rfl⟩
  rw [← eH, ← elo] at hI ⊢
  refine lv_aload_n hx hb dX5_push_0 rfl (lv_at hl 0 rfl) ?_
  refine zt_callv (As := []) (rest := []) ⟨hx, hb, hml, hown, hts⟩ hI (zm_begins l g S _ hw) (cwV 0 hts (lw_V q3700 q3702 qs39 q113 q3703) rfl rfl rfl hdT_begins ⟨Nat.le_of_ble_eq_true rfl, Nat.le_of_ble_eq_true rfl⟩) rfl hl.1 rfl (lv_room (Nat.le_of_ble_eq_true rfl)) dX5_push_1 ⟨Nat.le_refl _, Nat.le_refl _⟩ (fun S_1 H locs hw hI => ?_)
  refine lv_aload_n hx hb dX5_push_4 rfl (lv_at hl 0 rfl) ?_
  refine lv_aload_n hx hb dX5_push_5 rfl (lv_at hl 0 rfl) ?_
  refine lv_iload_n hx hb dX5_push_6 rfl (lv_at hl 1 rfl) ?_
  refine lv_iload_n hx hb dX5_push_7 rfl (lv_at hl 2 rfl) ?_
  refine zt_calli (As := [.int p1, .int p2]) (rest := [.ref g.2.1]) ⟨hx, hb, hml, hown, hts⟩ hI (zm_pushes l g p1 p2 S_1 _ hw) (cwV 2 hts (lw_V q3724 q3726 qs44 q113 q3727) rfl rfl rfl hdT_pushes ⟨Nat.le_of_ble_eq_true rfl, Nat.le_of_ble_eq_true rfl⟩) rfl hl.1 rfl (lv_room (Nat.le_of_ble_eq_true rfl)) dX5_push_8 ⟨Nat.le_refl _, Nat.le_refl _⟩ (fun r_3 S_2 H locs hw hI => ?_)
  refine lv_iconst (v := 1) hx hb dX5_push_11 (by decide) ?_
  refine lv_iconst (v := 2) hx hb dX5_push_12 (by decide) ?_
  refine lv_iconst (v := 3) hx hb dX5_push_13 (by decide) ?_
  refine zt_calli (As := [.int r_3, .int (1 : Int32), .int (2 : Int32), .int (3 : Int32)]) (rest := []) ⟨hx, hb, hml, hown, hts⟩ hI (zm_ends l g r_3 (1 : Int32) (2 : Int32) (3 : Int32) S_2 _ hw) (cwV 4 hts (lw_V q3735 q3737 qs46 q113 q3738) rfl rfl rfl hdT_ends ⟨Nat.le_of_ble_eq_true rfl, Nat.le_of_ble_eq_true rfl⟩) rfl hl.1 rfl (lv_room (Nat.le_of_ble_eq_true rfl)) dX5_push_14 ⟨Nat.le_refl _, Nat.le_refl _⟩ (fun r_5 S_4 H locs hw hI => ?_)
  exact zt_iret hx hb hr hlk hI hw dX5_push_17
theorem hdT_push : yX5_push.cls = RX5 ∧ yX5_push.cls ≠ "java/lang/invoke/MethodHandle" ∧ yX5_push.cls ≠ "java/lang/invoke/VarHandle" ∧ (parseMethodDescriptor yX5_push.desc).map (fun d => d.parameters.length) = some 2 := by decide +kernel
def zw_ladderOf_35 (post : Int32 → zt_S → Prop) (t0 : Int32) (t1 : Int32) (S : zt_S) : Prop :=
  zw_l t1 t0 S (fun (r_8 : Int32) (S_7 : zt_S) => post r_8 S_7)
set_option maxHeartbeats 4000000 in
theorem zj_ladderOf_35 {p : Program} {l : Launch} {e : Env} {s : State} {m : MethodId} {args : Array Value} {below : List Frame} {meth : Method} {c : Code} {H : Heap} {locs : List Loc} {ls : Array Slot} (g : zt_G) (post : Int32 → zt_S → Prop) (t0 : Int32) (t1 : Int32) (S : zt_S) (hC : zt_C p s m args meth c cX5_ladderOf 3 (some .int)) (hw : zw_ladderOf_35 post t0 t1 S) (hI : zt_I g S s H locs) (hl : lv_has ls 3 []) : W p l e ({ frames := 2, cells := 0, slots := 0, locals := 43 } : Room) s m args below meth c H locs 0 0 (MQ below (va_Qi post (zt_B g) (zt_A g)) args s 0 0 (zt_A g)) (F0 m 35 ls [.int t0, .int t1, .ref g.2.1]) := by
  obtain ⟨hx, hb, hml, hown, hts, hr, hlk⟩ := hC
  unfold zw_ladderOf_35 at hw
  refine zt_calli (As := [.int t1, .int t0]) (rest := []) ⟨hx, hb, hml, hown, hts⟩ hI (zm_l l g t1 t0 S _ hw) (cwV 2 hts (lw_V q3712 q3714 qs42 q113 q3715) rfl rfl rfl hdT_l ⟨Nat.le_of_ble_eq_true rfl, Nat.le_of_ble_eq_true rfl⟩) rfl hl.1 rfl (lv_room (Nat.le_of_ble_eq_true rfl)) dX5_ladderOf_35 ⟨Nat.le_refl _, Nat.le_refl _⟩ (fun r_8 S_7 H locs hw hI => ?_)
  refine lv_goto (tgt := 42) hx hb dX5_ladderOf_38 (by decide) ?_
  exact zt_iret hx hb hr hlk hI hw dX5_ladderOf_42
def zw_ladderOf_14 (post : Int32 → zt_S → Prop) (t0 : Int32) (v1 : Int32) (v2 : Int32) (S : zt_S) : Prop :=
  ∀ S_4 : zt_S, S_4 = zt_us S 0 0 t0 → ((¬ S_4 0 0 = (0 : Int32) → (post (0 : Int32) S_4)) ∧ (S_4 0 0 = (0 : Int32) → ((v2 = (0 : Int32) → (zw_ladderOf_35 post (1 : Int32) v1 S_4)) ∧ (¬ v2 = (0 : Int32) → (zw_ladderOf_35 post (0 : Int32) v1 S_4)))))
set_option maxHeartbeats 4000000 in
theorem zj_ladderOf_14 {p : Program} {l : Launch} {e : Env} {s : State} {m : MethodId} {args : Array Value} {below : List Frame} {meth : Method} {c : Code} {H : Heap} {locs : List Loc} {ls : Array Slot} (g : zt_G) (post : Int32 → zt_S → Prop) (t0 : Int32) (v1 : Int32) (v2 : Int32) (S : zt_S) (hC : zt_C p s m args meth c cX5_ladderOf 3 (some .int)) (hw : zw_ladderOf_14 post t0 v1 v2 S) (hI : zt_I g S s H locs) (hl : lv_has ls 3 [(0, .ref g.2.1), (1, .int v1), (2, .int v2)]) : W p l e ({ frames := 2, cells := 0, slots := 0, locals := 43 } : Room) s m args below meth c H locs 0 0 (MQ below (va_Qi post (zt_B g) (zt_A g)) args s 0 0 (zt_A g)) (F0 m 14 ls [.int t0, .ref g.2.1]) := by
  obtain ⟨hx, hb, hml, hown, hts, hr, hlk⟩ := hC
  unfold zw_ladderOf_14 at hw
  refine zt_put hx hb hts hown hI 0 (v := t0) (ty := .int) (by decide) q3632 rfl rfl (by decide +kernel) rfl rfl rfl dX5_ladderOf_14 (fun H locs hI => ?_)
  obtain ⟨S_4, eS_4⟩ : ∃ z, z = zt_us S 0 0 t0 := ⟨_, rfl⟩
  rw [← eS_4] at hI
  have hw := hw S_4 eS_4
  refine lv_aload_n hx hb dX5_ladderOf_17 rfl (lv_at hl 0 rfl) ?_
  refine zt_get hx hb hts hown hI 0 (v := .int (S_4 0 0)) (by decide) q3632 rfl rfl dX5_ladderOf_18 ?_
  refine lv_if_ne (tgt := 41) hx hb dX5_ladderOf_21 (by decide) (fun hc_5 => ?_) (fun hc_5 => ?_)
  · have hw := hw.1 hc_5
    refine lv_iconst (v := 0) hx hb dX5_ladderOf_41 (by decide) ?_
    exact zt_iret hx hb hr hlk hI hw dX5_ladderOf_42
  · have hw := hw.2 hc_5
    refine lv_aload_n hx hb dX5_ladderOf_24 rfl (lv_at hl 0 rfl) ?_
    refine lv_iload_n hx hb dX5_ladderOf_25 rfl (lv_at hl 1 rfl) ?_
    refine lv_iload_n hx hb dX5_ladderOf_26 rfl (lv_at hl 2 rfl) ?_
    refine lv_if_eq (tgt := 34) hx hb dX5_ladderOf_27 (by decide) (fun hc_6 => ?_) (fun hc_6 => ?_)
    · have hw := hw.1 hc_6
      refine lv_iconst (v := 1) hx hb dX5_ladderOf_34 (by decide) ?_
      exact zj_ladderOf_35 g post (1 : Int32) v1 S_4 ⟨hx, hb, hml, hown, hts, hr, hlk⟩ hw hI (lv_sub hl [] rfl)
    · have hw := hw.2 hc_6
      refine lv_iconst (v := 0) hx hb dX5_ladderOf_30 (by decide) ?_
      refine lv_goto (tgt := 35) hx hb dX5_ladderOf_31 (by decide) ?_
      exact zj_ladderOf_35 g post (0 : Int32) v1 S_4 ⟨hx, hb, hml, hown, hts, hr, hlk⟩ hw hI (lv_sub hl [] rfl)
def zw_ladderOf (p1 : Int32) (p2 : Int32) (S : zt_S) (post : Int32 → zt_S → Prop) : Prop :=
  zw_isLadder p1 S (fun (r_2 : Int32) (S_1 : zt_S) => (r_2 = (0 : Int32) → (zw_ladderOf_14 post (1 : Int32) p1 p2 S_1)) ∧ (¬ r_2 = (0 : Int32) → (zw_ladderOf_14 post (0 : Int32) p1 p2 S_1)))
set_option maxHeartbeats 4000000 in
theorem zm_ladderOf (l : Launch) (g : zt_G) (p1 : Int32) (p2 : Int32) (S : zt_S) (post : Int32 → zt_S → Prop) (hw : zw_ladderOf p1 p2 S post) : Met l yX5_ladderOf (ws_ yX5_ladderOf cX5_ladderOf 3 (some .int)) ({ frames := 2, cells := 0, slots := 0, locals := 43 } : Room) (va_Pc (.ref g.2.1 :: [.int p1, .int p2]) (zt_B g S)) (va_Qi post (zt_B g) (zt_A g)) 0 0 (zt_A g) := by
  refine zt_met (by decide) rfl (Nat.le_of_ble_eq_true rfl) (fun p e s m below meth c ls hC hI hl => ?_)
  generalize (Value.ref g.2.1 :: ([.int p1, .int p2] : List Value)).toArray = args at hC ⊢
  obtain ⟨hx, hb, hml, hown, hts, hr, hlk⟩ := hC
  have hl : lv_has ls 3 [(0, .ref g.2.1), (1, .int p1), (2, .int p2)] := hl
  unfold zw_ladderOf at hw
  obtain ⟨H, eH⟩ : ∃ z, z = s.heap := ⟨_, rfl⟩
  obtain ⟨locs, elo⟩ : ∃ z : List Loc, z = [] := ⟨_, rfl⟩
  rw [← eH, ← elo] at hI ⊢
  refine lv_aload_n hx hb dX5_ladderOf_0 rfl (lv_at hl 0 rfl) ?_
  refine lv_aload_n hx hb dX5_ladderOf_1 rfl (lv_at hl 0 rfl) ?_
  refine lv_iload_n hx hb dX5_ladderOf_2 rfl (lv_at hl 1 rfl) ?_
  refine zt_calli (As := [.int p1]) (rest := [.ref g.2.1]) ⟨hx, hb, hml, hown, hts⟩ hI (zm_isLadder l g p1 S _ hw) (cwV 1 hts (lw_V q3728 q3730 qs45 q113 q3731) rfl rfl rfl hdT_isLadder ⟨Nat.le_of_ble_eq_true rfl, Nat.le_of_ble_eq_true rfl⟩) rfl hl.1 rfl (lv_room (Nat.le_of_ble_eq_true rfl)) dX5_ladderOf_3 ⟨Nat.le_refl _, Nat.le_refl _⟩ (fun r_2 S_1 H locs hw hI => ?_)
  refine lv_if_eq (tgt := 13) hx hb dX5_ladderOf_6 (by decide) (fun hc_3 => ?_) (fun hc_3 => ?_)
  · have hw := hw.1 hc_3
    refine lv_iconst (v := 1) hx hb dX5_ladderOf_13 (by decide) ?_
    exact zj_ladderOf_14 g post (1 : Int32) p1 p2 S_1 ⟨hx, hb, hml, hown, hts, hr, hlk⟩ hw hI (lv_sub hl [0, 1, 2] rfl)
  · have hw := hw.2 hc_3
    refine lv_iconst (v := 0) hx hb dX5_ladderOf_9 (by decide) ?_
    refine lv_goto (tgt := 14) hx hb dX5_ladderOf_10 (by decide) ?_
    exact zj_ladderOf_14 g post (0 : Int32) p1 p2 S_1 ⟨hx, hb, hml, hown, hts, hr, hlk⟩ hw hI (lv_sub hl [0, 1, 2] rfl)
theorem hdT_ladderOf : yX5_ladderOf.cls = RX5 ∧ yX5_ladderOf.cls ≠ "java/lang/invoke/MethodHandle" ∧ yX5_ladderOf.cls ≠ "java/lang/invoke/VarHandle" ∧ (parseMethodDescriptor yX5_ladderOf.desc).map (fun d => d.parameters.length) = some 2 := by decide +kernel
def zw_isShelf (p0 : Int32) (post : Int32 → Prop) : Prop :=
  zw_in p0 (0 : Int32) (5 : Int32) (fun (r_1 : Int32) => zt_nar .boolean r_1 ∧ post r_1)
set_option maxHeartbeats 4000000 in
theorem zm_isShelf (l : Launch) (p0 : Int32) (post : Int32 → Prop) (hw : zw_isShelf p0 post) : Met l yX5_isShelf (ws_ yX5_isShelf cX5_isShelf 1 (some .boolean)) ({ frames := 1, cells := 0, slots := 0, locals := 22 } : Room) (va_Pc [.int p0] (fun _ => True)) (vp_Si post) 0 0 (fun _ => False) := by
  refine zt_metS (by decide) rfl (Nat.le_of_ble_eq_true rfl) (fun p e s m below meth c ls hC hl => ?_)
  generalize (([.int p0] : List Value)).toArray = args at hC ⊢
  obtain ⟨hx, hb, hml, hown, hts, hr, hlk⟩ := hC
  have hl : lv_has ls 1 [(0, .int p0)] := hl
  unfold zw_isShelf at hw
  refine lv_iload_n hx hb dX5_isShelf_0 rfl (lv_at hl 0 rfl) ?_
  refine lv_iconst (v := 0) hx hb dX5_isShelf_1 (by decide) ?_
  refine lv_iconst (v := 5) hx hb dX5_isShelf_2 (by decide) ?_
  refine zt_callS (As := [.int p0, .int (0 : Int32), .int (5 : Int32)]) (rest := []) ⟨hx, hb, hml, hown, hts⟩ (zm_in l p0 (0 : Int32) (5 : Int32) _ hw) (va_cwS 3 hts (lw_S q3693 q3694 q113 q3695) rfl rfl rfl hdT_in ⟨Nat.le_of_ble_eq_true rfl, Nat.le_of_ble_eq_true rfl⟩) rfl hl.1 rfl (lv_room (Nat.le_of_ble_eq_true rfl)) dX5_isShelf_3 ⟨Nat.le_refl _, Nat.le_refl _⟩ (fun r_1 hw => ?_)
  exact zt_sret hx hb hr hlk hw.1 hw.2 dX5_isShelf_6
theorem hdT_isShelf : yX5_isShelf.cls ≠ "java/lang/invoke/MethodHandle" ∧ yX5_isShelf.cls ≠ "java/lang/invoke/VarHandle" ∧ (parseMethodDescriptor yX5_isShelf.desc).map (fun d => d.parameters.length) = some 1 := by decide +kernel
def zw_isPaper (p0 : Int32) (p1 : Int32) (post : Int32 → Prop) : Prop :=
  zw_in p0 (0 : Int32) (3 : Int32) (fun (r_1 : Int32) => (r_1 = (0 : Int32) → (post (0 : Int32))) ∧ (¬ r_1 = (0 : Int32) → (zw_in p1 (0 : Int32) (2 : Int32) (fun (r_3 : Int32) => (r_3 = (0 : Int32) → (post (0 : Int32))) ∧ (¬ r_3 = (0 : Int32) → (post (1 : Int32)))))))
set_option maxHeartbeats 4000000 in
theorem zm_isPaper (l : Launch) (p0 : Int32) (p1 : Int32) (post : Int32 → Prop) (hw : zw_isPaper p0 p1 post) : Met l yX5_isPaper (ws_ yX5_isPaper cX5_isPaper 2 (some .boolean)) ({ frames := 1, cells := 0, slots := 0, locals := 22 } : Room) (va_Pc [.int p0, .int p1] (fun _ => True)) (vp_Si post) 0 0 (fun _ => False) := by
  refine zt_metS (by decide) rfl (Nat.le_of_ble_eq_true rfl) (fun p e s m below meth c ls hC hl => ?_)
  generalize (([.int p0, .int p1] : List Value)).toArray = args at hC ⊢
  obtain ⟨hx, hb, hml, hown, hts, hr, hlk⟩ := hC
  have hl : lv_has ls 2 [(0, .int p0), (1, .int p1)] := hl
  unfold zw_isPaper at hw
  refine lv_iload_n hx hb dX5_isPaper_0 rfl (lv_at hl 0 rfl) ?_
  refine lv_iconst (v := 0) hx hb dX5_isPaper_1 (by decide) ?_
  refine lv_iconst (v := 3) hx hb dX5_isPaper_2 (by decide) ?_
  refine zt_callS (As := [.int p0, .int (0 : Int32), .int (3 : Int32)]) (rest := []) ⟨hx, hb, hml, hown, hts⟩ (zm_in l p0 (0 : Int32) (3 : Int32) _ hw) (va_cwS 3 hts (lw_S q3693 q3694 q113 q3695) rfl rfl rfl hdT_in ⟨Nat.le_of_ble_eq_true rfl, Nat.le_of_ble_eq_true rfl⟩) rfl hl.1 rfl (lv_room (Nat.le_of_ble_eq_true rfl)) dX5_isPaper_3 ⟨Nat.le_refl _, Nat.le_refl _⟩ (fun r_1 hw => ?_)
  refine lv_if_eq (tgt := 22) hx hb dX5_isPaper_6 (by decide) (fun hc_2 => ?_) (fun hc_2 => ?_)
  · have hw := hw.1 hc_2
    refine lv_iconst (v := 0) hx hb dX5_isPaper_22 (by decide) ?_
    exact zt_sret hx hb hr hlk rfl hw dX5_isPaper_23
  · have hw := hw.2 hc_2
    refine lv_iload_n hx hb dX5_isPaper_9 rfl (lv_at hl 1 rfl) ?_
    refine lv_iconst (v := 0) hx hb dX5_isPaper_10 (by decide) ?_
    refine lv_iconst (v := 2) hx hb dX5_isPaper_11 (by decide) ?_
    refine zt_callS (As := [.int p1, .int (0 : Int32), .int (2 : Int32)]) (rest := []) ⟨hx, hb, hml, hown, hts⟩ (zm_in l p1 (0 : Int32) (2 : Int32) _ hw) (va_cwS 3 hts (lw_S q3693 q3694 q113 q3695) rfl rfl rfl hdT_in ⟨Nat.le_of_ble_eq_true rfl, Nat.le_of_ble_eq_true rfl⟩) rfl hl.1 rfl (lv_room (Nat.le_of_ble_eq_true rfl)) dX5_isPaper_12 ⟨Nat.le_refl _, Nat.le_refl _⟩ (fun r_3 hw => ?_)
    refine lv_if_eq (tgt := 22) hx hb dX5_isPaper_15 (by decide) (fun hc_4 => ?_) (fun hc_4 => ?_)
    · have hw := hw.1 hc_4
      refine lv_iconst (v := 0) hx hb dX5_isPaper_22 (by decide) ?_
      exact zt_sret hx hb hr hlk rfl hw dX5_isPaper_23
    · have hw := hw.2 hc_4
      refine lv_iconst (v := 1) hx hb dX5_isPaper_18 (by decide) ?_
      refine lv_goto (tgt := 23) hx hb dX5_isPaper_19 (by decide) ?_
      exact zt_sret hx hb hr hlk rfl hw dX5_isPaper_23
theorem hdT_isPaper : yX5_isPaper.cls ≠ "java/lang/invoke/MethodHandle" ∧ yX5_isPaper.cls ≠ "java/lang/invoke/VarHandle" ∧ (parseMethodDescriptor yX5_isPaper.desc).map (fun d => d.parameters.length) = some 2 := by decide +kernel
def zw_r (p1 : Int32) (p2 : Int32) (S : zt_S) (post : Int32 → zt_S → Prop) : Prop :=
  vp_in (((9 : Int32) + ((8 : Int32) * p1)) + p2) 3810 ∧ (post (S 1 (((9 : Int32) + ((8 : Int32) * p1)) + p2).toNatClampNeg) S)
set_option maxHeartbeats 4000000 in
theorem zm_r (l : Launch) (g : zt_G) (p1 : Int32) (p2 : Int32) (S : zt_S) (post : Int32 → zt_S → Prop) (hw : zw_r p1 p2 S post) : Met l yX5_r (ws_ yX5_r cX5_r 3 (some .int)) ({ frames := 0, cells := 0, slots := 0, locals := 0 } : Room) (va_Pc (.ref g.2.1 :: [.int p1, .int p2]) (zt_B g S)) (va_Qi post (zt_B g) (zt_A g)) 0 0 (zt_A g) := by
  refine zt_met (by decide) rfl (Nat.le_of_ble_eq_true rfl) (fun p e s m below meth c ls hC hI hl => ?_)
  generalize (Value.ref g.2.1 :: ([.int p1, .int p2] : List Value)).toArray = args at hC ⊢
  obtain ⟨hx, hb, hml, hown, hts, hr, hlk⟩ := hC
  have hl : lv_has ls 3 [(0, .ref g.2.1), (1, .int p1), (2, .int p2)] := hl
  unfold zw_r at hw
  obtain ⟨H, eH⟩ : ∃ z, z = s.heap := ⟨_, rfl⟩
  obtain ⟨locs, elo⟩ : ∃ z : List Loc, z = [] := ⟨_, rfl⟩
  rw [← eH, ← elo] at hI ⊢
  refine lv_aload_n hx hb dX5_r_0 rfl (lv_at hl 0 rfl) ?_
  refine zt_get hx hb hts hown hI 1 (v := .ref g.2.2.1) (by decide) q3633 rfl rfl dX5_r_1 ?_
  refine lv_bipush (v := 9) hx hb dX5_r_4 (by decide) ?_
  refine lv_bipush (v := 8) hx hb dX5_r_6 (by decide) ?_
  refine lv_iload_n hx hb dX5_r_8 rfl (lv_at hl 1 rfl) ?_
  refine lv_imul hx hb dX5_r_9 ?_
  refine lv_iadd hx hb dX5_r_10 ?_
  refine lv_iload_n hx hb dX5_r_11 rfl (lv_at hl 2 rfl) ?_
  refine lv_iadd hx hb dX5_r_12 ?_
  refine zt_ld1 hx hb hI hw.1 dX5_r_13 ?_
  have hw := hw.2
  exact zt_iret hx hb hr hlk hI hw dX5_r_14
theorem hdT_r : yX5_r.cls = RX5 ∧ yX5_r.cls ≠ "java/lang/invoke/MethodHandle" ∧ yX5_r.cls ≠ "java/lang/invoke/VarHandle" ∧ (parseMethodDescriptor yX5_r.desc).map (fun d => d.parameters.length) = some 2 := by decide +kernel
def zw_heightOf (p1 : Int32) (p2 : Int32) (S : zt_S) (post : Int32 → zt_S → Prop) : Prop :=
  ∃ (In_1 : Int32 → Int32 → zt_S → Prop) (mu_1 : Int32 → Int32 → zt_S → Nat), In_1 (0 : Int32) (0 : Int32) S ∧ ∀ (x3_1 : Int32) (x4_1 : Int32) (S_1 : zt_S), In_1 x3_1 x4_1 S_1 → (vp_in (5 : Int32) 3810 ∧ ((S_1 1 (5 : Int32).toNatClampNeg ≤ x4_1 → (post x3_1 S_1)) ∧ (¬ S_1 1 (5 : Int32).toNatClampNeg ≤ x4_1 → (zw_r x4_1 (4 : Int32) S_1 (fun (r_4 : Int32) (S_3 : zt_S) => (¬ r_4 = p1 → (In_1 (x3_1 + (0 : Int32)) (x4_1 + (1 : Int32)) S_3 ∧ mu_1 (x3_1 + (0 : Int32)) (x4_1 + (1 : Int32)) S_3 < mu_1 x3_1 x4_1 S_1)) ∧ (r_4 = p1 → (zw_r x4_1 (5 : Int32) S_3 (fun (r_7 : Int32) (S_6 : zt_S) => (¬ r_7 = p2 → (In_1 (x3_1 + (0 : Int32)) (x4_1 + (1 : Int32)) S_6 ∧ mu_1 (x3_1 + (0 : Int32)) (x4_1 + (1 : Int32)) S_6 < mu_1 x3_1 x4_1 S_1)) ∧ (r_7 = p2 → (In_1 (x3_1 + (1 : Int32)) (x4_1 + (1 : Int32)) S_6 ∧ mu_1 (x3_1 + (1 : Int32)) (x4_1 + (1 : Int32)) S_6 < mu_1 x3_1 x4_1 S_1))))))))))
set_option maxHeartbeats 4000000 in
theorem zm_heightOf (l : Launch) (g : zt_G) (p1 : Int32) (p2 : Int32) (S : zt_S) (post : Int32 → zt_S → Prop) (hw : zw_heightOf p1 p2 S post) : Met l yX5_heightOf (ws_ yX5_heightOf cX5_heightOf 5 (some .int)) ({ frames := 1, cells := 0, slots := 0, locals := 22 } : Room) (va_Pc (.ref g.2.1 :: [.int p1, .int p2]) (zt_B g S)) (va_Qi post (zt_B g) (zt_A g)) 0 0 (zt_A g) := by
  refine zt_met (by decide) rfl (Nat.le_of_ble_eq_true rfl) (fun p e s m below meth c ls hC hI hl => ?_)
  generalize (Value.ref g.2.1 :: ([.int p1, .int p2] : List Value)).toArray = args at hC ⊢
  obtain ⟨hx, hb, hml, hown, hts, hr, hlk⟩ := hC
  have hl : lv_has ls 5 [(0, .ref g.2.1), (1, .int p1), (2, .int p2)] := hl
  unfold zw_heightOf at hw
  obtain ⟨H, eH⟩ : ∃ z, z = s.heap := ⟨_, rfl⟩
  obtain ⟨locs, elo⟩ : ∃ z : List Loc, z = [] := ⟨_, rfl⟩
  rw [← eH, ← elo] at hI ⊢
  refine lv_iconst (v := 0) hx hb dX5_heightOf_0 (by decide) ?_
  refine lv_istore_n (lv' := [(3, .int (0 : Int32)), (0, .ref g.2.1), (1, .int p1), (2, .int p2)]) hx hb dX5_heightOf_1 rfl hl (by decide) rfl (fun ls hl => ?_)
  refine lv_iconst (v := 0) hx hb dX5_heightOf_2 (by decide) ?_
  refine lv_istore (lv' := [(4, .int (0 : Int32)), (3, .int (0 : Int32)), (0, .ref g.2.1), (1, .int p1), (2, .int p2)]) hx hb dX5_heightOf_3 hl (by decide) rfl (fun ls hl => ?_)
  obtain ⟨In_1, mu_1, h0_1, hw⟩ := hw
  have hL_1 : ∀ (n : Nat) (x3_1 : Int32) (x4_1 : Int32) (S_1 : zt_S) (H : Heap) (locs : List Loc) (ls : Array Slot), mu_1 x3_1 x4_1 S_1 < n → In_1 x3_1 x4_1 S_1 → zt_I g S_1 s H locs → lv_has ls 5 [(0, .ref g.2.1), (1, .int p1), (2, .int p2), (3, .int x3_1), (4, .int x4_1)] → W p l e ({ frames := 1, cells := 0, slots := 0, locals := 22 } : Room) s m args below meth c H locs 0 0 (MQ below (va_Qi post (zt_B g) (zt_A g)) args s 0 0 (zt_A g)) (F0 m 5 ls []) := by
    intro n
    induction n with
    | zero => intro x3_1 x4_1 S_1 H locs ls hn _ _ _; exact absurd hn (Nat.not_lt_zero _)
    | succ n ih_1 =>
      intro x3_1 x4_1 S_1 H locs ls hn_1 hi_1 hI hl
      have hw := hw x3_1 x4_1 S_1 hi_1
      refine lv_iload hx hb dX5_heightOf_5 (lv_at hl 4 rfl) ?_
      refine lv_aload_n hx hb dX5_heightOf_7 rfl (lv_at hl 0 rfl) ?_
      refine zt_get hx hb hts hown hI 1 (v := .ref g.2.2.1) (by decide) q3633 rfl rfl dX5_heightOf_8 ?_
      refine lv_iconst (v := 5) hx hb dX5_heightOf_11 (by decide) ?_
      refine zt_ld1 hx hb hI hw.1 dX5_heightOf_12 ?_
      have hw := hw.2
      refine lv_icmp_ge (tgt := 52) hx hb dX5_heightOf_13 (by decide) (fun hc_2 => ?_) (fun hc_2 => ?_)
      · have hw := hw.1 hc_2
        refine lv_iload_n hx hb dX5_heightOf_52 rfl (lv_at hl 3 rfl) ?_
        exact zt_iret hx hb hr hlk hI hw dX5_heightOf_53
      · have hw := hw.2 hc_2
        refine lv_iload_n hx hb dX5_heightOf_16 rfl (lv_at hl 3 rfl) ?_
        refine lv_aload_n hx hb dX5_heightOf_17 rfl (lv_at hl 0 rfl) ?_
        refine lv_iload hx hb dX5_heightOf_18 (lv_at hl 4 rfl) ?_
        refine lv_iconst (v := 4) hx hb dX5_heightOf_20 (by decide) ?_
        refine zt_calli (As := [.int x4_1, .int (4 : Int32)]) (rest := [.int x3_1]) ⟨hx, hb, hml, hown, hts⟩ hI (zm_r l g x4_1 (4 : Int32) S_1 _ hw) (cwV 2 hts (lw_V q3761 q3763 qs49 q113 q3764) rfl rfl rfl hdT_r ⟨Nat.le_of_ble_eq_true rfl, Nat.le_of_ble_eq_true rfl⟩) rfl hl.1 rfl (lv_room (Nat.le_of_ble_eq_true rfl)) dX5_heightOf_21 ⟨Nat.le_refl _, Nat.le_refl _⟩ (fun r_4 S_3 H locs hw hI => ?_)
        refine lv_iload_n hx hb dX5_heightOf_24 rfl (lv_at hl 1 rfl) ?_
        refine lv_icmp_ne (tgt := 43) hx hb dX5_heightOf_25 (by decide) (fun hc_5 => ?_) (fun hc_5 => ?_)
        · have hw := hw.1 hc_5
          refine lv_iconst (v := 0) hx hb dX5_heightOf_43 (by decide) ?_
          refine lv_iadd hx hb dX5_heightOf_44 ?_
          refine lv_istore_n (lv' := [(3, .int (x3_1 + (0 : Int32))), (0, .ref g.2.1), (1, .int p1), (2, .int p2), (4, .int x4_1)]) hx hb dX5_heightOf_45 rfl hl (by decide) rfl (fun ls hl => ?_)
          refine lv_iinc (v := x4_1 + (1 : Int32)) (lv' := [(4, .int (x4_1 + (1 : Int32))), (3, .int (x3_1 + (0 : Int32))), (0, .ref g.2.1), (1, .int p1), (2, .int p2)]) hx hb dX5_heightOf_46 hl (k := 4) rfl rfl (by decide) rfl (fun ls hl => ?_)
          refine lv_goto (tgt := 5) hx hb dX5_heightOf_49 (by decide) ?_
          exact ih_1 _ _ _ H locs ls (Nat.lt_of_lt_of_le hw.2 (Nat.le_of_lt_succ hn_1)) hw.1 hI (lv_sub hl [2, 3, 4, 1, 0] rfl)
        · have hw := hw.2 hc_5
          refine lv_aload_n hx hb dX5_heightOf_28 rfl (lv_at hl 0 rfl) ?_
          refine lv_iload hx hb dX5_heightOf_29 (lv_at hl 4 rfl) ?_
          refine lv_iconst (v := 5) hx hb dX5_heightOf_31 (by decide) ?_
          refine zt_calli (As := [.int x4_1, .int (5 : Int32)]) (rest := [.int x3_1]) ⟨hx, hb, hml, hown, hts⟩ hI (zm_r l g x4_1 (5 : Int32) S_3 _ hw) (cwV 2 hts (lw_V q3761 q3763 qs49 q113 q3764) rfl rfl rfl hdT_r ⟨Nat.le_of_ble_eq_true rfl, Nat.le_of_ble_eq_true rfl⟩) rfl hl.1 rfl (lv_room (Nat.le_of_ble_eq_true rfl)) dX5_heightOf_32 ⟨Nat.le_refl _, Nat.le_refl _⟩ (fun r_7 S_6 H locs hw hI => ?_)
          refine lv_iload_n hx hb dX5_heightOf_35 rfl (lv_at hl 2 rfl) ?_
          refine lv_icmp_ne (tgt := 43) hx hb dX5_heightOf_36 (by decide) (fun hc_8 => ?_) (fun hc_8 => ?_)
          · have hw := hw.1 hc_8
            refine lv_iconst (v := 0) hx hb dX5_heightOf_43 (by decide) ?_
            refine lv_iadd hx hb dX5_heightOf_44 ?_
            refine lv_istore_n (lv' := [(3, .int (x3_1 + (0 : Int32))), (0, .ref g.2.1), (1, .int p1), (2, .int p2), (4, .int x4_1)]) hx hb dX5_heightOf_45 rfl hl (by decide) rfl (fun ls hl => ?_)
            refine lv_iinc (v := x4_1 + (1 : Int32)) (lv' := [(4, .int (x4_1 + (1 : Int32))), (3, .int (x3_1 + (0 : Int32))), (0, .ref g.2.1), (1, .int p1), (2, .int p2)]) hx hb dX5_heightOf_46 hl (k := 4) rfl rfl (by decide) rfl (fun ls hl => ?_)
            refine lv_goto (tgt := 5) hx hb dX5_heightOf_49 (by decide) ?_
            exact ih_1 _ _ _ H locs ls (Nat.lt_of_lt_of_le hw.2 (Nat.le_of_lt_succ hn_1)) hw.1 hI (lv_sub hl [2, 3, 4, 1, 0] rfl)
          · have hw := hw.2 hc_8
            refine lv_iconst (v := 1) hx hb dX5_heightOf_39 (by decide) ?_
            refine lv_goto (tgt := 44) hx hb dX5_heightOf_40 (by decide) ?_
            refine lv_iadd hx hb dX5_heightOf_44 ?_
            refine lv_istore_n (lv' := [(3, .int (x3_1 + (1 : Int32))), (0, .ref g.2.1), (1, .int p1), (2, .int p2), (4, .int x4_1)]) hx hb dX5_heightOf_45 rfl hl (by decide) rfl (fun ls hl => ?_)
            refine lv_iinc (v := x4_1 + (1 : Int32)) (lv' := [(4, .int (x4_1 + (1 : Int32))), (3, .int (x3_1 + (1 : Int32))), (0, .ref g.2.1), (1, .int p1), (2, .int p2)]) hx hb dX5_heightOf_46 hl (k := 4) rfl rfl (by decide) rfl (fun ls hl => ?_)
            refine lv_goto (tgt := 5) hx hb dX5_heightOf_49 (by decide) ?_
            exact ih_1 _ _ _ H locs ls (Nat.lt_of_lt_of_le hw.2 (Nat.le_of_lt_succ hn_1)) hw.1 hI (lv_sub hl [2, 3, 4, 1, 0] rfl)
  exact hL_1 _ _ _ _ H locs ls (Nat.lt_succ_self _) h0_1 hI (lv_sub hl [2, 3, 4, 1, 0] rfl)
theorem hdT_heightOf : yX5_heightOf.cls = RX5 ∧ yX5_heightOf.cls ≠ "java/lang/invoke/MethodHandle" ∧ yX5_heightOf.cls ≠ "java/lang/invoke/VarHandle" ∧ (parseMethodDescriptor yX5_heightOf.desc).map (fun d => d.parameters.length) = some 2 := by decide +kernel
def zw_setReam (p1 : Int32) (p2 : Int32) (p3 : Int32) (S : zt_S) (post : zt_S → Prop) : Prop :=
  vp_in (((9 : Int32) + ((8 : Int32) * p1)) + p2) 3810 ∧ ∀ S_1 : zt_S, S_1 = zt_us S 1 (((9 : Int32) + ((8 : Int32) * p1)) + p2).toNatClampNeg p3 → (post S_1)
set_option maxHeartbeats 4000000 in
theorem zm_setReam (l : Launch) (g : zt_G) (p1 : Int32) (p2 : Int32) (p3 : Int32) (S : zt_S) (post : zt_S → Prop) (hw : zw_setReam p1 p2 p3 S post) : Met l yX5_setReam (ws_ yX5_setReam cX5_setReam 4 none) ({ frames := 0, cells := 0, slots := 0, locals := 0 } : Room) (va_Pc (.ref g.2.1 :: [.int p1, .int p2, .int p3]) (zt_B g S)) (va_Qv post (zt_B g) (zt_A g)) 0 0 (zt_A g) := by
  refine zt_met (by decide) rfl (Nat.le_of_ble_eq_true rfl) (fun p e s m below meth c ls hC hI hl => ?_)
  generalize (Value.ref g.2.1 :: ([.int p1, .int p2, .int p3] : List Value)).toArray = args at hC ⊢
  obtain ⟨hx, hb, hml, hown, hts, hr, hlk⟩ := hC
  have hl : lv_has ls 4 [(0, .ref g.2.1), (1, .int p1), (2, .int p2), (3, .int p3)] := hl
  unfold zw_setReam at hw
  obtain ⟨H, eH⟩ : ∃ z, z = s.heap := ⟨_, rfl⟩
  obtain ⟨locs, elo⟩ : ∃ z : List Loc, z = [] := ⟨_, rfl⟩
  rw [← eH, ← elo] at hI ⊢
  refine lv_aload_n hx hb dX5_setReam_0 rfl (lv_at hl 0 rfl) ?_
  refine zt_get hx hb hts hown hI 1 (v := .ref g.2.2.1) (by decide) q3633 rfl rfl dX5_setReam_1 ?_
  refine lv_bipush (v := 9) hx hb dX5_setReam_4 (by decide) ?_
  refine lv_bipush (v := 8) hx hb dX5_setReam_6 (by decide) ?_
  refine lv_iload_n hx hb dX5_setReam_8 rfl (lv_at hl 1 rfl) ?_
  refine lv_imul hx hb dX5_setReam_9 ?_
  refine lv_iadd hx hb dX5_setReam_10 ?_
  refine lv_iload_n hx hb dX5_setReam_11 rfl (lv_at hl 2 rfl) ?_
  refine lv_iadd hx hb dX5_setReam_12 ?_
  refine lv_iload_n hx hb dX5_setReam_13 rfl (lv_at hl 3 rfl) ?_
  refine zt_st1 hx hb hI hw.1 dX5_setReam_14 (fun H locs hI => ?_)
  obtain ⟨S_1, eS_1⟩ : ∃ z, z = zt_us S 1 (((9 : Int32) + ((8 : Int32) * p1)) + p2).toNatClampNeg p3 := ⟨_, rfl⟩
  rw [← eS_1] at hI
  have hw := hw.2 S_1 eS_1
  exact zt_vret hx hb hr hlk hI hw dX5_setReam_15
theorem hdT_setReam : yX5_setReam.cls = RX5 ∧ yX5_setReam.cls ≠ "java/lang/invoke/MethodHandle" ∧ yX5_setReam.cls ≠ "java/lang/invoke/VarHandle" ∧ (parseMethodDescriptor yX5_setReam.desc).map (fun d => d.parameters.length) = some 3 := by decide +kernel
def zw_stores_126 (post : Int32 → zt_S → Prop) (t0 : Int32) (v2 : Int32) (v3 : Int32) (v4 : Int32) (v5 : Int32) (v6 : Int32) (v7 : Int32) (v8 : Int32) (S : zt_S) : Prop :=
  zw_refuses t0 (1 : Int32) (30 : Int32) S (fun (r_28 : Int32) (S_27 : zt_S) => (r_28 = (0 : Int32) → (zw_setReam v6 (0 : Int32) v3 S_27 (fun (S_30 : zt_S) => zw_setReam v6 (1 : Int32) v4 S_30 (fun (S_31 : zt_S) => zw_setReam v6 (2 : Int32) (20 : Int32) S_31 (fun (S_32 : zt_S) => zw_setReam v6 (3 : Int32) v5 S_32 (fun (S_33 : zt_S) => zw_setReam v6 (4 : Int32) v7 S_33 (fun (S_34 : zt_S) => zw_setReam v6 (5 : Int32) v2 S_34 (fun (S_35 : zt_S) => zw_setReam v6 (6 : Int32) v8 S_35 (fun (S_36 : zt_S) => zw_setReam v6 (7 : Int32) (0 : Int32) S_36 (fun (S_37 : zt_S) => vp_in (5 : Int32) 3810 ∧ (vp_in (5 : Int32) 3810 ∧ ∀ S_38 : zt_S, S_38 = zt_us S_37 1 (5 : Int32).toNatClampNeg ((S_37 1 (5 : Int32).toNatClampNeg) + (1 : Int32)) → (∀ S_39 : zt_S, S_39 = zt_us S_38 0 4 v6 → (post (0 : Int32) S_39))))))))))))) ∧ (¬ r_28 = (0 : Int32) → (post (3 : Int32) S_27)))
set_option maxHeartbeats 4000000 in
theorem zj_stores_126 {p : Program} {l : Launch} {e : Env} {s : State} {m : MethodId} {args : Array Value} {below : List Frame} {meth : Method} {c : Code} {H : Heap} {locs : List Loc} {ls : Array Slot} (g : zt_G) (post : Int32 → zt_S → Prop) (t0 : Int32) (v2 : Int32) (v3 : Int32) (v4 : Int32) (v5 : Int32) (v6 : Int32) (v7 : Int32) (v8 : Int32) (S : zt_S) (hC : zt_C p s m args meth c cX5_stores 9 (some .int)) (hw : zw_stores_126 post t0 v2 v3 v4 v5 v6 v7 v8 S) (hI : zt_I g S s H locs) (hl : lv_has ls 9 [(0, .ref g.2.1), (2, .int v2), (3, .int v3), (4, .int v4), (5, .int v5), (6, .int v6), (7, .int v7), (8, .int v8)]) : W p l e ({ frames := 2, cells := 0, slots := 0, locals := 46 } : Room) s m args below meth c H locs 0 0 (MQ below (va_Qi post (zt_B g) (zt_A g)) args s 0 0 (zt_A g)) (F0 m 126 ls [.int t0, .ref g.2.1]) := by
  obtain ⟨hx, hb, hml, hown, hts, hr, hlk⟩ := hC
  unfold zw_stores_126 at hw
  refine lv_iconst (v := 1) hx hb dX5_stores_126 (by decide) ?_
  refine lv_bipush (v := 30) hx hb dX5_stores_127 (by decide) ?_
  refine zt_calli (As := [.int t0, .int (1 : Int32), .int (30 : Int32)]) (rest := []) ⟨hx, hb, hml, hown, hts⟩ hI (zm_refuses l g t0 (1 : Int32) (30 : Int32) S _ hw) (cwV 3 hts (lw_V q3696 q3698 qs38 q113 q3699) rfl rfl rfl hdT_refuses ⟨Nat.le_of_ble_eq_true rfl, Nat.le_of_ble_eq_true rfl⟩) rfl hl.1 rfl (lv_room (Nat.le_of_ble_eq_true rfl)) dX5_stores_129 ⟨Nat.le_refl _, Nat.le_refl _⟩ (fun r_28 S_27 H locs hw hI => ?_)
  refine lv_if_eq (tgt := 137) hx hb dX5_stores_132 (by decide) (fun hc_29 => ?_) (fun hc_29 => ?_)
  · have hw := hw.1 hc_29
    refine lv_aload_n hx hb dX5_stores_137 rfl (lv_at hl 0 rfl) ?_
    refine lv_iload hx hb dX5_stores_138 (lv_at hl 5 rfl) ?_
    refine lv_iconst (v := 0) hx hb dX5_stores_140 (by decide) ?_
    refine lv_iload_n hx hb dX5_stores_141 rfl (lv_at hl 2 rfl) ?_
    refine zt_callv (As := [.int v6, .int (0 : Int32), .int v3]) (rest := []) ⟨hx, hb, hml, hown, hts⟩ hI (zm_setReam l g v6 (0 : Int32) v3 S_27 _ hw) (cwV 3 hts (lw_V q3765 q3767 qs50 q113 q3768) rfl rfl rfl hdT_setReam ⟨Nat.le_of_ble_eq_true rfl, Nat.le_of_ble_eq_true rfl⟩) rfl hl.1 rfl (lv_room (Nat.le_of_ble_eq_true rfl)) dX5_stores_142 ⟨Nat.le_refl _, Nat.le_refl _⟩ (fun S_30 H locs hw hI => ?_)
    refine lv_aload_n hx hb dX5_stores_145 rfl (lv_at hl 0 rfl) ?_
    refine lv_iload hx hb dX5_stores_146 (lv_at hl 5 rfl) ?_
    refine lv_iconst (v := 1) hx hb dX5_stores_148 (by decide) ?_
    refine lv_iload hx hb dX5_stores_149 (lv_at hl 3 rfl) ?_
    refine zt_callv (As := [.int v6, .int (1 : Int32), .int v4]) (rest := []) ⟨hx, hb, hml, hown, hts⟩ hI (zm_setReam l g v6 (1 : Int32) v4 S_30 _ hw) (cwV 3 hts (lw_V q3765 q3767 qs50 q113 q3768) rfl rfl rfl hdT_setReam ⟨Nat.le_of_ble_eq_true rfl, Nat.le_of_ble_eq_true rfl⟩) rfl hl.1 rfl (lv_room (Nat.le_of_ble_eq_true rfl)) dX5_stores_151 ⟨Nat.le_refl _, Nat.le_refl _⟩ (fun S_31 H locs hw hI => ?_)
    refine lv_aload_n hx hb dX5_stores_154 rfl (lv_at hl 0 rfl) ?_
    refine lv_iload hx hb dX5_stores_155 (lv_at hl 5 rfl) ?_
    refine lv_iconst (v := 2) hx hb dX5_stores_157 (by decide) ?_
    refine lv_bipush (v := 20) hx hb dX5_stores_158 (by decide) ?_
    refine zt_callv (As := [.int v6, .int (2 : Int32), .int (20 : Int32)]) (rest := []) ⟨hx, hb, hml, hown, hts⟩ hI (zm_setReam l g v6 (2 : Int32) (20 : Int32) S_31 _ hw) (cwV 3 hts (lw_V q3765 q3767 qs50 q113 q3768) rfl rfl rfl hdT_setReam ⟨Nat.le_of_ble_eq_true rfl, Nat.le_of_ble_eq_true rfl⟩) rfl hl.1 rfl (lv_room (Nat.le_of_ble_eq_true rfl)) dX5_stores_160 ⟨Nat.le_refl _, Nat.le_refl _⟩ (fun S_32 H locs hw hI => ?_)
    refine lv_aload_n hx hb dX5_stores_163 rfl (lv_at hl 0 rfl) ?_
    refine lv_iload hx hb dX5_stores_164 (lv_at hl 5 rfl) ?_
    refine lv_iconst (v := 3) hx hb dX5_stores_166 (by decide) ?_
    refine lv_iload hx hb dX5_stores_167 (lv_at hl 4 rfl) ?_
    refine zt_callv (As := [.int v6, .int (3 : Int32), .int v5]) (rest := []) ⟨hx, hb, hml, hown, hts⟩ hI (zm_setReam l g v6 (3 : Int32) v5 S_32 _ hw) (cwV 3 hts (lw_V q3765 q3767 qs50 q113 q3768) rfl rfl rfl hdT_setReam ⟨Nat.le_of_ble_eq_true rfl, Nat.le_of_ble_eq_true rfl⟩) rfl hl.1 rfl (lv_room (Nat.le_of_ble_eq_true rfl)) dX5_stores_169 ⟨Nat.le_refl _, Nat.le_refl _⟩ (fun S_33 H locs hw hI => ?_)
    refine lv_aload_n hx hb dX5_stores_172 rfl (lv_at hl 0 rfl) ?_
    refine lv_iload hx hb dX5_stores_173 (lv_at hl 5 rfl) ?_
    refine lv_iconst (v := 4) hx hb dX5_stores_175 (by decide) ?_
    refine lv_iload hx hb dX5_stores_176 (lv_at hl 6 rfl) ?_
    refine zt_callv (As := [.int v6, .int (4 : Int32), .int v7]) (rest := []) ⟨hx, hb, hml, hown, hts⟩ hI (zm_setReam l g v6 (4 : Int32) v7 S_33 _ hw) (cwV 3 hts (lw_V q3765 q3767 qs50 q113 q3768) rfl rfl rfl hdT_setReam ⟨Nat.le_of_ble_eq_true rfl, Nat.le_of_ble_eq_true rfl⟩) rfl hl.1 rfl (lv_room (Nat.le_of_ble_eq_true rfl)) dX5_stores_178 ⟨Nat.le_refl _, Nat.le_refl _⟩ (fun S_34 H locs hw hI => ?_)
    refine lv_aload_n hx hb dX5_stores_181 rfl (lv_at hl 0 rfl) ?_
    refine lv_iload hx hb dX5_stores_182 (lv_at hl 5 rfl) ?_
    refine lv_iconst (v := 5) hx hb dX5_stores_184 (by decide) ?_
    refine lv_iload_n hx hb dX5_stores_185 rfl (lv_at hl 1 rfl) ?_
    refine zt_callv (As := [.int v6, .int (5 : Int32), .int v2]) (rest := []) ⟨hx, hb, hml, hown, hts⟩ hI (zm_setReam l g v6 (5 : Int32) v2 S_34 _ hw) (cwV 3 hts (lw_V q3765 q3767 qs50 q113 q3768) rfl rfl rfl hdT_setReam ⟨Nat.le_of_ble_eq_true rfl, Nat.le_of_ble_eq_true rfl⟩) rfl hl.1 rfl (lv_room (Nat.le_of_ble_eq_true rfl)) dX5_stores_186 ⟨Nat.le_refl _, Nat.le_refl _⟩ (fun S_35 H locs hw hI => ?_)
    refine lv_aload_n hx hb dX5_stores_189 rfl (lv_at hl 0 rfl) ?_
    refine lv_iload hx hb dX5_stores_190 (lv_at hl 5 rfl) ?_
    refine lv_bipush (v := 6) hx hb dX5_stores_192 (by decide) ?_
    refine lv_iload hx hb dX5_stores_194 (lv_at hl 7 rfl) ?_
    refine zt_callv (As := [.int v6, .int (6 : Int32), .int v8]) (rest := []) ⟨hx, hb, hml, hown, hts⟩ hI (zm_setReam l g v6 (6 : Int32) v8 S_35 _ hw) (cwV 3 hts (lw_V q3765 q3767 qs50 q113 q3768) rfl rfl rfl hdT_setReam ⟨Nat.le_of_ble_eq_true rfl, Nat.le_of_ble_eq_true rfl⟩) rfl hl.1 rfl (lv_room (Nat.le_of_ble_eq_true rfl)) dX5_stores_196 ⟨Nat.le_refl _, Nat.le_refl _⟩ (fun S_36 H locs hw hI => ?_)
    refine lv_aload_n hx hb dX5_stores_199 rfl (lv_at hl 0 rfl) ?_
    refine lv_iload hx hb dX5_stores_200 (lv_at hl 5 rfl) ?_
    refine lv_bipush (v := 7) hx hb dX5_stores_202 (by decide) ?_
    refine lv_iconst (v := 0) hx hb dX5_stores_204 (by decide) ?_
    refine zt_callv (As := [.int v6, .int (7 : Int32), .int (0 : Int32)]) (rest := []) ⟨hx, hb, hml, hown, hts⟩ hI (zm_setReam l g v6 (7 : Int32) (0 : Int32) S_36 _ hw) (cwV 3 hts (lw_V q3765 q3767 qs50 q113 q3768) rfl rfl rfl hdT_setReam ⟨Nat.le_of_ble_eq_true rfl, Nat.le_of_ble_eq_true rfl⟩) rfl hl.1 rfl (lv_room (Nat.le_of_ble_eq_true rfl)) dX5_stores_205 ⟨Nat.le_refl _, Nat.le_refl _⟩ (fun S_37 H locs hw hI => ?_)
    refine lv_aload_n hx hb dX5_stores_208 rfl (lv_at hl 0 rfl) ?_
    refine zt_get hx hb hts hown hI 1 (v := .ref g.2.2.1) (by decide) q3633 rfl rfl dX5_stores_209 ?_
    refine lv_iconst (v := 5) hx hb dX5_stores_212 (by decide) ?_
    refine lv_dup2_11 hx hb dX5_stores_213 rfl rfl ?_
    refine zt_ld1 hx hb hI hw.1 dX5_stores_214 ?_
    have hw := hw.2
    refine lv_iconst (v := 1) hx hb dX5_stores_215 (by decide) ?_
    refine lv_iadd hx hb dX5_stores_216 ?_
    refine zt_st1 hx hb hI hw.1 dX5_stores_217 (fun H locs hI => ?_)
    obtain ⟨S_38, eS_38⟩ : ∃ z, z = zt_us S_37 1 (5 : Int32).toNatClampNeg ((S_37 1 (5 : Int32).toNatClampNeg) + (1 : Int32)) := ⟨_, rfl⟩
    rw [← eS_38] at hI
    have hw := hw.2 S_38 eS_38
    refine lv_aload_n hx hb dX5_stores_218 rfl (lv_at hl 0 rfl) ?_
    refine lv_iload hx hb dX5_stores_219 (lv_at hl 5 rfl) ?_
    refine zt_put hx hb hts hown hI 4 (v := v6) (ty := .int) (by decide) q3636 rfl rfl (by decide +kernel) rfl rfl rfl dX5_stores_221 (fun H locs hI => ?_)
    obtain ⟨S_39, eS_39⟩ : ∃ z, z = zt_us S_38 0 4 v6 := ⟨_, rfl⟩
    rw [← eS_39] at hI
    have hw := hw S_39 eS_39
    refine lv_iconst (v := 0) hx hb dX5_stores_224 (by decide) ?_
    exact zt_iret hx hb hr hlk hI hw dX5_stores_225
  · have hw := hw.2 hc_29
    refine lv_iconst (v := 3) hx hb dX5_stores_135 (by decide) ?_
    exact zt_iret hx hb hr hlk hI hw dX5_stores_136
def zw_stores_105 (post : Int32 → zt_S → Prop) (t0 : Int32) (v2 : Int32) (v3 : Int32) (v4 : Int32) (v5 : Int32) (v6 : Int32) (v7 : Int32) (v8 : Int32) (S : zt_S) : Prop :=
  zw_refuses t0 (3 : Int32) v2 S (fun (r_24 : Int32) (S_23 : zt_S) => (¬ r_24 = (0 : Int32) → (post (3 : Int32) S_23)) ∧ (r_24 = (0 : Int32) → ((¬ v6 = (30 : Int32) → (zw_stores_126 post (0 : Int32) v2 v3 v4 v5 v6 v7 v8 S_23)) ∧ (v6 = (30 : Int32) → (zw_stores_126 post (1 : Int32) v2 v3 v4 v5 v6 v7 v8 S_23)))))
set_option maxHeartbeats 4000000 in
theorem zj_stores_105 {p : Program} {l : Launch} {e : Env} {s : State} {m : MethodId} {args : Array Value} {below : List Frame} {meth : Method} {c : Code} {H : Heap} {locs : List Loc} {ls : Array Slot} (g : zt_G) (post : Int32 → zt_S → Prop) (t0 : Int32) (v2 : Int32) (v3 : Int32) (v4 : Int32) (v5 : Int32) (v6 : Int32) (v7 : Int32) (v8 : Int32) (S : zt_S) (hC : zt_C p s m args meth c cX5_stores 9 (some .int)) (hw : zw_stores_105 post t0 v2 v3 v4 v5 v6 v7 v8 S) (hI : zt_I g S s H locs) (hl : lv_has ls 9 [(0, .ref g.2.1), (2, .int v2), (3, .int v3), (4, .int v4), (5, .int v5), (6, .int v6), (7, .int v7), (8, .int v8)]) : W p l e ({ frames := 2, cells := 0, slots := 0, locals := 46 } : Room) s m args below meth c H locs 0 0 (MQ below (va_Qi post (zt_B g) (zt_A g)) args s 0 0 (zt_A g)) (F0 m 105 ls [.int t0, .ref g.2.1]) := by
  obtain ⟨hx, hb, hml, hown, hts, hr, hlk⟩ := hC
  unfold zw_stores_105 at hw
  refine lv_iconst (v := 3) hx hb dX5_stores_105 (by decide) ?_
  refine lv_iload_n hx hb dX5_stores_106 rfl (lv_at hl 1 rfl) ?_
  refine zt_calli (As := [.int t0, .int (3 : Int32), .int v2]) (rest := []) ⟨hx, hb, hml, hown, hts⟩ hI (zm_refuses l g t0 (3 : Int32) v2 S _ hw) (cwV 3 hts (lw_V q3696 q3698 qs38 q113 q3699) rfl rfl rfl hdT_refuses ⟨Nat.le_of_ble_eq_true rfl, Nat.le_of_ble_eq_true rfl⟩) rfl hl.1 rfl (lv_room (Nat.le_of_ble_eq_true rfl)) dX5_stores_107 ⟨Nat.le_refl _, Nat.le_refl _⟩ (fun r_24 S_23 H locs hw hI => ?_)
  refine lv_if_ne (tgt := 135) hx hb dX5_stores_110 (by decide) (fun hc_25 => ?_) (fun hc_25 => ?_)
  · have hw := hw.1 hc_25
    refine lv_iconst (v := 3) hx hb dX5_stores_135 (by decide) ?_
    exact zt_iret hx hb hr hlk hI hw dX5_stores_136
  · have hw := hw.2 hc_25
    refine lv_aload_n hx hb dX5_stores_113 rfl (lv_at hl 0 rfl) ?_
    refine lv_iload hx hb dX5_stores_114 (lv_at hl 5 rfl) ?_
    refine lv_bipush (v := 30) hx hb dX5_stores_116 (by decide) ?_
    refine lv_icmp_ne (tgt := 125) hx hb dX5_stores_118 (by decide) (fun hc_26 => ?_) (fun hc_26 => ?_)
    · have hw := hw.1 hc_26
      refine lv_iconst (v := 0) hx hb dX5_stores_125 (by decide) ?_
      exact zj_stores_126 g post (0 : Int32) v2 v3 v4 v5 v6 v7 v8 S_23 ⟨hx, hb, hml, hown, hts, hr, hlk⟩ hw hI (lv_sub hl [0, 1, 2, 3, 4, 5, 6, 7] rfl)
    · have hw := hw.2 hc_26
      refine lv_iconst (v := 1) hx hb dX5_stores_121 (by decide) ?_
      refine lv_goto (tgt := 126) hx hb dX5_stores_122 (by decide) ?_
      exact zj_stores_126 g post (1 : Int32) v2 v3 v4 v5 v6 v7 v8 S_23 ⟨hx, hb, hml, hown, hts, hr, hlk⟩ hw hI (lv_sub hl [0, 1, 2, 3, 4, 5, 6, 7] rfl)
def zw_stores_80 (post : Int32 → zt_S → Prop) (t0 : Int32) (v1 : Int32) (v2 : Int32) (v3 : Int32) (v4 : Int32) (v5 : Int32) (v6 : Int32) (v7 : Int32) (v8 : Int32) (S : zt_S) : Prop :=
  zw_l v1 (0 : Int32) S (fun (r_18 : Int32) (S_17 : zt_S) => zw_refuses t0 (2 : Int32) r_18 S_17 (fun (r_20 : Int32) (S_19 : zt_S) => (¬ r_20 = (0 : Int32) → (post (3 : Int32) S_19)) ∧ (r_20 = (0 : Int32) → ((¬ v8 = (3 : Int32) → (zw_stores_105 post (0 : Int32) v2 v3 v4 v5 v6 v7 v8 S_19)) ∧ (v8 = (3 : Int32) → (zw_stores_105 post (1 : Int32) v2 v3 v4 v5 v6 v7 v8 S_19))))))
set_option maxHeartbeats 4000000 in
theorem zj_stores_80 {p : Program} {l : Launch} {e : Env} {s : State} {m : MethodId} {args : Array Value} {below : List Frame} {meth : Method} {c : Code} {H : Heap} {locs : List Loc} {ls : Array Slot} (g : zt_G) (post : Int32 → zt_S → Prop) (t0 : Int32) (v1 : Int32) (v2 : Int32) (v3 : Int32) (v4 : Int32) (v5 : Int32) (v6 : Int32) (v7 : Int32) (v8 : Int32) (S : zt_S) (hC : zt_C p s m args meth c cX5_stores 9 (some .int)) (hw : zw_stores_80 post t0 v1 v2 v3 v4 v5 v6 v7 v8 S) (hI : zt_I g S s H locs) (hl : lv_has ls 9 [(0, .ref g.2.1), (1, .int v1), (2, .int v2), (3, .int v3), (4, .int v4), (5, .int v5), (6, .int v6), (7, .int v7), (8, .int v8)]) : W p l e ({ frames := 2, cells := 0, slots := 0, locals := 46 } : Room) s m args below meth c H locs 0 0 (MQ below (va_Qi post (zt_B g) (zt_A g)) args s 0 0 (zt_A g)) (F0 m 80 ls [.int t0, .ref g.2.1]) := by
  obtain ⟨hx, hb, hml, hown, hts, hr, hlk⟩ := hC
  unfold zw_stores_80 at hw
  refine lv_iconst (v := 2) hx hb dX5_stores_80 (by decide) ?_
  refine lv_aload_n hx hb dX5_stores_81 rfl (lv_at hl 0 rfl) ?_
  refine lv_iload_n hx hb dX5_stores_82 rfl (lv_at hl 1 rfl) ?_
  refine lv_iconst (v := 0) hx hb dX5_stores_83 (by decide) ?_
  refine zt_calli (As := [.int v1, .int (0 : Int32)]) (rest := [.int (2 : Int32), .int t0, .ref g.2.1]) ⟨hx, hb, hml, hown, hts⟩ hI (zm_l l g v1 (0 : Int32) S _ hw) (cwV 2 hts (lw_V q3712 q3714 qs42 q113 q3715) rfl rfl rfl hdT_l ⟨Nat.le_of_ble_eq_true rfl, Nat.le_of_ble_eq_true rfl⟩) rfl hl.1 rfl (lv_room (Nat.le_of_ble_eq_true rfl)) dX5_stores_84 ⟨Nat.le_refl _, Nat.le_refl _⟩ (fun r_18 S_17 H locs hw hI => ?_)
  refine zt_calli (As := [.int t0, .int (2 : Int32), .int r_18]) (rest := []) ⟨hx, hb, hml, hown, hts⟩ hI (zm_refuses l g t0 (2 : Int32) r_18 S_17 _ hw) (cwV 3 hts (lw_V q3696 q3698 qs38 q113 q3699) rfl rfl rfl hdT_refuses ⟨Nat.le_of_ble_eq_true rfl, Nat.le_of_ble_eq_true rfl⟩) rfl hl.1 rfl (lv_room (Nat.le_of_ble_eq_true rfl)) dX5_stores_87 ⟨Nat.le_refl _, Nat.le_refl _⟩ (fun r_20 S_19 H locs hw hI => ?_)
  refine lv_if_ne (tgt := 135) hx hb dX5_stores_90 (by decide) (fun hc_21 => ?_) (fun hc_21 => ?_)
  · have hw := hw.1 hc_21
    refine lv_iconst (v := 3) hx hb dX5_stores_135 (by decide) ?_
    exact zt_iret hx hb hr hlk hI hw dX5_stores_136
  · have hw := hw.2 hc_21
    refine lv_aload_n hx hb dX5_stores_93 rfl (lv_at hl 0 rfl) ?_
    refine lv_iload hx hb dX5_stores_94 (lv_at hl 8 rfl) ?_
    refine lv_iconst (v := 3) hx hb dX5_stores_96 (by decide) ?_
    refine lv_icmp_ne (tgt := 104) hx hb dX5_stores_97 (by decide) (fun hc_22 => ?_) (fun hc_22 => ?_)
    · have hw := hw.1 hc_22
      refine lv_iconst (v := 0) hx hb dX5_stores_104 (by decide) ?_
      exact zj_stores_105 g post (0 : Int32) v2 v3 v4 v5 v6 v7 v8 S_19 ⟨hx, hb, hml, hown, hts, hr, hlk⟩ hw hI (lv_sub hl [0, 2, 3, 4, 5, 6, 7, 8] rfl)
    · have hw := hw.2 hc_22
      refine lv_iconst (v := 1) hx hb dX5_stores_100 (by decide) ?_
      refine lv_goto (tgt := 105) hx hb dX5_stores_101 (by decide) ?_
      exact zj_stores_105 g post (1 : Int32) v2 v3 v4 v5 v6 v7 v8 S_19 ⟨hx, hb, hml, hown, hts, hr, hlk⟩ hw hI (lv_sub hl [0, 2, 3, 4, 5, 6, 7, 8] rfl)
def zw_stores (p1 : Int32) (p2 : Int32) (p3 : Int32) (p4 : Int32) (p5 : Int32) (S : zt_S) (post : Int32 → zt_S → Prop) : Prop :=
  zw_isLadder p1 S (fun (r_2 : Int32) (S_1 : zt_S) => (¬ r_2 = (0 : Int32) → (zw_isShelf p2 (fun (r_4 : Int32) => (r_4 = (0 : Int32) → (post (2 : Int32) S_1)) ∧ (¬ r_4 = (0 : Int32) → (zw_isPaper p3 p4 (fun (r_6 : Int32) => (r_6 = (0 : Int32) → (post (2 : Int32) S_1)) ∧ (¬ r_6 = (0 : Int32) → (zw_in p5 (0 : Int32) (9 : Int32) (fun (r_8 : Int32) => (¬ r_8 = (0 : Int32) → (vp_in (5 : Int32) 3810 ∧ (zw_l p1 (1 : Int32) S_1 (fun (r_11 : Int32) (S_10 : zt_S) => zw_heightOf r_11 p2 S_10 (fun (r_13 : Int32) (S_12 : zt_S) => zw_l p1 (0 : Int32) S_12 (fun (r_15 : Int32) (S_14 : zt_S) => (p2 < r_15 → (zw_stores_80 post (0 : Int32) p1 p2 p3 p4 p5 (S_1 1 (5 : Int32).toNatClampNeg) r_11 r_13 S_14)) ∧ (¬ p2 < r_15 → (zw_stores_80 post (1 : Int32) p1 p2 p3 p4 p5 (S_1 1 (5 : Int32).toNatClampNeg) r_11 r_13 S_14)))))))) ∧ (r_8 = (0 : Int32) → (post (2 : Int32) S_1))))))))))) ∧ (r_2 = (0 : Int32) → (post (1 : Int32) S_1)))
set_option maxHeartbeats 4000000 in
theorem zm_stores (l : Launch) (g : zt_G) (p1 : Int32) (p2 : Int32) (p3 : Int32) (p4 : Int32) (p5 : Int32) (S : zt_S) (post : Int32 → zt_S → Prop) (hw : zw_stores p1 p2 p3 p4 p5 S post) : Met l yX5_stores (ws_ yX5_stores cX5_stores 9 (some .int)) ({ frames := 2, cells := 0, slots := 0, locals := 46 } : Room) (va_Pc (.ref g.2.1 :: [.int p1, .int p2, .int p3, .int p4, .int p5]) (zt_B g S)) (va_Qi post (zt_B g) (zt_A g)) 0 0 (zt_A g) := by
  refine zt_met (by decide) rfl (Nat.le_of_ble_eq_true rfl) (fun p e s m below meth c ls hC hI hl => ?_)
  generalize (Value.ref g.2.1 :: ([.int p1, .int p2, .int p3, .int p4, .int p5] : List Value)).toArray = args at hC ⊢
  obtain ⟨hx, hb, hml, hown, hts, hr, hlk⟩ := hC
  have hl : lv_has ls 9 [(0, .ref g.2.1), (1, .int p1), (2, .int p2), (3, .int p3), (4, .int p4), (5, .int p5)] := hl
  unfold zw_stores at hw
  obtain ⟨H, eH⟩ : ∃ z, z = s.heap := ⟨_, rfl⟩
  obtain ⟨locs, elo⟩ : ∃ z : List Loc, z = [] := ⟨_, rfl⟩
  rw [← eH, ← elo] at hI ⊢
  refine lv_aload_n hx hb dX5_stores_0 rfl (lv_at hl 0 rfl) ?_
  refine lv_iload_n hx hb dX5_stores_1 rfl (lv_at hl 1 rfl) ?_
  refine zt_calli (As := [.int p1]) (rest := []) ⟨hx, hb, hml, hown, hts⟩ hI (zm_isLadder l g p1 S _ hw) (cwV 1 hts (lw_V q3728 q3730 qs45 q113 q3731) rfl rfl rfl hdT_isLadder ⟨Nat.le_of_ble_eq_true rfl, Nat.le_of_ble_eq_true rfl⟩) rfl hl.1 rfl (lv_room (Nat.le_of_ble_eq_true rfl)) dX5_stores_2 ⟨Nat.le_refl _, Nat.le_refl _⟩ (fun r_2 S_1 H locs hw hI => ?_)
  refine lv_if_ne (tgt := 10) hx hb dX5_stores_5 (by decide) (fun hc_3 => ?_) (fun hc_3 => ?_)
  · have hw := hw.1 hc_3
    refine lv_iload_n hx hb dX5_stores_10 rfl (lv_at hl 2 rfl) ?_
    refine zt_callS (As := [.int p2]) (rest := []) ⟨hx, hb, hml, hown, hts⟩ (zm_isShelf l p2 _ hw) (va_cwS 1 hts (lw_S q3751 q3752 q113 q3753) rfl rfl rfl hdT_isShelf ⟨Nat.le_of_ble_eq_true rfl, Nat.le_of_ble_eq_true rfl⟩) rfl hl.1 rfl (lv_room (Nat.le_of_ble_eq_true rfl)) dX5_stores_11 ⟨Nat.le_refl _, Nat.le_refl _⟩ (fun r_4 hw => ?_)
    refine lv_if_eq (tgt := 37) hx hb dX5_stores_14 (by decide) (fun hc_5 => ?_) (fun hc_5 => ?_)
    · have hw := hw.1 hc_5
      refine lv_iconst (v := 2) hx hb dX5_stores_37 (by decide) ?_
      exact zt_iret hx hb hr hlk hI hw dX5_stores_38
    · have hw := hw.2 hc_5
      refine lv_iload_n hx hb dX5_stores_17 rfl (lv_at hl 3 rfl) ?_
      refine lv_iload hx hb dX5_stores_18 (lv_at hl 4 rfl) ?_
      refine zt_callS (As := [.int p3, .int p4]) (rest := []) ⟨hx, hb, hml, hown, hts⟩ (zm_isPaper l p3 p4 _ hw) (va_cwS 2 hts (lw_S q3754 q3755 q113 q3756) rfl rfl rfl hdT_isPaper ⟨Nat.le_of_ble_eq_true rfl, Nat.le_of_ble_eq_true rfl⟩) rfl hl.1 rfl (lv_room (Nat.le_of_ble_eq_true rfl)) dX5_stores_20 ⟨Nat.le_refl _, Nat.le_refl _⟩ (fun r_6 hw => ?_)
      refine lv_if_eq (tgt := 37) hx hb dX5_stores_23 (by decide) (fun hc_7 => ?_) (fun hc_7 => ?_)
      · have hw := hw.1 hc_7
        refine lv_iconst (v := 2) hx hb dX5_stores_37 (by decide) ?_
        exact zt_iret hx hb hr hlk hI hw dX5_stores_38
      · have hw := hw.2 hc_7
        refine lv_iload hx hb dX5_stores_26 (lv_at hl 5 rfl) ?_
        refine lv_iconst (v := 0) hx hb dX5_stores_28 (by decide) ?_
        refine lv_bipush (v := 9) hx hb dX5_stores_29 (by decide) ?_
        refine zt_callS (As := [.int p5, .int (0 : Int32), .int (9 : Int32)]) (rest := []) ⟨hx, hb, hml, hown, hts⟩ (zm_in l p5 (0 : Int32) (9 : Int32) _ hw) (va_cwS 3 hts (lw_S q3693 q3694 q113 q3695) rfl rfl rfl hdT_in ⟨Nat.le_of_ble_eq_true rfl, Nat.le_of_ble_eq_true rfl⟩) rfl hl.1 rfl (lv_room (Nat.le_of_ble_eq_true rfl)) dX5_stores_31 ⟨Nat.le_refl _, Nat.le_refl _⟩ (fun r_8 hw => ?_)
        refine lv_if_ne (tgt := 39) hx hb dX5_stores_34 (by decide) (fun hc_9 => ?_) (fun hc_9 => ?_)
        · have hw := hw.1 hc_9
          refine lv_aload_n hx hb dX5_stores_39 rfl (lv_at hl 0 rfl) ?_
          refine zt_get hx hb hts hown hI 1 (v := .ref g.2.2.1) (by decide) q3633 rfl rfl dX5_stores_40 ?_
          refine lv_iconst (v := 5) hx hb dX5_stores_43 (by decide) ?_
          refine zt_ld1 hx hb hI hw.1 dX5_stores_44 ?_
          have hw := hw.2
          refine lv_istore (lv' := [(6, .int (S_1 1 (5 : Int32).toNatClampNeg)), (0, .ref g.2.1), (1, .int p1), (2, .int p2), (3, .int p3), (4, .int p4), (5, .int p5)]) hx hb dX5_stores_45 hl (by decide) rfl (fun ls hl => ?_)
          refine lv_aload_n hx hb dX5_stores_47 rfl (lv_at hl 1 rfl) ?_
          refine lv_iload_n hx hb dX5_stores_48 rfl (lv_at hl 2 rfl) ?_
          refine lv_iconst (v := 1) hx hb dX5_stores_49 (by decide) ?_
          refine zt_calli (As := [.int p1, .int (1 : Int32)]) (rest := []) ⟨hx, hb, hml, hown, hts⟩ hI (zm_l l g p1 (1 : Int32) S_1 _ hw) (cwV 2 hts (lw_V q3712 q3714 qs42 q113 q3715) rfl rfl rfl hdT_l ⟨Nat.le_of_ble_eq_true rfl, Nat.le_of_ble_eq_true rfl⟩) rfl hl.1 rfl (lv_room (Nat.le_of_ble_eq_true rfl)) dX5_stores_50 ⟨Nat.le_refl _, Nat.le_refl _⟩ (fun r_11 S_10 H locs hw hI => ?_)
          refine lv_istore (lv' := [(7, .int r_11), (6, .int (S_1 1 (5 : Int32).toNatClampNeg)), (0, .ref g.2.1), (1, .int p1), (2, .int p2), (3, .int p3), (4, .int p4), (5, .int p5)]) hx hb dX5_stores_53 hl (by decide) rfl (fun ls hl => ?_)
          refine lv_aload_n hx hb dX5_stores_55 rfl (lv_at hl 2 rfl) ?_
          refine lv_iload hx hb dX5_stores_56 (lv_at hl 0 rfl) ?_
          refine lv_iload_n hx hb dX5_stores_58 rfl (lv_at hl 4 rfl) ?_
          refine zt_calli (As := [.int r_11, .int p2]) (rest := []) ⟨hx, hb, hml, hown, hts⟩ hI (zm_heightOf l g r_11 p2 S_10 _ hw) (cwV 2 hts (lw_V q3757 q3759 qs48 q113 q3760) rfl rfl rfl hdT_heightOf ⟨Nat.le_of_ble_eq_true rfl, Nat.le_of_ble_eq_true rfl⟩) rfl hl.1 rfl (lv_room (Nat.le_of_ble_eq_true rfl)) dX5_stores_59 ⟨Nat.le_refl _, Nat.le_refl _⟩ (fun r_13 S_12 H locs hw hI => ?_)
          refine lv_istore (lv' := [(8, .int r_13), (7, .int r_11), (6, .int (S_1 1 (5 : Int32).toNatClampNeg)), (0, .ref g.2.1), (1, .int p1), (2, .int p2), (3, .int p3), (4, .int p4), (5, .int p5)]) hx hb dX5_stores_62 hl (by decide) rfl (fun ls hl => ?_)
          refine lv_aload_n hx hb dX5_stores_64 rfl (lv_at hl 3 rfl) ?_
          refine lv_iload_n hx hb dX5_stores_65 rfl (lv_at hl 5 rfl) ?_
          refine lv_aload_n hx hb dX5_stores_66 rfl (lv_at hl 3 rfl) ?_
          refine lv_iload_n hx hb dX5_stores_67 rfl (lv_at hl 4 rfl) ?_
          refine lv_iconst (v := 0) hx hb dX5_stores_68 (by decide) ?_
          refine zt_calli (As := [.int p1, .int (0 : Int32)]) (rest := [.int p2, .ref g.2.1]) ⟨hx, hb, hml, hown, hts⟩ hI (zm_l l g p1 (0 : Int32) S_12 _ hw) (cwV 2 hts (lw_V q3712 q3714 qs42 q113 q3715) rfl rfl rfl hdT_l ⟨Nat.le_of_ble_eq_true rfl, Nat.le_of_ble_eq_true rfl⟩) rfl hl.1 rfl (lv_room (Nat.le_of_ble_eq_true rfl)) dX5_stores_69 ⟨Nat.le_refl _, Nat.le_refl _⟩ (fun r_15 S_14 H locs hw hI => ?_)
          refine lv_icmp_lt (tgt := 79) hx hb dX5_stores_72 (by decide) (fun hc_16 => ?_) (fun hc_16 => ?_)
          · have hw := hw.1 hc_16
            refine lv_iconst (v := 0) hx hb dX5_stores_79 (by decide) ?_
            exact zj_stores_80 g post (0 : Int32) p1 p2 p3 p4 p5 (S_1 1 (5 : Int32).toNatClampNeg) r_11 r_13 S_14 ⟨hx, hb, hml, hown, hts, hr, hlk⟩ hw hI (lv_sub hl [3, 4, 5, 6, 7, 8, 2, 1, 0] rfl)
          · have hw := hw.2 hc_16
            refine lv_iconst (v := 1) hx hb dX5_stores_75 (by decide) ?_
            refine lv_goto (tgt := 80) hx hb dX5_stores_76 (by decide) ?_
            exact zj_stores_80 g post (1 : Int32) p1 p2 p3 p4 p5 (S_1 1 (5 : Int32).toNatClampNeg) r_11 r_13 S_14 ⟨hx, hb, hml, hown, hts, hr, hlk⟩ hw hI (lv_sub hl [3, 4, 5, 6, 7, 8, 2, 1, 0] rfl)
        · have hw := hw.2 hc_9
          refine lv_iconst (v := 2) hx hb dX5_stores_37 (by decide) ?_
          exact zt_iret hx hb hr hlk hI hw dX5_stores_38
  · have hw := hw.2 hc_3
    refine lv_iconst (v := 1) hx hb dX5_stores_8 (by decide) ?_
    exact zt_iret hx hb hr hlk hI hw dX5_stores_9
theorem hdT_stores : yX5_stores.cls = RX5 ∧ yX5_stores.cls ≠ "java/lang/invoke/MethodHandle" ∧ yX5_stores.cls ≠ "java/lang/invoke/VarHandle" ∧ (parseMethodDescriptor yX5_stores.desc).map (fun d => d.parameters.length) = some 5 := by decide +kernel
def zw_store (p1 : Int32) (p2 : Int32) (p3 : Int32) (p4 : Int32) (p5 : Int32) (S : zt_S) (post : Int32 → zt_S → Prop) : Prop :=
  zw_begins S (fun (S_1 : zt_S) => zw_stores p1 p2 p3 p4 p5 S_1 (fun (r_3 : Int32) (S_2 : zt_S) => zw_ends r_3 (1 : Int32) (2 : Int32) (3 : Int32) S_2 (fun (r_5 : Int32) (S_4 : zt_S) => post r_5 S_4)))
set_option maxHeartbeats 4000000 in
theorem zm_store (l : Launch) (g : zt_G) (p1 : Int32) (p2 : Int32) (p3 : Int32) (p4 : Int32) (p5 : Int32) (S : zt_S) (post : Int32 → zt_S → Prop) (hw : zw_store p1 p2 p3 p4 p5 S post) : Met l yX5_store (ws_ yX5_store cX5_store 6 (some .int)) ({ frames := 3, cells := 0, slots := 0, locals := 74 } : Room) (va_Pc (.ref g.2.1 :: [.int p1, .int p2, .int p3, .int p4, .int p5]) (zt_B g S)) (va_Qi post (zt_B g) (zt_A g)) 0 0 (zt_A g) := by
  refine zt_met (by decide) rfl (Nat.le_of_ble_eq_true rfl) (fun p e s m below meth c ls hC hI hl => ?_)
  generalize (Value.ref g.2.1 :: ([.int p1, .int p2, .int p3, .int p4, .int p5] : List Value)).toArray = args at hC ⊢
  obtain ⟨hx, hb, hml, hown, hts, hr, hlk⟩ := hC
  have hl : lv_has ls 6 [(0, .ref g.2.1), (1, .int p1), (2, .int p2), (3, .int p3), (4, .int p4), (5, .int p5)] := hl
  unfold zw_store at hw
  obtain ⟨H, eH⟩ : ∃ z, z = s.heap := ⟨_, rfl⟩
  obtain ⟨locs, elo⟩ : ∃ z : List Loc, z = [] := ⟨_, rfl⟩
  rw [← eH, ← elo] at hI ⊢
  refine lv_aload_n hx hb dX5_store_0 rfl (lv_at hl 0 rfl) ?_
  refine zt_callv (As := []) (rest := []) ⟨hx, hb, hml, hown, hts⟩ hI (zm_begins l g S _ hw) (cwV 0 hts (lw_V q3700 q3702 qs39 q113 q3703) rfl rfl rfl hdT_begins ⟨Nat.le_of_ble_eq_true rfl, Nat.le_of_ble_eq_true rfl⟩) rfl hl.1 rfl (lv_room (Nat.le_of_ble_eq_true rfl)) dX5_store_1 ⟨Nat.le_refl _, Nat.le_refl _⟩ (fun S_1 H locs hw hI => ?_)
  refine lv_aload_n hx hb dX5_store_4 rfl (lv_at hl 0 rfl) ?_
  refine lv_aload_n hx hb dX5_store_5 rfl (lv_at hl 0 rfl) ?_
  refine lv_iload_n hx hb dX5_store_6 rfl (lv_at hl 1 rfl) ?_
  refine lv_iload_n hx hb dX5_store_7 rfl (lv_at hl 2 rfl) ?_
  refine lv_iload_n hx hb dX5_store_8 rfl (lv_at hl 3 rfl) ?_
  refine lv_iload hx hb dX5_store_9 (lv_at hl 4 rfl) ?_
  refine lv_iload hx hb dX5_store_11 (lv_at hl 5 rfl) ?_
  refine zt_calli (As := [.int p1, .int p2, .int p3, .int p4, .int p5]) (rest := [.ref g.2.1]) ⟨hx, hb, hml, hown, hts⟩ hI (zm_stores l g p1 p2 p3 p4 p5 S_1 _ hw) (cwV 5 hts (lw_V q3747 q3749 qs47 q113 q3750) rfl rfl rfl hdT_stores ⟨Nat.le_of_ble_eq_true rfl, Nat.le_of_ble_eq_true rfl⟩) rfl hl.1 rfl (lv_room (Nat.le_of_ble_eq_true rfl)) dX5_store_13 ⟨Nat.le_refl _, Nat.le_refl _⟩ (fun r_3 S_2 H locs hw hI => ?_)
  refine lv_iconst (v := 1) hx hb dX5_store_16 (by decide) ?_
  refine lv_iconst (v := 2) hx hb dX5_store_17 (by decide) ?_
  refine lv_iconst (v := 3) hx hb dX5_store_18 (by decide) ?_
  refine zt_calli (As := [.int r_3, .int (1 : Int32), .int (2 : Int32), .int (3 : Int32)]) (rest := []) ⟨hx, hb, hml, hown, hts⟩ hI (zm_ends l g r_3 (1 : Int32) (2 : Int32) (3 : Int32) S_2 _ hw) (cwV 4 hts (lw_V q3735 q3737 qs46 q113 q3738) rfl rfl rfl hdT_ends ⟨Nat.le_of_ble_eq_true rfl, Nat.le_of_ble_eq_true rfl⟩) rfl hl.1 rfl (lv_room (Nat.le_of_ble_eq_true rfl)) dX5_store_19 ⟨Nat.le_refl _, Nat.le_refl _⟩ (fun r_5 S_4 H locs hw hI => ?_)
  exact zt_iret hx hb hr hlk hI hw dX5_store_22
theorem hdT_store : yX5_store.cls = RX5 ∧ yX5_store.cls ≠ "java/lang/invoke/MethodHandle" ∧ yX5_store.cls ≠ "java/lang/invoke/VarHandle" ∧ (parseMethodDescriptor yX5_store.desc).map (fun d => d.parameters.length) = some 5 := by decide +kernel
def zw_isReam (p1 : Int32) (S : zt_S) (post : Int32 → zt_S → Prop) : Prop :=
  vp_in (5 : Int32) 3810 ∧ (zw_in p1 (0 : Int32) ((S 1 (5 : Int32).toNatClampNeg) - (1 : Int32)) (fun (r_1 : Int32) => zt_nar .boolean r_1 ∧ post r_1 S))
set_option maxHeartbeats 4000000 in
theorem zm_isReam (l : Launch) (g : zt_G) (p1 : Int32) (S : zt_S) (post : Int32 → zt_S → Prop) (hw : zw_isReam p1 S post) : Met l yX5_isReam (ws_ yX5_isReam cX5_isReam 2 (some .boolean)) ({ frames := 1, cells := 0, slots := 0, locals := 22 } : Room) (va_Pc (.ref g.2.1 :: [.int p1]) (zt_B g S)) (va_Qi post (zt_B g) (zt_A g)) 0 0 (zt_A g) := by
  refine zt_met (by decide) rfl (Nat.le_of_ble_eq_true rfl) (fun p e s m below meth c ls hC hI hl => ?_)
  generalize (Value.ref g.2.1 :: ([.int p1] : List Value)).toArray = args at hC ⊢
  obtain ⟨hx, hb, hml, hown, hts, hr, hlk⟩ := hC
  have hl : lv_has ls 2 [(0, .ref g.2.1), (1, .int p1)] := hl
  unfold zw_isReam at hw
  obtain ⟨H, eH⟩ : ∃ z, z = s.heap := ⟨_, rfl⟩
  obtain ⟨locs, elo⟩ : ∃ z : List Loc, z = [] := ⟨_, rfl⟩
  rw [← eH, ← elo] at hI ⊢
  refine lv_iload_n hx hb dX5_isReam_0 rfl (lv_at hl 1 rfl) ?_
  refine lv_iconst (v := 0) hx hb dX5_isReam_1 (by decide) ?_
  refine lv_aload_n hx hb dX5_isReam_2 rfl (lv_at hl 0 rfl) ?_
  refine zt_get hx hb hts hown hI 1 (v := .ref g.2.2.1) (by decide) q3633 rfl rfl dX5_isReam_3 ?_
  refine lv_iconst (v := 5) hx hb dX5_isReam_6 (by decide) ?_
  refine zt_ld1 hx hb hI hw.1 dX5_isReam_7 ?_
  have hw := hw.2
  refine lv_iconst (v := 1) hx hb dX5_isReam_8 (by decide) ?_
  refine lv_isub hx hb dX5_isReam_9 ?_
  refine zt_callS (As := [.int p1, .int (0 : Int32), .int ((S 1 (5 : Int32).toNatClampNeg) - (1 : Int32))]) (rest := []) ⟨hx, hb, hml, hown, hts⟩ (zm_in l p1 (0 : Int32) ((S 1 (5 : Int32).toNatClampNeg) - (1 : Int32)) _ hw) (va_cwS 3 hts (lw_S q3693 q3694 q113 q3695) rfl rfl rfl hdT_in ⟨Nat.le_of_ble_eq_true rfl, Nat.le_of_ble_eq_true rfl⟩) rfl hl.1 rfl (lv_room (Nat.le_of_ble_eq_true rfl)) dX5_isReam_10 ⟨Nat.le_refl _, Nat.le_refl _⟩ (fun r_1 hw => ?_)
  exact zt_zret hx hb hr hlk hI hw.1 hw.2 dX5_isReam_13
theorem hdT_isReam : yX5_isReam.cls = RX5 ∧ yX5_isReam.cls ≠ "java/lang/invoke/MethodHandle" ∧ yX5_isReam.cls ≠ "java/lang/invoke/VarHandle" ∧ (parseMethodDescriptor yX5_isReam.desc).map (fun d => d.parameters.length) = some 1 := by decide +kernel
def zw_reamOf_28 (post : Int32 → zt_S → Prop) (t0 : Int32) (v1 : Int32) (v2 : Int32) (S : zt_S) : Prop :=
  ∀ S_6 : zt_S, S_6 = zt_us S 0 0 t0 → ((¬ S_6 0 0 = (0 : Int32) → (post (0 : Int32) S_6)) ∧ (S_6 0 0 = (0 : Int32) → (zw_r v1 v2 S_6 (fun (r_9 : Int32) (S_8 : zt_S) => post r_9 S_8))))
set_option maxHeartbeats 4000000 in
theorem zj_reamOf_28 {p : Program} {l : Launch} {e : Env} {s : State} {m : MethodId} {args : Array Value} {below : List Frame} {meth : Method} {c : Code} {H : Heap} {locs : List Loc} {ls : Array Slot} (g : zt_G) (post : Int32 → zt_S → Prop) (t0 : Int32) (v1 : Int32) (v2 : Int32) (S : zt_S) (hC : zt_C p s m args meth c cX5_reamOf 3 (some .int)) (hw : zw_reamOf_28 post t0 v1 v2 S) (hI : zt_I g S s H locs) (hl : lv_has ls 3 [(0, .ref g.2.1), (1, .int v1), (2, .int v2)]) : W p l e ({ frames := 2, cells := 0, slots := 0, locals := 43 } : Room) s m args below meth c H locs 0 0 (MQ below (va_Qi post (zt_B g) (zt_A g)) args s 0 0 (zt_A g)) (F0 m 28 ls [.int t0, .ref g.2.1]) := by
  obtain ⟨hx, hb, hml, hown, hts, hr, hlk⟩ := hC
  unfold zw_reamOf_28 at hw
  refine zt_put hx hb hts hown hI 0 (v := t0) (ty := .int) (by decide) q3632 rfl rfl (by decide +kernel) rfl rfl rfl dX5_reamOf_28 (fun H locs hI => ?_)
  obtain ⟨S_6, eS_6⟩ : ∃ z, z = zt_us S 0 0 t0 := ⟨_, rfl⟩
  rw [← eS_6] at hI
  have hw := hw S_6 eS_6
  refine lv_aload_n hx hb dX5_reamOf_31 rfl (lv_at hl 0 rfl) ?_
  refine zt_get hx hb hts hown hI 0 (v := .int (S_6 0 0)) (by decide) q3632 rfl rfl dX5_reamOf_32 ?_
  refine lv_if_ne (tgt := 47) hx hb dX5_reamOf_35 (by decide) (fun hc_7 => ?_) (fun hc_7 => ?_)
  · have hw := hw.1 hc_7
    refine lv_iconst (v := 0) hx hb dX5_reamOf_47 (by decide) ?_
    exact zt_iret hx hb hr hlk hI hw dX5_reamOf_48
  · have hw := hw.2 hc_7
    refine lv_aload_n hx hb dX5_reamOf_38 rfl (lv_at hl 0 rfl) ?_
    refine lv_iload_n hx hb dX5_reamOf_39 rfl (lv_at hl 1 rfl) ?_
    refine lv_iload_n hx hb dX5_reamOf_40 rfl (lv_at hl 2 rfl) ?_
    refine zt_calli (As := [.int v1, .int v2]) (rest := []) ⟨hx, hb, hml, hown, hts⟩ hI (zm_r l g v1 v2 S_6 _ hw) (cwV 2 hts (lw_V q3761 q3763 qs49 q113 q3764) rfl rfl rfl hdT_r ⟨Nat.le_of_ble_eq_true rfl, Nat.le_of_ble_eq_true rfl⟩) rfl hl.1 rfl (lv_room (Nat.le_of_ble_eq_true rfl)) dX5_reamOf_41 ⟨Nat.le_refl _, Nat.le_refl _⟩ (fun r_9 S_8 H locs hw hI => ?_)
    refine lv_goto (tgt := 48) hx hb dX5_reamOf_44 (by decide) ?_
    exact zt_iret hx hb hr hlk hI hw dX5_reamOf_48
def zw_reamOf (p1 : Int32) (p2 : Int32) (S : zt_S) (post : Int32 → zt_S → Prop) : Prop :=
  zw_isReam p1 S (fun (r_2 : Int32) (S_1 : zt_S) => (¬ r_2 = (0 : Int32) → (zw_in p2 (0 : Int32) (7 : Int32) (fun (r_4 : Int32) => (r_4 = (0 : Int32) → (zw_reamOf_28 post (2 : Int32) p1 p2 S_1)) ∧ (¬ r_4 = (0 : Int32) → (zw_reamOf_28 post (0 : Int32) p1 p2 S_1))))) ∧ (r_2 = (0 : Int32) → (zw_reamOf_28 post (1 : Int32) p1 p2 S_1)))
set_option maxHeartbeats 4000000 in
theorem zm_reamOf (l : Launch) (g : zt_G) (p1 : Int32) (p2 : Int32) (S : zt_S) (post : Int32 → zt_S → Prop) (hw : zw_reamOf p1 p2 S post) : Met l yX5_reamOf (ws_ yX5_reamOf cX5_reamOf 3 (some .int)) ({ frames := 2, cells := 0, slots := 0, locals := 43 } : Room) (va_Pc (.ref g.2.1 :: [.int p1, .int p2]) (zt_B g S)) (va_Qi post (zt_B g) (zt_A g)) 0 0 (zt_A g) := by
  refine zt_met (by decide) rfl (Nat.le_of_ble_eq_true rfl) (fun p e s m below meth c ls hC hI hl => ?_)
  generalize (Value.ref g.2.1 :: ([.int p1, .int p2] : List Value)).toArray = args at hC ⊢
  obtain ⟨hx, hb, hml, hown, hts, hr, hlk⟩ := hC
  have hl : lv_has ls 3 [(0, .ref g.2.1), (1, .int p1), (2, .int p2)] := hl
  unfold zw_reamOf at hw
  obtain ⟨H, eH⟩ : ∃ z, z = s.heap := ⟨_, rfl⟩
  obtain ⟨locs, elo⟩ : ∃ z : List Loc, z = [] := ⟨_, rfl⟩
  rw [← eH, ← elo] at hI ⊢
  refine lv_aload_n hx hb dX5_reamOf_0 rfl (lv_at hl 0 rfl) ?_
  refine lv_aload_n hx hb dX5_reamOf_1 rfl (lv_at hl 0 rfl) ?_
  refine lv_iload_n hx hb dX5_reamOf_2 rfl (lv_at hl 1 rfl) ?_
  refine zt_calli (As := [.int p1]) (rest := [.ref g.2.1]) ⟨hx, hb, hml, hown, hts⟩ hI (zm_isReam l g p1 S _ hw) (cwV 1 hts (lw_V q3773 q3775 qs51 q113 q3776) rfl rfl rfl hdT_isReam ⟨Nat.le_of_ble_eq_true rfl, Nat.le_of_ble_eq_true rfl⟩) rfl hl.1 rfl (lv_room (Nat.le_of_ble_eq_true rfl)) dX5_reamOf_3 ⟨Nat.le_refl _, Nat.le_refl _⟩ (fun r_2 S_1 H locs hw hI => ?_)
  refine lv_if_ne (tgt := 13) hx hb dX5_reamOf_6 (by decide) (fun hc_3 => ?_) (fun hc_3 => ?_)
  · have hw := hw.1 hc_3
    refine lv_iload_n hx hb dX5_reamOf_13 rfl (lv_at hl 2 rfl) ?_
    refine lv_iconst (v := 0) hx hb dX5_reamOf_14 (by decide) ?_
    refine lv_bipush (v := 7) hx hb dX5_reamOf_15 (by decide) ?_
    refine zt_callS (As := [.int p2, .int (0 : Int32), .int (7 : Int32)]) (rest := [.ref g.2.1]) ⟨hx, hb, hml, hown, hts⟩ (zm_in l p2 (0 : Int32) (7 : Int32) _ hw) (va_cwS 3 hts (lw_S q3693 q3694 q113 q3695) rfl rfl rfl hdT_in ⟨Nat.le_of_ble_eq_true rfl, Nat.le_of_ble_eq_true rfl⟩) rfl hl.1 rfl (lv_room (Nat.le_of_ble_eq_true rfl)) dX5_reamOf_17 ⟨Nat.le_refl _, Nat.le_refl _⟩ (fun r_4 hw => ?_)
    refine lv_if_eq (tgt := 27) hx hb dX5_reamOf_20 (by decide) (fun hc_5 => ?_) (fun hc_5 => ?_)
    · have hw := hw.1 hc_5
      refine lv_iconst (v := 2) hx hb dX5_reamOf_27 (by decide) ?_
      exact zj_reamOf_28 g post (2 : Int32) p1 p2 S_1 ⟨hx, hb, hml, hown, hts, hr, hlk⟩ hw hI (lv_sub hl [0, 1, 2] rfl)
    · have hw := hw.2 hc_5
      refine lv_iconst (v := 0) hx hb dX5_reamOf_23 (by decide) ?_
      refine lv_goto (tgt := 28) hx hb dX5_reamOf_24 (by decide) ?_
      exact zj_reamOf_28 g post (0 : Int32) p1 p2 S_1 ⟨hx, hb, hml, hown, hts, hr, hlk⟩ hw hI (lv_sub hl [0, 1, 2] rfl)
  · have hw := hw.2 hc_3
    refine lv_iconst (v := 1) hx hb dX5_reamOf_9 (by decide) ?_
    refine lv_goto (tgt := 28) hx hb dX5_reamOf_10 (by decide) ?_
    exact zj_reamOf_28 g post (1 : Int32) p1 p2 S_1 ⟨hx, hb, hml, hown, hts, hr, hlk⟩ hw hI (lv_sub hl [0, 1, 2] rfl)
theorem hdT_reamOf : yX5_reamOf.cls = RX5 ∧ yX5_reamOf.cls ≠ "java/lang/invoke/MethodHandle" ∧ yX5_reamOf.cls ≠ "java/lang/invoke/VarHandle" ∧ (parseMethodDescriptor yX5_reamOf.desc).map (fun d => d.parameters.length) = some 2 := by decide +kernel
def zw_reamAt (p1 : Int32) (p2 : Int32) (p3 : Int32) (S : zt_S) (post : Int32 → zt_S → Prop) : Prop :=
  ∃ (In_1 : Int32 → zt_S → Prop) (mu_1 : Int32 → zt_S → Nat), In_1 (0 : Int32) S ∧ ∀ (x4_1 : Int32) (S_1 : zt_S), In_1 x4_1 S_1 → (vp_in (5 : Int32) 3810 ∧ ((S_1 1 (5 : Int32).toNatClampNeg ≤ x4_1 → (post (-1 : Int32) S_1)) ∧ (¬ S_1 1 (5 : Int32).toNatClampNeg ≤ x4_1 → (zw_r x4_1 (4 : Int32) S_1 (fun (r_4 : Int32) (S_3 : zt_S) => (¬ r_4 = p1 → (In_1 (x4_1 + (1 : Int32)) S_3 ∧ mu_1 (x4_1 + (1 : Int32)) S_3 < mu_1 x4_1 S_1)) ∧ (r_4 = p1 → (zw_r x4_1 (5 : Int32) S_3 (fun (r_7 : Int32) (S_6 : zt_S) => (¬ r_7 = p2 → (In_1 (x4_1 + (1 : Int32)) S_6 ∧ mu_1 (x4_1 + (1 : Int32)) S_6 < mu_1 x4_1 S_1)) ∧ (r_7 = p2 → (zw_r x4_1 (6 : Int32) S_6 (fun (r_10 : Int32) (S_9 : zt_S) => (¬ r_10 = p3 → (In_1 (x4_1 + (1 : Int32)) S_9 ∧ mu_1 (x4_1 + (1 : Int32)) S_9 < mu_1 x4_1 S_1)) ∧ (r_10 = p3 → (post x4_1 S_9)))))))))))))
set_option maxHeartbeats 4000000 in
theorem zm_reamAt (l : Launch) (g : zt_G) (p1 : Int32) (p2 : Int32) (p3 : Int32) (S : zt_S) (post : Int32 → zt_S → Prop) (hw : zw_reamAt p1 p2 p3 S post) : Met l yX5_reamAt (ws_ yX5_reamAt cX5_reamAt 5 (some .int)) ({ frames := 1, cells := 0, slots := 0, locals := 22 } : Room) (va_Pc (.ref g.2.1 :: [.int p1, .int p2, .int p3]) (zt_B g S)) (va_Qi post (zt_B g) (zt_A g)) 0 0 (zt_A g) := by
  refine zt_met (by decide) rfl (Nat.le_of_ble_eq_true rfl) (fun p e s m below meth c ls hC hI hl => ?_)
  generalize (Value.ref g.2.1 :: ([.int p1, .int p2, .int p3] : List Value)).toArray = args at hC ⊢
  obtain ⟨hx, hb, hml, hown, hts, hr, hlk⟩ := hC
  have hl : lv_has ls 5 [(0, .ref g.2.1), (1, .int p1), (2, .int p2), (3, .int p3)] := hl
  unfold zw_reamAt at hw
  obtain ⟨H, eH⟩ : ∃ z, z = s.heap := ⟨_, rfl⟩
  obtain ⟨locs, elo⟩ : ∃ z : List Loc, z = [] := ⟨_, rfl⟩
  rw [← eH, ← elo] at hI ⊢
  refine lv_iconst (v := 0) hx hb dX5_reamAt_0 (by decide) ?_
  refine lv_istore (lv' := [(4, .int (0 : Int32)), (0, .ref g.2.1), (1, .int p1), (2, .int p2), (3, .int p3)]) hx hb dX5_reamAt_1 hl (by decide) rfl (fun ls hl => ?_)
  obtain ⟨In_1, mu_1, h0_1, hw⟩ := hw
  have hL_1 : ∀ (n : Nat) (x4_1 : Int32) (S_1 : zt_S) (H : Heap) (locs : List Loc) (ls : Array Slot), mu_1 x4_1 S_1 < n → In_1 x4_1 S_1 → zt_I g S_1 s H locs → lv_has ls 5 [(0, .ref g.2.1), (1, .int p1), (2, .int p2), (3, .int p3), (4, .int x4_1)] → W p l e ({ frames := 1, cells := 0, slots := 0, locals := 22 } : Room) s m args below meth c H locs 0 0 (MQ below (va_Qi post (zt_B g) (zt_A g)) args s 0 0 (zt_A g)) (F0 m 3 ls []) := by
    intro n
    induction n with
    | zero => intro x4_1 S_1 H locs ls hn _ _ _; exact absurd hn (Nat.not_lt_zero _)
    | succ n ih_1 =>
      intro x4_1 S_1 H locs ls hn_1 hi_1 hI hl
      have hw := hw x4_1 S_1 hi_1
      refine lv_iload hx hb dX5_reamAt_3 (lv_at hl 4 rfl) ?_
      refine lv_aload_n hx hb dX5_reamAt_5 rfl (lv_at hl 0 rfl) ?_
      refine zt_get hx hb hts hown hI 1 (v := .ref g.2.2.1) (by decide) q3633 rfl rfl dX5_reamAt_6 ?_
      refine lv_iconst (v := 5) hx hb dX5_reamAt_9 (by decide) ?_
      refine zt_ld1 hx hb hI hw.1 dX5_reamAt_10 ?_
      have hw := hw.2
      refine lv_icmp_ge (tgt := 57) hx hb dX5_reamAt_11 (by decide) (fun hc_2 => ?_) (fun hc_2 => ?_)
      · have hw := hw.1 hc_2
        refine lv_iconst (v := -1) hx hb dX5_reamAt_57 (by decide) ?_
        exact zt_iret hx hb hr hlk hI hw dX5_reamAt_58
      · have hw := hw.2 hc_2
        refine lv_aload_n hx hb dX5_reamAt_14 rfl (lv_at hl 0 rfl) ?_
        refine lv_iload hx hb dX5_reamAt_15 (lv_at hl 4 rfl) ?_
        refine lv_iconst (v := 4) hx hb dX5_reamAt_17 (by decide) ?_
        refine zt_calli (As := [.int x4_1, .int (4 : Int32)]) (rest := []) ⟨hx, hb, hml, hown, hts⟩ hI (zm_r l g x4_1 (4 : Int32) S_1 _ hw) (cwV 2 hts (lw_V q3761 q3763 qs49 q113 q3764) rfl rfl rfl hdT_r ⟨Nat.le_of_ble_eq_true rfl, Nat.le_of_ble_eq_true rfl⟩) rfl hl.1 rfl (lv_room (Nat.le_of_ble_eq_true rfl)) dX5_reamAt_18 ⟨Nat.le_refl _, Nat.le_refl _⟩ (fun r_4 S_3 H locs hw hI => ?_)
        refine lv_iload_n hx hb dX5_reamAt_21 rfl (lv_at hl 1 rfl) ?_
        refine lv_icmp_ne (tgt := 51) hx hb dX5_reamAt_22 (by decide) (fun hc_5 => ?_) (fun hc_5 => ?_)
        · have hw := hw.1 hc_5
          refine lv_iinc (v := x4_1 + (1 : Int32)) (lv' := [(4, .int (x4_1 + (1 : Int32))), (0, .ref g.2.1), (1, .int p1), (2, .int p2), (3, .int p3)]) hx hb dX5_reamAt_51 hl (k := 4) rfl rfl (by decide) rfl (fun ls hl => ?_)
          refine lv_goto (tgt := 3) hx hb dX5_reamAt_54 (by decide) ?_
          exact ih_1 _ _ H locs ls (Nat.lt_of_lt_of_le hw.2 (Nat.le_of_lt_succ hn_1)) hw.1 hI (lv_sub hl [1, 2, 3, 4, 0] rfl)
        · have hw := hw.2 hc_5
          refine lv_aload_n hx hb dX5_reamAt_25 rfl (lv_at hl 0 rfl) ?_
          refine lv_iload hx hb dX5_reamAt_26 (lv_at hl 4 rfl) ?_
          refine lv_iconst (v := 5) hx hb dX5_reamAt_28 (by decide) ?_
          refine zt_calli (As := [.int x4_1, .int (5 : Int32)]) (rest := []) ⟨hx, hb, hml, hown, hts⟩ hI (zm_r l g x4_1 (5 : Int32) S_3 _ hw) (cwV 2 hts (lw_V q3761 q3763 qs49 q113 q3764) rfl rfl rfl hdT_r ⟨Nat.le_of_ble_eq_true rfl, Nat.le_of_ble_eq_true rfl⟩) rfl hl.1 rfl (lv_room (Nat.le_of_ble_eq_true rfl)) dX5_reamAt_29 ⟨Nat.le_refl _, Nat.le_refl _⟩ (fun r_7 S_6 H locs hw hI => ?_)
          refine lv_iload_n hx hb dX5_reamAt_32 rfl (lv_at hl 2 rfl) ?_
          refine lv_icmp_ne (tgt := 51) hx hb dX5_reamAt_33 (by decide) (fun hc_8 => ?_) (fun hc_8 => ?_)
          · have hw := hw.1 hc_8
            refine lv_iinc (v := x4_1 + (1 : Int32)) (lv' := [(4, .int (x4_1 + (1 : Int32))), (0, .ref g.2.1), (1, .int p1), (2, .int p2), (3, .int p3)]) hx hb dX5_reamAt_51 hl (k := 4) rfl rfl (by decide) rfl (fun ls hl => ?_)
            refine lv_goto (tgt := 3) hx hb dX5_reamAt_54 (by decide) ?_
            exact ih_1 _ _ H locs ls (Nat.lt_of_lt_of_le hw.2 (Nat.le_of_lt_succ hn_1)) hw.1 hI (lv_sub hl [1, 2, 3, 4, 0] rfl)
          · have hw := hw.2 hc_8
            refine lv_aload_n hx hb dX5_reamAt_36 rfl (lv_at hl 0 rfl) ?_
            refine lv_iload hx hb dX5_reamAt_37 (lv_at hl 4 rfl) ?_
            refine lv_bipush (v := 6) hx hb dX5_reamAt_39 (by decide) ?_
            refine zt_calli (As := [.int x4_1, .int (6 : Int32)]) (rest := []) ⟨hx, hb, hml, hown, hts⟩ hI (zm_r l g x4_1 (6 : Int32) S_6 _ hw) (cwV 2 hts (lw_V q3761 q3763 qs49 q113 q3764) rfl rfl rfl hdT_r ⟨Nat.le_of_ble_eq_true rfl, Nat.le_of_ble_eq_true rfl⟩) rfl hl.1 rfl (lv_room (Nat.le_of_ble_eq_true rfl)) dX5_reamAt_41 ⟨Nat.le_refl _, Nat.le_refl _⟩ (fun r_10 S_9 H locs hw hI => ?_)
            refine lv_iload_n hx hb dX5_reamAt_44 rfl (lv_at hl 3 rfl) ?_
            refine lv_icmp_ne (tgt := 51) hx hb dX5_reamAt_45 (by decide) (fun hc_11 => ?_) (fun hc_11 => ?_)
            · have hw := hw.1 hc_11
              refine lv_iinc (v := x4_1 + (1 : Int32)) (lv' := [(4, .int (x4_1 + (1 : Int32))), (0, .ref g.2.1), (1, .int p1), (2, .int p2), (3, .int p3)]) hx hb dX5_reamAt_51 hl (k := 4) rfl rfl (by decide) rfl (fun ls hl => ?_)
              refine lv_goto (tgt := 3) hx hb dX5_reamAt_54 (by decide) ?_
              exact ih_1 _ _ H locs ls (Nat.lt_of_lt_of_le hw.2 (Nat.le_of_lt_succ hn_1)) hw.1 hI (lv_sub hl [1, 2, 3, 4, 0] rfl)
            · have hw := hw.2 hc_11
              refine lv_iload hx hb dX5_reamAt_48 (lv_at hl 4 rfl) ?_
              exact zt_iret hx hb hr hlk hI hw dX5_reamAt_50
  exact hL_1 _ _ _ H locs ls (Nat.lt_succ_self _) h0_1 hI (lv_sub hl [1, 2, 3, 4, 0] rfl)
theorem hdT_reamAt : yX5_reamAt.cls = RX5 ∧ yX5_reamAt.cls ≠ "java/lang/invoke/MethodHandle" ∧ yX5_reamAt.cls ≠ "java/lang/invoke/VarHandle" ∧ (parseMethodDescriptor yX5_reamAt.desc).map (fun d => d.parameters.length) = some 3 := by decide +kernel
def zw_topOf (p1 : Int32) (p2 : Int32) (S : zt_S) (post : Int32 → zt_S → Prop) : Prop :=
  zw_heightOf p1 p2 S (fun (r_2 : Int32) (S_1 : zt_S) => zw_reamAt p1 p2 (r_2 - (1 : Int32)) S_1 (fun (r_4 : Int32) (S_3 : zt_S) => post r_4 S_3))
set_option maxHeartbeats 4000000 in
theorem zm_topOf (l : Launch) (g : zt_G) (p1 : Int32) (p2 : Int32) (S : zt_S) (post : Int32 → zt_S → Prop) (hw : zw_topOf p1 p2 S post) : Met l yX5_topOf (ws_ yX5_topOf cX5_topOf 3 (some .int)) ({ frames := 2, cells := 0, slots := 0, locals := 46 } : Room) (va_Pc (.ref g.2.1 :: [.int p1, .int p2]) (zt_B g S)) (va_Qi post (zt_B g) (zt_A g)) 0 0 (zt_A g) := by
  refine zt_met (by decide) rfl (Nat.le_of_ble_eq_true rfl) (fun p e s m below meth c ls hC hI hl => ?_)
  generalize (Value.ref g.2.1 :: ([.int p1, .int p2] : List Value)).toArray = args at hC ⊢
  obtain ⟨hx, hb, hml, hown, hts, hr, hlk⟩ := hC
  have hl : lv_has ls 3 [(0, .ref g.2.1), (1, .int p1), (2, .int p2)] := hl
  unfold zw_topOf at hw
  obtain ⟨H, eH⟩ : ∃ z, z = s.heap := ⟨_, rfl⟩
  obtain ⟨locs, elo⟩ : ∃ z : List Loc, z = [] := ⟨_, rfl⟩
  rw [← eH, ← elo] at hI ⊢
  refine lv_aload_n hx hb dX5_topOf_0 rfl (lv_at hl 0 rfl) ?_
  refine lv_iload_n hx hb dX5_topOf_1 rfl (lv_at hl 1 rfl) ?_
  refine lv_iload_n hx hb dX5_topOf_2 rfl (lv_at hl 2 rfl) ?_
  refine lv_aload_n hx hb dX5_topOf_3 rfl (lv_at hl 0 rfl) ?_
  refine lv_iload_n hx hb dX5_topOf_4 rfl (lv_at hl 1 rfl) ?_
  refine lv_iload_n hx hb dX5_topOf_5 rfl (lv_at hl 2 rfl) ?_
  refine zt_calli (As := [.int p1, .int p2]) (rest := [.int p2, .int p1, .ref g.2.1]) ⟨hx, hb, hml, hown, hts⟩ hI (zm_heightOf l g p1 p2 S _ hw) (cwV 2 hts (lw_V q3757 q3759 qs48 q113 q3760) rfl rfl rfl hdT_heightOf ⟨Nat.le_of_ble_eq_true rfl, Nat.le_of_ble_eq_true rfl⟩) rfl hl.1 rfl (lv_room (Nat.le_of_ble_eq_true rfl)) dX5_topOf_6 ⟨Nat.le_refl _, Nat.le_refl _⟩ (fun r_2 S_1 H locs hw hI => ?_)
  refine lv_iconst (v := 1) hx hb dX5_topOf_9 (by decide) ?_
  refine lv_isub hx hb dX5_topOf_10 ?_
  refine zt_calli (As := [.int p1, .int p2, .int (r_2 - (1 : Int32))]) (rest := []) ⟨hx, hb, hml, hown, hts⟩ hI (zm_reamAt l g p1 p2 (r_2 - (1 : Int32)) S_1 _ hw) (cwV 3 hts (lw_V q3785 q3787 qs53 q113 q3788) rfl rfl rfl hdT_reamAt ⟨Nat.le_of_ble_eq_true rfl, Nat.le_of_ble_eq_true rfl⟩) rfl hl.1 rfl (lv_room (Nat.le_of_ble_eq_true rfl)) dX5_topOf_11 ⟨Nat.le_refl _, Nat.le_refl _⟩ (fun r_4 S_3 H locs hw hI => ?_)
  exact zt_iret hx hb hr hlk hI hw dX5_topOf_14
theorem hdT_topOf : yX5_topOf.cls = RX5 ∧ yX5_topOf.cls ≠ "java/lang/invoke/MethodHandle" ∧ yX5_topOf.cls ≠ "java/lang/invoke/VarHandle" ∧ (parseMethodDescriptor yX5_topOf.desc).map (fun d => d.parameters.length) = some 2 := by decide +kernel
def zw_top_33 (post : Int32 → zt_S → Prop) (t0 : Int32) (v1 : Int32) (v2 : Int32) (S : zt_S) : Prop :=
  ∀ S_3 : zt_S, S_3 = zt_us S 0 0 t0 → ((¬ S_3 0 0 = (0 : Int32) → (post (0 : Int32) S_3)) ∧ (S_3 0 0 = (0 : Int32) → (zw_topOf v1 v2 S_3 (fun (r_6 : Int32) (S_5 : zt_S) => post r_6 S_5))))
set_option maxHeartbeats 4000000 in
theorem zj_top_33 {p : Program} {l : Launch} {e : Env} {s : State} {m : MethodId} {args : Array Value} {below : List Frame} {meth : Method} {c : Code} {H : Heap} {locs : List Loc} {ls : Array Slot} (g : zt_G) (post : Int32 → zt_S → Prop) (t0 : Int32) (v1 : Int32) (v2 : Int32) (S : zt_S) (hC : zt_C p s m args meth c cX5_top 3 (some .int)) (hw : zw_top_33 post t0 v1 v2 S) (hI : zt_I g S s H locs) (hl : lv_has ls 3 [(0, .ref g.2.1), (1, .int v1), (2, .int v2)]) : W p l e ({ frames := 3, cells := 0, slots := 0, locals := 68 } : Room) s m args below meth c H locs 0 0 (MQ below (va_Qi post (zt_B g) (zt_A g)) args s 0 0 (zt_A g)) (F0 m 33 ls [.int t0, .ref g.2.1]) := by
  obtain ⟨hx, hb, hml, hown, hts, hr, hlk⟩ := hC
  unfold zw_top_33 at hw
  refine zt_put hx hb hts hown hI 0 (v := t0) (ty := .int) (by decide) q3632 rfl rfl (by decide +kernel) rfl rfl rfl dX5_top_33 (fun H locs hI => ?_)
  obtain ⟨S_3, eS_3⟩ : ∃ z, z = zt_us S 0 0 t0 := ⟨_, rfl⟩
  rw [← eS_3] at hI
  have hw := hw S_3 eS_3
  refine lv_aload_n hx hb dX5_top_36 rfl (lv_at hl 0 rfl) ?_
  refine zt_get hx hb hts hown hI 0 (v := .int (S_3 0 0)) (by decide) q3632 rfl rfl dX5_top_37 ?_
  refine lv_if_ne (tgt := 52) hx hb dX5_top_40 (by decide) (fun hc_4 => ?_) (fun hc_4 => ?_)
  · have hw := hw.1 hc_4
    refine lv_iconst (v := 0) hx hb dX5_top_52 (by decide) ?_
    exact zt_iret hx hb hr hlk hI hw dX5_top_53
  · have hw := hw.2 hc_4
    refine lv_aload_n hx hb dX5_top_43 rfl (lv_at hl 0 rfl) ?_
    refine lv_iload_n hx hb dX5_top_44 rfl (lv_at hl 1 rfl) ?_
    refine lv_iload_n hx hb dX5_top_45 rfl (lv_at hl 2 rfl) ?_
    refine zt_calli (As := [.int v1, .int v2]) (rest := []) ⟨hx, hb, hml, hown, hts⟩ hI (zm_topOf l g v1 v2 S_3 _ hw) (cwV 2 hts (lw_V q3781 q3783 qs52 q113 q3784) rfl rfl rfl hdT_topOf ⟨Nat.le_of_ble_eq_true rfl, Nat.le_of_ble_eq_true rfl⟩) rfl hl.1 rfl (lv_room (Nat.le_of_ble_eq_true rfl)) dX5_top_46 ⟨Nat.le_refl _, Nat.le_refl _⟩ (fun r_6 S_5 H locs hw hI => ?_)
    refine lv_goto (tgt := 53) hx hb dX5_top_49 (by decide) ?_
    exact zt_iret hx hb hr hlk hI hw dX5_top_53
def zw_top_15 (post : Int32 → zt_S → Prop) (v1 : Int32) (v2 : Int32) (S : zt_S) : Prop :=
  zw_top_33 post (1 : Int32) v1 v2 S
set_option maxHeartbeats 4000000 in
theorem zj_top_15 {p : Program} {l : Launch} {e : Env} {s : State} {m : MethodId} {args : Array Value} {below : List Frame} {meth : Method} {c : Code} {H : Heap} {locs : List Loc} {ls : Array Slot} (g : zt_G) (post : Int32 → zt_S → Prop) (v1 : Int32) (v2 : Int32) (S : zt_S) (hC : zt_C p s m args meth c cX5_top 3 (some .int)) (hw : zw_top_15 post v1 v2 S) (hI : zt_I g S s H locs) (hl : lv_has ls 3 [(0, .ref g.2.1), (1, .int v1), (2, .int v2)]) : W p l e ({ frames := 3, cells := 0, slots := 0, locals := 68 } : Room) s m args below meth c H locs 0 0 (MQ below (va_Qi post (zt_B g) (zt_A g)) args s 0 0 (zt_A g)) (F0 m 15 ls [.ref g.2.1]) := by
  obtain ⟨hx, hb, hml, hown, hts, hr, hlk⟩ := hC
  unfold zw_top_15 at hw
  refine lv_iconst (v := 1) hx hb dX5_top_15 (by decide) ?_
  refine lv_goto (tgt := 33) hx hb dX5_top_16 (by decide) ?_
  exact zj_top_33 g post (1 : Int32) v1 v2 S ⟨hx, hb, hml, hown, hts, hr, hlk⟩ hw hI (lv_sub hl [0, 1, 2] rfl)
def zw_top (p1 : Int32) (p2 : Int32) (S : zt_S) (post : Int32 → zt_S → Prop) : Prop :=
  zw_isAisle p1 (fun (r_1 : Int32) => (r_1 = (0 : Int32) → (zw_top_15 post p1 p2 S)) ∧ (¬ r_1 = (0 : Int32) → (zw_isShelf p2 (fun (r_7 : Int32) => (¬ r_7 = (0 : Int32) → (zw_heightOf p1 p2 S (fun (r_10 : Int32) (S_9 : zt_S) => (¬ r_10 = (0 : Int32) → (zw_top_33 post (0 : Int32) p1 p2 S_9)) ∧ (r_10 = (0 : Int32) → (zw_top_33 post (2 : Int32) p1 p2 S_9))))) ∧ (r_7 = (0 : Int32) → (zw_top_15 post p1 p2 S))))))
set_option maxHeartbeats 4000000 in
theorem zm_top (l : Launch) (g : zt_G) (p1 : Int32) (p2 : Int32) (S : zt_S) (post : Int32 → zt_S → Prop) (hw : zw_top p1 p2 S post) : Met l yX5_top (ws_ yX5_top cX5_top 3 (some .int)) ({ frames := 3, cells := 0, slots := 0, locals := 68 } : Room) (va_Pc (.ref g.2.1 :: [.int p1, .int p2]) (zt_B g S)) (va_Qi post (zt_B g) (zt_A g)) 0 0 (zt_A g) := by
  refine zt_met (by decide) rfl (Nat.le_of_ble_eq_true rfl) (fun p e s m below meth c ls hC hI hl => ?_)
  generalize (Value.ref g.2.1 :: ([.int p1, .int p2] : List Value)).toArray = args at hC ⊢
  obtain ⟨hx, hb, hml, hown, hts, hr, hlk⟩ := hC
  have hl : lv_has ls 3 [(0, .ref g.2.1), (1, .int p1), (2, .int p2)] := hl
  unfold zw_top at hw
  obtain ⟨H, eH⟩ : ∃ z, z = s.heap := ⟨_, rfl⟩
  obtain ⟨locs, elo⟩ : ∃ z : List Loc, z = [] := ⟨_, rfl⟩
  rw [← eH, ← elo] at hI ⊢
  refine lv_aload_n hx hb dX5_top_0 rfl (lv_at hl 0 rfl) ?_
  refine lv_iload_n hx hb dX5_top_1 rfl (lv_at hl 1 rfl) ?_
  refine zt_callS (As := [.int p1]) (rest := [.ref g.2.1]) ⟨hx, hb, hml, hown, hts⟩ (zm_isAisle l p1 _ hw) (va_cwS 1 hts (lw_S q3732 q3733 q113 q3734) rfl rfl rfl hdT_isAisle ⟨Nat.le_of_ble_eq_true rfl, Nat.le_of_ble_eq_true rfl⟩) rfl hl.1 rfl (lv_room (Nat.le_of_ble_eq_true rfl)) dX5_top_2 ⟨Nat.le_refl _, Nat.le_refl _⟩ (fun r_1 hw => ?_)
  refine lv_if_eq (tgt := 15) hx hb dX5_top_5 (by decide) (fun hc_2 => ?_) (fun hc_2 => ?_)
  · have hw := hw.1 hc_2
    exact zj_top_15 g post p1 p2 S ⟨hx, hb, hml, hown, hts, hr, hlk⟩ hw hI (lv_sub hl [0, 1, 2] rfl)
  · have hw := hw.2 hc_2
    refine lv_iload_n hx hb dX5_top_8 rfl (lv_at hl 2 rfl) ?_
    refine zt_callS (As := [.int p2]) (rest := [.ref g.2.1]) ⟨hx, hb, hml, hown, hts⟩ (zm_isShelf l p2 _ hw) (va_cwS 1 hts (lw_S q3751 q3752 q113 q3753) rfl rfl rfl hdT_isShelf ⟨Nat.le_of_ble_eq_true rfl, Nat.le_of_ble_eq_true rfl⟩) rfl hl.1 rfl (lv_room (Nat.le_of_ble_eq_true rfl)) dX5_top_9 ⟨Nat.le_refl _, Nat.le_refl _⟩ (fun r_7 hw => ?_)
    refine lv_if_ne (tgt := 19) hx hb dX5_top_12 (by decide) (fun hc_8 => ?_) (fun hc_8 => ?_)
    · have hw := hw.1 hc_8
      refine lv_aload_n hx hb dX5_top_19 rfl (lv_at hl 0 rfl) ?_
      refine lv_iload_n hx hb dX5_top_20 rfl (lv_at hl 1 rfl) ?_
      refine lv_iload_n hx hb dX5_top_21 rfl (lv_at hl 2 rfl) ?_
      refine zt_calli (As := [.int p1, .int p2]) (rest := [.ref g.2.1]) ⟨hx, hb, hml, hown, hts⟩ hI (zm_heightOf l g p1 p2 S _ hw) (cwV 2 hts (lw_V q3757 q3759 qs48 q113 q3760) rfl rfl rfl hdT_heightOf ⟨Nat.le_of_ble_eq_true rfl, Nat.le_of_ble_eq_true rfl⟩) rfl hl.1 rfl (lv_room (Nat.le_of_ble_eq_true rfl)) dX5_top_22 ⟨Nat.le_refl _, Nat.le_refl _⟩ (fun r_10 S_9 H locs hw hI => ?_)
      refine lv_if_ne (tgt := 32) hx hb dX5_top_25 (by decide) (fun hc_11 => ?_) (fun hc_11 => ?_)
      · have hw := hw.1 hc_11
        refine lv_iconst (v := 0) hx hb dX5_top_32 (by decide) ?_
        exact zj_top_33 g post (0 : Int32) p1 p2 S_9 ⟨hx, hb, hml, hown, hts, hr, hlk⟩ hw hI (lv_sub hl [0, 1, 2] rfl)
      · have hw := hw.2 hc_11
        refine lv_iconst (v := 2) hx hb dX5_top_28 (by decide) ?_
        refine lv_goto (tgt := 33) hx hb dX5_top_29 (by decide) ?_
        exact zj_top_33 g post (2 : Int32) p1 p2 S_9 ⟨hx, hb, hml, hown, hts, hr, hlk⟩ hw hI (lv_sub hl [0, 1, 2] rfl)
    · have hw := hw.2 hc_8
      exact zj_top_15 g post p1 p2 S ⟨hx, hb, hml, hown, hts, hr, hlk⟩ hw hI (lv_sub hl [0, 1, 2] rfl)
theorem hdT_top : yX5_top.cls = RX5 ∧ yX5_top.cls ≠ "java/lang/invoke/MethodHandle" ∧ yX5_top.cls ≠ "java/lang/invoke/VarHandle" ∧ (parseMethodDescriptor yX5_top.desc).map (fun d => d.parameters.length) = some 2 := by decide +kernel
def zw_isWavy (p1 : Int32) (S : zt_S) (post : Int32 → zt_S → Prop) : Prop :=
  zw_r p1 (3 : Int32) S (fun (r_2 : Int32) (S_1 : zt_S) => (r_2 < (7 : Int32) → (post (0 : Int32) S_1)) ∧ (¬ r_2 < (7 : Int32) → (post (1 : Int32) S_1)))
set_option maxHeartbeats 4000000 in
theorem zm_isWavy (l : Launch) (g : zt_G) (p1 : Int32) (S : zt_S) (post : Int32 → zt_S → Prop) (hw : zw_isWavy p1 S post) : Met l yX5_isWavy (ws_ yX5_isWavy cX5_isWavy 2 (some .boolean)) ({ frames := 1, cells := 0, slots := 0, locals := 22 } : Room) (va_Pc (.ref g.2.1 :: [.int p1]) (zt_B g S)) (va_Qi post (zt_B g) (zt_A g)) 0 0 (zt_A g) := by
  refine zt_met (by decide) rfl (Nat.le_of_ble_eq_true rfl) (fun p e s m below meth c ls hC hI hl => ?_)
  generalize (Value.ref g.2.1 :: ([.int p1] : List Value)).toArray = args at hC ⊢
  obtain ⟨hx, hb, hml, hown, hts, hr, hlk⟩ := hC
  have hl : lv_has ls 2 [(0, .ref g.2.1), (1, .int p1)] := hl
  unfold zw_isWavy at hw
  obtain ⟨H, eH⟩ : ∃ z, z = s.heap := ⟨_, rfl⟩
  obtain ⟨locs, elo⟩ : ∃ z : List Loc, z = [] := ⟨_, rfl⟩
  rw [← eH, ← elo] at hI ⊢
  refine lv_aload_n hx hb dX5_isWavy_0 rfl (lv_at hl 0 rfl) ?_
  refine lv_iload_n hx hb dX5_isWavy_1 rfl (lv_at hl 1 rfl) ?_
  refine lv_iconst (v := 3) hx hb dX5_isWavy_2 (by decide) ?_
  refine zt_calli (As := [.int p1, .int (3 : Int32)]) (rest := []) ⟨hx, hb, hml, hown, hts⟩ hI (zm_r l g p1 (3 : Int32) S _ hw) (cwV 2 hts (lw_V q3761 q3763 qs49 q113 q3764) rfl rfl rfl hdT_r ⟨Nat.le_of_ble_eq_true rfl, Nat.le_of_ble_eq_true rfl⟩) rfl hl.1 rfl (lv_room (Nat.le_of_ble_eq_true rfl)) dX5_isWavy_3 ⟨Nat.le_refl _, Nat.le_refl _⟩ (fun r_2 S_1 H locs hw hI => ?_)
  refine lv_bipush (v := 7) hx hb dX5_isWavy_6 (by decide) ?_
  refine lv_icmp_lt (tgt := 15) hx hb dX5_isWavy_8 (by decide) (fun hc_3 => ?_) (fun hc_3 => ?_)
  · have hw := hw.1 hc_3
    refine lv_iconst (v := 0) hx hb dX5_isWavy_15 (by decide) ?_
    exact zt_zret hx hb hr hlk hI rfl hw dX5_isWavy_16
  · have hw := hw.2 hc_3
    refine lv_iconst (v := 1) hx hb dX5_isWavy_11 (by decide) ?_
    refine lv_goto (tgt := 16) hx hb dX5_isWavy_12 (by decide) ?_
    exact zt_zret hx hb hr hlk hI rfl hw dX5_isWavy_16
theorem hdT_isWavy : yX5_isWavy.cls = RX5 ∧ yX5_isWavy.cls ≠ "java/lang/invoke/MethodHandle" ∧ yX5_isWavy.cls ≠ "java/lang/invoke/VarHandle" ∧ (parseMethodDescriptor yX5_isWavy.desc).map (fun d => d.parameters.length) = some 1 := by decide +kernel
def zw_a (p1 : Int32) (p2 : Int32) (S : zt_S) (post : Int32 → zt_S → Prop) : Prop :=
  vp_in (((249 : Int32) + ((5 : Int32) * p1)) + p2) 3810 ∧ (post (S 1 (((249 : Int32) + ((5 : Int32) * p1)) + p2).toNatClampNeg) S)
set_option maxHeartbeats 4000000 in
theorem zm_a (l : Launch) (g : zt_G) (p1 : Int32) (p2 : Int32) (S : zt_S) (post : Int32 → zt_S → Prop) (hw : zw_a p1 p2 S post) : Met l yX5_a (ws_ yX5_a cX5_a 3 (some .int)) ({ frames := 0, cells := 0, slots := 0, locals := 0 } : Room) (va_Pc (.ref g.2.1 :: [.int p1, .int p2]) (zt_B g S)) (va_Qi post (zt_B g) (zt_A g)) 0 0 (zt_A g) := by
  refine zt_met (by decide) rfl (Nat.le_of_ble_eq_true rfl) (fun p e s m below meth c ls hC hI hl => ?_)
  generalize (Value.ref g.2.1 :: ([.int p1, .int p2] : List Value)).toArray = args at hC ⊢
  obtain ⟨hx, hb, hml, hown, hts, hr, hlk⟩ := hC
  have hl : lv_has ls 3 [(0, .ref g.2.1), (1, .int p1), (2, .int p2)] := hl
  unfold zw_a at hw
  obtain ⟨H, eH⟩ : ∃ z, z = s.heap := ⟨_, rfl⟩
  obtain ⟨locs, elo⟩ : ∃ z : List Loc, z = [] := ⟨_, rfl⟩
  rw [← eH, ← elo] at hI ⊢
  refine lv_aload_n hx hb dX5_a_0 rfl (lv_at hl 0 rfl) ?_
  refine zt_get hx hb hts hown hI 1 (v := .ref g.2.2.1) (by decide) q3633 rfl rfl dX5_a_1 ?_
  refine lv_sipush (v := 249) hx hb dX5_a_4 (by decide) ?_
  refine lv_iconst (v := 5) hx hb dX5_a_7 (by decide) ?_
  refine lv_iload_n hx hb dX5_a_8 rfl (lv_at hl 1 rfl) ?_
  refine lv_imul hx hb dX5_a_9 ?_
  refine lv_iadd hx hb dX5_a_10 ?_
  refine lv_iload_n hx hb dX5_a_11 rfl (lv_at hl 2 rfl) ?_
  refine lv_iadd hx hb dX5_a_12 ?_
  refine zt_ld1 hx hb hI hw.1 dX5_a_13 ?_
  have hw := hw.2
  exact zt_iret hx hb hr hlk hI hw dX5_a_14
theorem hdT_a : yX5_a.cls = RX5 ∧ yX5_a.cls ≠ "java/lang/invoke/MethodHandle" ∧ yX5_a.cls ≠ "java/lang/invoke/VarHandle" ∧ (parseMethodDescriptor yX5_a.desc).map (fun d => d.parameters.length) = some 2 := by decide +kernel
def zw_most (p0 : Int32) (p1 : Int32) (post : Int32 → Prop) : Prop :=
  (p0 ≤ p1 → (post p1)) ∧ (¬ p0 ≤ p1 → (post p0))
set_option maxHeartbeats 4000000 in
theorem zm_most (l : Launch) (p0 : Int32) (p1 : Int32) (post : Int32 → Prop) (hw : zw_most p0 p1 post) : Met l yX5_most (ws_ yX5_most cX5_most 2 (some .int)) ({ frames := 0, cells := 0, slots := 0, locals := 0 } : Room) (va_Pc [.int p0, .int p1] (fun _ => True)) (vp_Si post) 0 0 (fun _ => False) := by
  refine zt_metS (by decide) rfl (Nat.le_of_ble_eq_true rfl) (fun p e s m below meth c ls hC hl => ?_)
  generalize (([.int p0, .int p1] : List Value)).toArray = args at hC ⊢
  obtain ⟨hx, hb, hml, hown, hts, hr, hlk⟩ := hC
  have hl : lv_has ls 2 [(0, .int p0), (1, .int p1)] := hl
  unfold zw_most at hw
  refine lv_iload_n hx hb dX5_most_0 rfl (lv_at hl 0 rfl) ?_
  refine lv_iload_n hx hb dX5_most_1 rfl (lv_at hl 1 rfl) ?_
  refine lv_icmp_le (tgt := 9) hx hb dX5_most_2 (by decide) (fun hc_1 => ?_) (fun hc_1 => ?_)
  · have hw := hw.1 hc_1
    refine lv_iload_n hx hb dX5_most_9 rfl (lv_at hl 1 rfl) ?_
    exact zt_sret hx hb hr hlk rfl hw dX5_most_10
  · have hw := hw.2 hc_1
    refine lv_iload_n hx hb dX5_most_5 rfl (lv_at hl 0 rfl) ?_
    refine lv_goto (tgt := 10) hx hb dX5_most_6 (by decide) ?_
    exact zt_sret hx hb hr hlk rfl hw dX5_most_10
theorem hdT_most : yX5_most.cls ≠ "java/lang/invoke/MethodHandle" ∧ yX5_most.cls ≠ "java/lang/invoke/VarHandle" ∧ (parseMethodDescriptor yX5_most.desc).map (fun d => d.parameters.length) = some 2 := by decide +kernel
def zw_wavyIn_66 (post : Int32 → zt_S → Prop) (t0 : Int32) (v1 : Int32) (S : zt_S) : Prop :=
  ∀ S_9 : zt_S, S_9 = zt_us S 0 0 t0 → ((¬ S_9 0 0 = (0 : Int32) → (post (0 : Int32) S_9)) ∧ (S_9 0 0 = (0 : Int32) → (zw_r v1 (3 : Int32) S_9 (fun (r_12 : Int32) (S_11 : zt_S) => zw_most (0 : Int32) ((7 : Int32) - r_12) (fun (r_13 : Int32) => post r_13 S_11)))))
set_option maxHeartbeats 4000000 in
theorem zj_wavyIn_66 {p : Program} {l : Launch} {e : Env} {s : State} {m : MethodId} {args : Array Value} {below : List Frame} {meth : Method} {c : Code} {H : Heap} {locs : List Loc} {ls : Array Slot} (g : zt_G) (post : Int32 → zt_S → Prop) (t0 : Int32) (v1 : Int32) (S : zt_S) (hC : zt_C p s m args meth c cX5_wavyIn 2 (some .int)) (hw : zw_wavyIn_66 post t0 v1 S) (hI : zt_I g S s H locs) (hl : lv_has ls 2 [(0, .ref g.2.1), (1, .int v1)]) : W p l e ({ frames := 2, cells := 0, slots := 0, locals := 43 } : Room) s m args below meth c H locs 0 0 (MQ below (va_Qi post (zt_B g) (zt_A g)) args s 0 0 (zt_A g)) (F0 m 66 ls [.int t0, .ref g.2.1]) := by
  obtain ⟨hx, hb, hml, hown, hts, hr, hlk⟩ := hC
  unfold zw_wavyIn_66 at hw
  refine zt_put hx hb hts hown hI 0 (v := t0) (ty := .int) (by decide) q3632 rfl rfl (by decide +kernel) rfl rfl rfl dX5_wavyIn_66 (fun H locs hI => ?_)
  obtain ⟨S_9, eS_9⟩ : ∃ z, z = zt_us S 0 0 t0 := ⟨_, rfl⟩
  rw [← eS_9] at hI
  have hw := hw S_9 eS_9
  refine lv_aload_n hx hb dX5_wavyIn_69 rfl (lv_at hl 0 rfl) ?_
  refine zt_get hx hb hts hown hI 0 (v := .int (S_9 0 0)) (by decide) q3632 rfl rfl dX5_wavyIn_70 ?_
  refine lv_if_ne (tgt := 92) hx hb dX5_wavyIn_73 (by decide) (fun hc_10 => ?_) (fun hc_10 => ?_)
  · have hw := hw.1 hc_10
    refine lv_iconst (v := 0) hx hb dX5_wavyIn_92 (by decide) ?_
    exact zt_iret hx hb hr hlk hI hw dX5_wavyIn_93
  · have hw := hw.2 hc_10
    refine lv_iconst (v := 0) hx hb dX5_wavyIn_76 (by decide) ?_
    refine lv_bipush (v := 7) hx hb dX5_wavyIn_77 (by decide) ?_
    refine lv_aload_n hx hb dX5_wavyIn_79 rfl (lv_at hl 0 rfl) ?_
    refine lv_iload_n hx hb dX5_wavyIn_80 rfl (lv_at hl 1 rfl) ?_
    refine lv_iconst (v := 3) hx hb dX5_wavyIn_81 (by decide) ?_
    refine zt_calli (As := [.int v1, .int (3 : Int32)]) (rest := [.int (7 : Int32), .int (0 : Int32)]) ⟨hx, hb, hml, hown, hts⟩ hI (zm_r l g v1 (3 : Int32) S_9 _ hw) (cwV 2 hts (lw_V q3761 q3763 qs49 q113 q3764) rfl rfl rfl hdT_r ⟨Nat.le_of_ble_eq_true rfl, Nat.le_of_ble_eq_true rfl⟩) rfl hl.1 rfl (lv_room (Nat.le_of_ble_eq_true rfl)) dX5_wavyIn_82 ⟨Nat.le_refl _, Nat.le_refl _⟩ (fun r_12 S_11 H locs hw hI => ?_)
    refine lv_isub hx hb dX5_wavyIn_85 ?_
    refine zt_callS (As := [.int (0 : Int32), .int ((7 : Int32) - r_12)]) (rest := []) ⟨hx, hb, hml, hown, hts⟩ (zm_most l (0 : Int32) ((7 : Int32) - r_12) _ hw) (va_cwS 2 hts (lw_S q3801 q3802 q113 q3803) rfl rfl rfl hdT_most ⟨Nat.le_of_ble_eq_true rfl, Nat.le_of_ble_eq_true rfl⟩) rfl hl.1 rfl (lv_room (Nat.le_of_ble_eq_true rfl)) dX5_wavyIn_86 ⟨Nat.le_refl _, Nat.le_refl _⟩ (fun r_13 hw => ?_)
    refine lv_goto (tgt := 93) hx hb dX5_wavyIn_89 (by decide) ?_
    exact zt_iret hx hb hr hlk hI hw dX5_wavyIn_93
def zw_wavyIn_61 (post : Int32 → zt_S → Prop) (v1 : Int32) (S : zt_S) : Prop :=
  zw_wavyIn_66 post (2 : Int32) v1 S
set_option maxHeartbeats 4000000 in
theorem zj_wavyIn_61 {p : Program} {l : Launch} {e : Env} {s : State} {m : MethodId} {args : Array Value} {below : List Frame} {meth : Method} {c : Code} {H : Heap} {locs : List Loc} {ls : Array Slot} (g : zt_G) (post : Int32 → zt_S → Prop) (v1 : Int32) (S : zt_S) (hC : zt_C p s m args meth c cX5_wavyIn 2 (some .int)) (hw : zw_wavyIn_61 post v1 S) (hI : zt_I g S s H locs) (hl : lv_has ls 2 [(0, .ref g.2.1), (1, .int v1)]) : W p l e ({ frames := 2, cells := 0, slots := 0, locals := 43 } : Room) s m args below meth c H locs 0 0 (MQ below (va_Qi post (zt_B g) (zt_A g)) args s 0 0 (zt_A g)) (F0 m 61 ls [.ref g.2.1]) := by
  obtain ⟨hx, hb, hml, hown, hts, hr, hlk⟩ := hC
  unfold zw_wavyIn_61 at hw
  refine lv_iconst (v := 2) hx hb dX5_wavyIn_61 (by decide) ?_
  refine lv_goto (tgt := 66) hx hb dX5_wavyIn_62 (by decide) ?_
  exact zj_wavyIn_66 g post (2 : Int32) v1 S ⟨hx, hb, hml, hown, hts, hr, hlk⟩ hw hI (lv_sub hl [0, 1] rfl)
def zw_wavyIn_65 (post : Int32 → zt_S → Prop) (v1 : Int32) (S : zt_S) : Prop :=
  zw_wavyIn_66 post (0 : Int32) v1 S
set_option maxHeartbeats 4000000 in
theorem zj_wavyIn_65 {p : Program} {l : Launch} {e : Env} {s : State} {m : MethodId} {args : Array Value} {below : List Frame} {meth : Method} {c : Code} {H : Heap} {locs : List Loc} {ls : Array Slot} (g : zt_G) (post : Int32 → zt_S → Prop) (v1 : Int32) (S : zt_S) (hC : zt_C p s m args meth c cX5_wavyIn 2 (some .int)) (hw : zw_wavyIn_65 post v1 S) (hI : zt_I g S s H locs) (hl : lv_has ls 2 [(0, .ref g.2.1), (1, .int v1)]) : W p l e ({ frames := 2, cells := 0, slots := 0, locals := 43 } : Room) s m args below meth c H locs 0 0 (MQ below (va_Qi post (zt_B g) (zt_A g)) args s 0 0 (zt_A g)) (F0 m 65 ls [.ref g.2.1]) := by
  obtain ⟨hx, hb, hml, hown, hts, hr, hlk⟩ := hC
  unfold zw_wavyIn_65 at hw
  refine lv_iconst (v := 0) hx hb dX5_wavyIn_65 (by decide) ?_
  exact zj_wavyIn_66 g post (0 : Int32) v1 S ⟨hx, hb, hml, hown, hts, hr, hlk⟩ hw hI (lv_sub hl [0, 1] rfl)
def zw_wavyIn_14 (post : Int32 → zt_S → Prop) (t0 : Int32) (v1 : Int32) (S : zt_S) : Prop :=
  ∀ S_4 : zt_S, S_4 = zt_us S 0 0 t0 → ((S_4 0 0 = (0 : Int32) → (zw_r v1 (4 : Int32) S_4 (fun (r_7 : Int32) (S_6 : zt_S) => (r_7 = (-1 : Int32) → (zw_wavyIn_61 post v1 S_6)) ∧ (¬ r_7 = (-1 : Int32) → (zw_isWavy v1 S_6 (fun (r_15 : Int32) (S_14 : zt_S) => (¬ r_15 = (0 : Int32) → (zw_wavyIn_65 post v1 S_14)) ∧ (r_15 = (0 : Int32) → (zw_r v1 (4 : Int32) S_14 (fun (r_18 : Int32) (S_17 : zt_S) => zw_a r_18 (0 : Int32) S_17 (fun (r_20 : Int32) (S_19 : zt_S) => ((7 : Int32) ≤ r_20 → (zw_wavyIn_65 post v1 S_19)) ∧ (¬ (7 : Int32) ≤ r_20 → (zw_wavyIn_61 post v1 S_19)))))))))))) ∧ (¬ S_4 0 0 = (0 : Int32) → (post (0 : Int32) S_4)))
set_option maxHeartbeats 4000000 in
theorem zj_wavyIn_14 {p : Program} {l : Launch} {e : Env} {s : State} {m : MethodId} {args : Array Value} {below : List Frame} {meth : Method} {c : Code} {H : Heap} {locs : List Loc} {ls : Array Slot} (g : zt_G) (post : Int32 → zt_S → Prop) (t0 : Int32) (v1 : Int32) (S : zt_S) (hC : zt_C p s m args meth c cX5_wavyIn 2 (some .int)) (hw : zw_wavyIn_14 post t0 v1 S) (hI : zt_I g S s H locs) (hl : lv_has ls 2 [(0, .ref g.2.1), (1, .int v1)]) : W p l e ({ frames := 2, cells := 0, slots := 0, locals := 43 } : Room) s m args below meth c H locs 0 0 (MQ below (va_Qi post (zt_B g) (zt_A g)) args s 0 0 (zt_A g)) (F0 m 14 ls [.int t0, .ref g.2.1]) := by
  obtain ⟨hx, hb, hml, hown, hts, hr, hlk⟩ := hC
  unfold zw_wavyIn_14 at hw
  refine zt_put hx hb hts hown hI 0 (v := t0) (ty := .int) (by decide) q3632 rfl rfl (by decide +kernel) rfl rfl rfl dX5_wavyIn_14 (fun H locs hI => ?_)
  obtain ⟨S_4, eS_4⟩ : ∃ z, z = zt_us S 0 0 t0 := ⟨_, rfl⟩
  rw [← eS_4] at hI
  have hw := hw S_4 eS_4
  refine lv_aload_n hx hb dX5_wavyIn_17 rfl (lv_at hl 0 rfl) ?_
  refine zt_get hx hb hts hown hI 0 (v := .int (S_4 0 0)) (by decide) q3632 rfl rfl dX5_wavyIn_18 ?_
  refine lv_if_eq (tgt := 26) hx hb dX5_wavyIn_21 (by decide) (fun hc_5 => ?_) (fun hc_5 => ?_)
  · have hw := hw.1 hc_5
    refine lv_aload_n hx hb dX5_wavyIn_26 rfl (lv_at hl 0 rfl) ?_
    refine lv_aload_n hx hb dX5_wavyIn_27 rfl (lv_at hl 0 rfl) ?_
    refine lv_iload_n hx hb dX5_wavyIn_28 rfl (lv_at hl 1 rfl) ?_
    refine lv_iconst (v := 4) hx hb dX5_wavyIn_29 (by decide) ?_
    refine zt_calli (As := [.int v1, .int (4 : Int32)]) (rest := [.ref g.2.1]) ⟨hx, hb, hml, hown, hts⟩ hI (zm_r l g v1 (4 : Int32) S_4 _ hw) (cwV 2 hts (lw_V q3761 q3763 qs49 q113 q3764) rfl rfl rfl hdT_r ⟨Nat.le_of_ble_eq_true rfl, Nat.le_of_ble_eq_true rfl⟩) rfl hl.1 rfl (lv_room (Nat.le_of_ble_eq_true rfl)) dX5_wavyIn_30 ⟨Nat.le_refl _, Nat.le_refl _⟩ (fun r_7 S_6 H locs hw hI => ?_)
    refine lv_iconst (v := -1) hx hb dX5_wavyIn_33 (by decide) ?_
    refine lv_icmp_eq (tgt := 61) hx hb dX5_wavyIn_34 (by decide) (fun hc_8 => ?_) (fun hc_8 => ?_)
    · have hw := hw.1 hc_8
      exact zj_wavyIn_61 g post v1 S_6 ⟨hx, hb, hml, hown, hts, hr, hlk⟩ hw hI (lv_sub hl [0, 1] rfl)
    · have hw := hw.2 hc_8
      refine lv_aload_n hx hb dX5_wavyIn_37 rfl (lv_at hl 0 rfl) ?_
      refine lv_iload_n hx hb dX5_wavyIn_38 rfl (lv_at hl 1 rfl) ?_
      refine zt_calli (As := [.int v1]) (rest := [.ref g.2.1]) ⟨hx, hb, hml, hown, hts⟩ hI (zm_isWavy l g v1 S_6 _ hw) (cwV 1 hts (lw_V q3793 q3795 qs54 q113 q3796) rfl rfl rfl hdT_isWavy ⟨Nat.le_of_ble_eq_true rfl, Nat.le_of_ble_eq_true rfl⟩) rfl hl.1 rfl (lv_room (Nat.le_of_ble_eq_true rfl)) dX5_wavyIn_39 ⟨Nat.le_refl _, Nat.le_refl _⟩ (fun r_15 S_14 H locs hw hI => ?_)
      refine lv_if_ne (tgt := 65) hx hb dX5_wavyIn_42 (by decide) (fun hc_16 => ?_) (fun hc_16 => ?_)
      · have hw := hw.1 hc_16
        exact zj_wavyIn_65 g post v1 S_14 ⟨hx, hb, hml, hown, hts, hr, hlk⟩ hw hI (lv_sub hl [0, 1] rfl)
      · have hw := hw.2 hc_16
        refine lv_aload_n hx hb dX5_wavyIn_45 rfl (lv_at hl 0 rfl) ?_
        refine lv_aload_n hx hb dX5_wavyIn_46 rfl (lv_at hl 0 rfl) ?_
        refine lv_iload_n hx hb dX5_wavyIn_47 rfl (lv_at hl 1 rfl) ?_
        refine lv_iconst (v := 4) hx hb dX5_wavyIn_48 (by decide) ?_
        refine zt_calli (As := [.int v1, .int (4 : Int32)]) (rest := [.ref g.2.1, .ref g.2.1]) ⟨hx, hb, hml, hown, hts⟩ hI (zm_r l g v1 (4 : Int32) S_14 _ hw) (cwV 2 hts (lw_V q3761 q3763 qs49 q113 q3764) rfl rfl rfl hdT_r ⟨Nat.le_of_ble_eq_true rfl, Nat.le_of_ble_eq_true rfl⟩) rfl hl.1 rfl (lv_room (Nat.le_of_ble_eq_true rfl)) dX5_wavyIn_49 ⟨Nat.le_refl _, Nat.le_refl _⟩ (fun r_18 S_17 H locs hw hI => ?_)
        refine lv_iconst (v := 0) hx hb dX5_wavyIn_52 (by decide) ?_
        refine zt_calli (As := [.int r_18, .int (0 : Int32)]) (rest := [.ref g.2.1]) ⟨hx, hb, hml, hown, hts⟩ hI (zm_a l g r_18 (0 : Int32) S_17 _ hw) (cwV 2 hts (lw_V q3797 q3799 qs55 q113 q3800) rfl rfl rfl hdT_a ⟨Nat.le_of_ble_eq_true rfl, Nat.le_of_ble_eq_true rfl⟩) rfl hl.1 rfl (lv_room (Nat.le_of_ble_eq_true rfl)) dX5_wavyIn_53 ⟨Nat.le_refl _, Nat.le_refl _⟩ (fun r_20 S_19 H locs hw hI => ?_)
        refine lv_bipush (v := 7) hx hb dX5_wavyIn_56 (by decide) ?_
        refine lv_icmp_ge (tgt := 65) hx hb dX5_wavyIn_58 (by decide) (fun hc_21 => ?_) (fun hc_21 => ?_)
        · have hw := hw.1 hc_21
          exact zj_wavyIn_65 g post v1 S_19 ⟨hx, hb, hml, hown, hts, hr, hlk⟩ hw hI (lv_sub hl [0, 1] rfl)
        · have hw := hw.2 hc_21
          exact zj_wavyIn_61 g post v1 S_19 ⟨hx, hb, hml, hown, hts, hr, hlk⟩ hw hI (lv_sub hl [0, 1] rfl)
  · have hw := hw.2 hc_5
    refine lv_iconst (v := 0) hx hb dX5_wavyIn_24 (by decide) ?_
    exact zt_iret hx hb hr hlk hI hw dX5_wavyIn_25
def zw_wavyIn (p1 : Int32) (S : zt_S) (post : Int32 → zt_S → Prop) : Prop :=
  zw_isReam p1 S (fun (r_2 : Int32) (S_1 : zt_S) => (r_2 = (0 : Int32) → (zw_wavyIn_14 post (1 : Int32) p1 S_1)) ∧ (¬ r_2 = (0 : Int32) → (zw_wavyIn_14 post (0 : Int32) p1 S_1)))
set_option maxHeartbeats 4000000 in
theorem zm_wavyIn (l : Launch) (g : zt_G) (p1 : Int32) (S : zt_S) (post : Int32 → zt_S → Prop) (hw : zw_wavyIn p1 S post) : Met l yX5_wavyIn (ws_ yX5_wavyIn cX5_wavyIn 2 (some .int)) ({ frames := 2, cells := 0, slots := 0, locals := 43 } : Room) (va_Pc (.ref g.2.1 :: [.int p1]) (zt_B g S)) (va_Qi post (zt_B g) (zt_A g)) 0 0 (zt_A g) := by
  refine zt_met (by decide) rfl (Nat.le_of_ble_eq_true rfl) (fun p e s m below meth c ls hC hI hl => ?_)
  generalize (Value.ref g.2.1 :: ([.int p1] : List Value)).toArray = args at hC ⊢
  obtain ⟨hx, hb, hml, hown, hts, hr, hlk⟩ := hC
  have hl : lv_has ls 2 [(0, .ref g.2.1), (1, .int p1)] := hl
  unfold zw_wavyIn at hw
  obtain ⟨H, eH⟩ : ∃ z, z = s.heap := ⟨_, rfl⟩
  obtain ⟨locs, elo⟩ : ∃ z : List Loc, z = [] := ⟨_, rfl⟩
  rw [← eH, ← elo] at hI ⊢
  refine lv_aload_n hx hb dX5_wavyIn_0 rfl (lv_at hl 0 rfl) ?_
  refine lv_aload_n hx hb dX5_wavyIn_1 rfl (lv_at hl 0 rfl) ?_
  refine lv_iload_n hx hb dX5_wavyIn_2 rfl (lv_at hl 1 rfl) ?_
  refine zt_calli (As := [.int p1]) (rest := [.ref g.2.1]) ⟨hx, hb, hml, hown, hts⟩ hI (zm_isReam l g p1 S _ hw) (cwV 1 hts (lw_V q3773 q3775 qs51 q113 q3776) rfl rfl rfl hdT_isReam ⟨Nat.le_of_ble_eq_true rfl, Nat.le_of_ble_eq_true rfl⟩) rfl hl.1 rfl (lv_room (Nat.le_of_ble_eq_true rfl)) dX5_wavyIn_3 ⟨Nat.le_refl _, Nat.le_refl _⟩ (fun r_2 S_1 H locs hw hI => ?_)
  refine lv_if_eq (tgt := 13) hx hb dX5_wavyIn_6 (by decide) (fun hc_3 => ?_) (fun hc_3 => ?_)
  · have hw := hw.1 hc_3
    refine lv_iconst (v := 1) hx hb dX5_wavyIn_13 (by decide) ?_
    exact zj_wavyIn_14 g post (1 : Int32) p1 S_1 ⟨hx, hb, hml, hown, hts, hr, hlk⟩ hw hI (lv_sub hl [0, 1] rfl)
  · have hw := hw.2 hc_3
    refine lv_iconst (v := 0) hx hb dX5_wavyIn_9 (by decide) ?_
    refine lv_goto (tgt := 14) hx hb dX5_wavyIn_10 (by decide) ?_
    exact zj_wavyIn_14 g post (0 : Int32) p1 S_1 ⟨hx, hb, hml, hown, hts, hr, hlk⟩ hw hI (lv_sub hl [0, 1] rfl)
theorem hdT_wavyIn : yX5_wavyIn.cls = RX5 ∧ yX5_wavyIn.cls ≠ "java/lang/invoke/MethodHandle" ∧ yX5_wavyIn.cls ≠ "java/lang/invoke/VarHandle" ∧ (parseMethodDescriptor yX5_wavyIn.desc).map (fun d => d.parameters.length) = some 1 := by decide +kernel
def zw_setAisle (p1 : Int32) (p2 : Int32) (p3 : Int32) (S : zt_S) (post : zt_S → Prop) : Prop :=
  vp_in (((249 : Int32) + ((5 : Int32) * p1)) + p2) 3810 ∧ ∀ S_1 : zt_S, S_1 = zt_us S 1 (((249 : Int32) + ((5 : Int32) * p1)) + p2).toNatClampNeg p3 → (post S_1)
set_option maxHeartbeats 4000000 in
theorem zm_setAisle (l : Launch) (g : zt_G) (p1 : Int32) (p2 : Int32) (p3 : Int32) (S : zt_S) (post : zt_S → Prop) (hw : zw_setAisle p1 p2 p3 S post) : Met l yX5_setAisle (ws_ yX5_setAisle cX5_setAisle 4 none) ({ frames := 0, cells := 0, slots := 0, locals := 0 } : Room) (va_Pc (.ref g.2.1 :: [.int p1, .int p2, .int p3]) (zt_B g S)) (va_Qv post (zt_B g) (zt_A g)) 0 0 (zt_A g) := by
  refine zt_met (by decide) rfl (Nat.le_of_ble_eq_true rfl) (fun p e s m below meth c ls hC hI hl => ?_)
  generalize (Value.ref g.2.1 :: ([.int p1, .int p2, .int p3] : List Value)).toArray = args at hC ⊢
  obtain ⟨hx, hb, hml, hown, hts, hr, hlk⟩ := hC
  have hl : lv_has ls 4 [(0, .ref g.2.1), (1, .int p1), (2, .int p2), (3, .int p3)] := hl
  unfold zw_setAisle at hw
  obtain ⟨H, eH⟩ : ∃ z, z = s.heap := ⟨_, rfl⟩
  obtain ⟨locs, elo⟩ : ∃ z : List Loc, z = [] := ⟨_, rfl⟩
  rw [← eH, ← elo] at hI ⊢
  refine lv_aload_n hx hb dX5_setAisle_0 rfl (lv_at hl 0 rfl) ?_
  refine zt_get hx hb hts hown hI 1 (v := .ref g.2.2.1) (by decide) q3633 rfl rfl dX5_setAisle_1 ?_
  refine lv_sipush (v := 249) hx hb dX5_setAisle_4 (by decide) ?_
  refine lv_iconst (v := 5) hx hb dX5_setAisle_7 (by decide) ?_
  refine lv_iload_n hx hb dX5_setAisle_8 rfl (lv_at hl 1 rfl) ?_
  refine lv_imul hx hb dX5_setAisle_9 ?_
  refine lv_iadd hx hb dX5_setAisle_10 ?_
  refine lv_iload_n hx hb dX5_setAisle_11 rfl (lv_at hl 2 rfl) ?_
  refine lv_iadd hx hb dX5_setAisle_12 ?_
  refine lv_iload_n hx hb dX5_setAisle_13 rfl (lv_at hl 3 rfl) ?_
  refine zt_st1 hx hb hI hw.1 dX5_setAisle_14 (fun H locs hI => ?_)
  obtain ⟨S_1, eS_1⟩ : ∃ z, z = zt_us S 1 (((249 : Int32) + ((5 : Int32) * p1)) + p2).toNatClampNeg p3 := ⟨_, rfl⟩
  rw [← eS_1] at hI
  have hw := hw.2 S_1 eS_1
  exact zt_vret hx hb hr hlk hI hw dX5_setAisle_15
theorem hdT_setAisle : yX5_setAisle.cls = RX5 ∧ yX5_setAisle.cls ≠ "java/lang/invoke/MethodHandle" ∧ yX5_setAisle.cls ≠ "java/lang/invoke/VarHandle" ∧ (parseMethodDescriptor yX5_setAisle.desc).map (fun d => d.parameters.length) = some 3 := by decide +kernel
def zw_sets (p1 : Int32) (p2 : Int32) (p3 : Int32) (S : zt_S) (post : Int32 → zt_S → Prop) : Prop :=
  zw_a p1 p2 S (fun (r_2 : Int32) (S_1 : zt_S) => ∀ S_3 : zt_S, S_3 = zt_us S_1 0 4 r_2 → (zw_setAisle p1 p2 p3 S_3 (fun (S_4 : zt_S) => post (0 : Int32) S_4)))
set_option maxHeartbeats 4000000 in
theorem zm_sets (l : Launch) (g : zt_G) (p1 : Int32) (p2 : Int32) (p3 : Int32) (S : zt_S) (post : Int32 → zt_S → Prop) (hw : zw_sets p1 p2 p3 S post) : Met l yX5_sets (ws_ yX5_sets cX5_sets 4 (some .int)) ({ frames := 1, cells := 0, slots := 0, locals := 23 } : Room) (va_Pc (.ref g.2.1 :: [.int p1, .int p2, .int p3]) (zt_B g S)) (va_Qi post (zt_B g) (zt_A g)) 0 0 (zt_A g) := by
  refine zt_met (by decide) rfl (Nat.le_of_ble_eq_true rfl) (fun p e s m below meth c ls hC hI hl => ?_)
  generalize (Value.ref g.2.1 :: ([.int p1, .int p2, .int p3] : List Value)).toArray = args at hC ⊢
  obtain ⟨hx, hb, hml, hown, hts, hr, hlk⟩ := hC
  have hl : lv_has ls 4 [(0, .ref g.2.1), (1, .int p1), (2, .int p2), (3, .int p3)] := hl
  unfold zw_sets at hw
  obtain ⟨H, eH⟩ : ∃ z, z = s.heap := ⟨_, rfl⟩
  obtain ⟨locs, elo⟩ : ∃ z : List Loc, z = [] := ⟨_, rfl⟩
  rw [← eH, ← elo] at hI ⊢
  refine lv_aload_n hx hb dX5_sets_0 rfl (lv_at hl 0 rfl) ?_
  refine lv_aload_n hx hb dX5_sets_1 rfl (lv_at hl 0 rfl) ?_
  refine lv_iload_n hx hb dX5_sets_2 rfl (lv_at hl 1 rfl) ?_
  refine lv_iload_n hx hb dX5_sets_3 rfl (lv_at hl 2 rfl) ?_
  refine zt_calli (As := [.int p1, .int p2]) (rest := [.ref g.2.1]) ⟨hx, hb, hml, hown, hts⟩ hI (zm_a l g p1 p2 S _ hw) (cwV 2 hts (lw_V q3797 q3799 qs55 q113 q3800) rfl rfl rfl hdT_a ⟨Nat.le_of_ble_eq_true rfl, Nat.le_of_ble_eq_true rfl⟩) rfl hl.1 rfl (lv_room (Nat.le_of_ble_eq_true rfl)) dX5_sets_4 ⟨Nat.le_refl _, Nat.le_refl _⟩ (fun r_2 S_1 H locs hw hI => ?_)
  refine zt_put hx hb hts hown hI 4 (v := r_2) (ty := .int) (by decide) q3636 rfl rfl (by decide +kernel) rfl rfl rfl dX5_sets_7 (fun H locs hI => ?_)
  obtain ⟨S_3, eS_3⟩ : ∃ z, z = zt_us S_1 0 4 r_2 := ⟨_, rfl⟩
  rw [← eS_3] at hI
  have hw := hw S_3 eS_3
  refine lv_aload_n hx hb dX5_sets_10 rfl (lv_at hl 0 rfl) ?_
  refine lv_iload_n hx hb dX5_sets_11 rfl (lv_at hl 1 rfl) ?_
  refine lv_iload_n hx hb dX5_sets_12 rfl (lv_at hl 2 rfl) ?_
  refine lv_iload_n hx hb dX5_sets_13 rfl (lv_at hl 3 rfl) ?_
  refine zt_callv (As := [.int p1, .int p2, .int p3]) (rest := []) ⟨hx, hb, hml, hown, hts⟩ hI (zm_setAisle l g p1 p2 p3 S_3 _ hw) (cwV 3 hts (lw_V q3816 q3818 qs58 q113 q3819) rfl rfl rfl hdT_setAisle ⟨Nat.le_of_ble_eq_true rfl, Nat.le_of_ble_eq_true rfl⟩) rfl hl.1 rfl (lv_room (Nat.le_of_ble_eq_true rfl)) dX5_sets_14 ⟨Nat.le_refl _, Nat.le_refl _⟩ (fun S_4 H locs hw hI => ?_)
  refine lv_iconst (v := 0) hx hb dX5_sets_17 (by decide) ?_
  exact zt_iret hx hb hr hlk hI hw dX5_sets_18
theorem hdT_sets : yX5_sets.cls = RX5 ∧ yX5_sets.cls ≠ "java/lang/invoke/MethodHandle" ∧ yX5_sets.cls ≠ "java/lang/invoke/VarHandle" ∧ (parseMethodDescriptor yX5_sets.desc).map (fun d => d.parameters.length) = some 3 := by decide +kernel
def zw_airs (p1 : Int32) (p2 : Int32) (S : zt_S) (post : Int32 → zt_S → Prop) : Prop :=
  zw_isAisle p1 (fun (r_1 : Int32) => (r_1 = (0 : Int32) → (post (2 : Int32) S)) ∧ (¬ r_1 = (0 : Int32) → (zw_in p2 (0 : Int32) (9 : Int32) (fun (r_3 : Int32) => (¬ r_3 = (0 : Int32) → (zw_sets p1 (0 : Int32) p2 S (fun (r_6 : Int32) (S_5 : zt_S) => post r_6 S_5))) ∧ (r_3 = (0 : Int32) → (post (2 : Int32) S))))))
set_option maxHeartbeats 4000000 in
theorem zm_airs (l : Launch) (g : zt_G) (p1 : Int32) (p2 : Int32) (S : zt_S) (post : Int32 → zt_S → Prop) (hw : zw_airs p1 p2 S post) : Met l yX5_airs (ws_ yX5_airs cX5_airs 3 (some .int)) ({ frames := 2, cells := 0, slots := 0, locals := 46 } : Room) (va_Pc (.ref g.2.1 :: [.int p1, .int p2]) (zt_B g S)) (va_Qi post (zt_B g) (zt_A g)) 0 0 (zt_A g) := by
  refine zt_met (by decide) rfl (Nat.le_of_ble_eq_true rfl) (fun p e s m below meth c ls hC hI hl => ?_)
  generalize (Value.ref g.2.1 :: ([.int p1, .int p2] : List Value)).toArray = args at hC ⊢
  obtain ⟨hx, hb, hml, hown, hts, hr, hlk⟩ := hC
  have hl : lv_has ls 3 [(0, .ref g.2.1), (1, .int p1), (2, .int p2)] := hl
  unfold zw_airs at hw
  obtain ⟨H, eH⟩ : ∃ z, z = s.heap := ⟨_, rfl⟩
  obtain ⟨locs, elo⟩ : ∃ z : List Loc, z = [] := ⟨_, rfl⟩
  rw [← eH, ← elo] at hI ⊢
  refine lv_iload_n hx hb dX5_airs_0 rfl (lv_at hl 1 rfl) ?_
  refine zt_callS (As := [.int p1]) (rest := []) ⟨hx, hb, hml, hown, hts⟩ (zm_isAisle l p1 _ hw) (va_cwS 1 hts (lw_S q3732 q3733 q113 q3734) rfl rfl rfl hdT_isAisle ⟨Nat.le_of_ble_eq_true rfl, Nat.le_of_ble_eq_true rfl⟩) rfl hl.1 rfl (lv_room (Nat.le_of_ble_eq_true rfl)) dX5_airs_1 ⟨Nat.le_refl _, Nat.le_refl _⟩ (fun r_1 hw => ?_)
  refine lv_if_eq (tgt := 17) hx hb dX5_airs_4 (by decide) (fun hc_2 => ?_) (fun hc_2 => ?_)
  · have hw := hw.1 hc_2
    refine lv_iconst (v := 2) hx hb dX5_airs_17 (by decide) ?_
    refine lv_goto (tgt := 28) hx hb dX5_airs_18 (by decide) ?_
    exact zt_iret hx hb hr hlk hI hw dX5_airs_28
  · have hw := hw.2 hc_2
    refine lv_iload_n hx hb dX5_airs_7 rfl (lv_at hl 2 rfl) ?_
    refine lv_iconst (v := 0) hx hb dX5_airs_8 (by decide) ?_
    refine lv_bipush (v := 9) hx hb dX5_airs_9 (by decide) ?_
    refine zt_callS (As := [.int p2, .int (0 : Int32), .int (9 : Int32)]) (rest := []) ⟨hx, hb, hml, hown, hts⟩ (zm_in l p2 (0 : Int32) (9 : Int32) _ hw) (va_cwS 3 hts (lw_S q3693 q3694 q113 q3695) rfl rfl rfl hdT_in ⟨Nat.le_of_ble_eq_true rfl, Nat.le_of_ble_eq_true rfl⟩) rfl hl.1 rfl (lv_room (Nat.le_of_ble_eq_true rfl)) dX5_airs_11 ⟨Nat.le_refl _, Nat.le_refl _⟩ (fun r_3 hw => ?_)
    refine lv_if_ne (tgt := 21) hx hb dX5_airs_14 (by decide) (fun hc_4 => ?_) (fun hc_4 => ?_)
    · have hw := hw.1 hc_4
      refine lv_aload_n hx hb dX5_airs_21 rfl (lv_at hl 0 rfl) ?_
      refine lv_iload_n hx hb dX5_airs_22 rfl (lv_at hl 1 rfl) ?_
      refine lv_iconst (v := 0) hx hb dX5_airs_23 (by decide) ?_
      refine lv_iload_n hx hb dX5_airs_24 rfl (lv_at hl 2 rfl) ?_
      refine zt_calli (As := [.int p1, .int (0 : Int32), .int p2]) (rest := []) ⟨hx, hb, hml, hown, hts⟩ hI (zm_sets l g p1 (0 : Int32) p2 S _ hw) (cwV 3 hts (lw_V q3812 q3814 qs57 q113 q3815) rfl rfl rfl hdT_sets ⟨Nat.le_of_ble_eq_true rfl, Nat.le_of_ble_eq_true rfl⟩) rfl hl.1 rfl (lv_room (Nat.le_of_ble_eq_true rfl)) dX5_airs_25 ⟨Nat.le_refl _, Nat.le_refl _⟩ (fun r_6 S_5 H locs hw hI => ?_)
      exact zt_iret hx hb hr hlk hI hw dX5_airs_28
    · have hw := hw.2 hc_4
      refine lv_iconst (v := 2) hx hb dX5_airs_17 (by decide) ?_
      refine lv_goto (tgt := 28) hx hb dX5_airs_18 (by decide) ?_
      exact zt_iret hx hb hr hlk hI hw dX5_airs_28
theorem hdT_airs : yX5_airs.cls = RX5 ∧ yX5_airs.cls ≠ "java/lang/invoke/MethodHandle" ∧ yX5_airs.cls ≠ "java/lang/invoke/VarHandle" ∧ (parseMethodDescriptor yX5_airs.desc).map (fun d => d.parameters.length) = some 2 := by decide +kernel
def zw_air (p1 : Int32) (p2 : Int32) (S : zt_S) (post : Int32 → zt_S → Prop) : Prop :=
  zw_begins S (fun (S_1 : zt_S) => zw_airs p1 p2 S_1 (fun (r_3 : Int32) (S_2 : zt_S) => zw_ends r_3 (0 : Int32) (1 : Int32) (0 : Int32) S_2 (fun (r_5 : Int32) (S_4 : zt_S) => post r_5 S_4)))
set_option maxHeartbeats 4000000 in
theorem zm_air (l : Launch) (g : zt_G) (p1 : Int32) (p2 : Int32) (S : zt_S) (post : Int32 → zt_S → Prop) (hw : zw_air p1 p2 S post) : Met l yX5_air (ws_ yX5_air cX5_air 3 (some .int)) ({ frames := 3, cells := 0, slots := 0, locals := 68 } : Room) (va_Pc (.ref g.2.1 :: [.int p1, .int p2]) (zt_B g S)) (va_Qi post (zt_B g) (zt_A g)) 0 0 (zt_A g) := by
  refine zt_met (by decide) rfl (Nat.le_of_ble_eq_true rfl) (fun p e s m below meth c ls hC hI hl => ?_)
  generalize (Value.ref g.2.1 :: ([.int p1, .int p2] : List Value)).toArray = args at hC ⊢
  obtain ⟨hx, hb, hml, hown, hts, hr, hlk⟩ := hC
  have hl : lv_has ls 3 [(0, .ref g.2.1), (1, .int p1), (2, .int p2)] := hl
  unfold zw_air at hw
  obtain ⟨H, eH⟩ : ∃ z, z = s.heap := ⟨_, rfl⟩
  obtain ⟨locs, elo⟩ : ∃ z : List Loc, z = [] := ⟨_, rfl⟩
  rw [← eH, ← elo] at hI ⊢
  refine lv_aload_n hx hb dX5_air_0 rfl (lv_at hl 0 rfl) ?_
  refine zt_callv (As := []) (rest := []) ⟨hx, hb, hml, hown, hts⟩ hI (zm_begins l g S _ hw) (cwV 0 hts (lw_V q3700 q3702 qs39 q113 q3703) rfl rfl rfl hdT_begins ⟨Nat.le_of_ble_eq_true rfl, Nat.le_of_ble_eq_true rfl⟩) rfl hl.1 rfl (lv_room (Nat.le_of_ble_eq_true rfl)) dX5_air_1 ⟨Nat.le_refl _, Nat.le_refl _⟩ (fun S_1 H locs hw hI => ?_)
  refine lv_aload_n hx hb dX5_air_4 rfl (lv_at hl 0 rfl) ?_
  refine lv_aload_n hx hb dX5_air_5 rfl (lv_at hl 0 rfl) ?_
  refine lv_iload_n hx hb dX5_air_6 rfl (lv_at hl 1 rfl) ?_
  refine lv_iload_n hx hb dX5_air_7 rfl (lv_at hl 2 rfl) ?_
  refine zt_calli (As := [.int p1, .int p2]) (rest := [.ref g.2.1]) ⟨hx, hb, hml, hown, hts⟩ hI (zm_airs l g p1 p2 S_1 _ hw) (cwV 2 hts (lw_V q3808 q3810 qs56 q113 q3811) rfl rfl rfl hdT_airs ⟨Nat.le_of_ble_eq_true rfl, Nat.le_of_ble_eq_true rfl⟩) rfl hl.1 rfl (lv_room (Nat.le_of_ble_eq_true rfl)) dX5_air_8 ⟨Nat.le_refl _, Nat.le_refl _⟩ (fun r_3 S_2 H locs hw hI => ?_)
  refine lv_iconst (v := 0) hx hb dX5_air_11 (by decide) ?_
  refine lv_iconst (v := 1) hx hb dX5_air_12 (by decide) ?_
  refine lv_iconst (v := 0) hx hb dX5_air_13 (by decide) ?_
  refine zt_calli (As := [.int r_3, .int (0 : Int32), .int (1 : Int32), .int (0 : Int32)]) (rest := []) ⟨hx, hb, hml, hown, hts⟩ hI (zm_ends l g r_3 (0 : Int32) (1 : Int32) (0 : Int32) S_2 _ hw) (cwV 4 hts (lw_V q3735 q3737 qs46 q113 q3738) rfl rfl rfl hdT_ends ⟨Nat.le_of_ble_eq_true rfl, Nat.le_of_ble_eq_true rfl⟩) rfl hl.1 rfl (lv_room (Nat.le_of_ble_eq_true rfl)) dX5_air_14 ⟨Nat.le_refl _, Nat.le_refl _⟩ (fun r_5 S_4 H locs hw hI => ?_)
  exact zt_iret hx hb hr hlk hI hw dX5_air_17
theorem hdT_air : yX5_air.cls = RX5 ∧ yX5_air.cls ≠ "java/lang/invoke/MethodHandle" ∧ yX5_air.cls ≠ "java/lang/invoke/VarHandle" ∧ (parseMethodDescriptor yX5_air.desc).map (fun d => d.parameters.length) = some 2 := by decide +kernel
def zw_least (p0 : Int32) (p1 : Int32) (post : Int32 → Prop) : Prop :=
  (p1 ≤ p0 → (post p1)) ∧ (¬ p1 ≤ p0 → (post p0))
set_option maxHeartbeats 4000000 in
theorem zm_least (l : Launch) (p0 : Int32) (p1 : Int32) (post : Int32 → Prop) (hw : zw_least p0 p1 post) : Met l yX5_least (ws_ yX5_least cX5_least 2 (some .int)) ({ frames := 0, cells := 0, slots := 0, locals := 0 } : Room) (va_Pc [.int p0, .int p1] (fun _ => True)) (vp_Si post) 0 0 (fun _ => False) := by
  refine zt_metS (by decide) rfl (Nat.le_of_ble_eq_true rfl) (fun p e s m below meth c ls hC hl => ?_)
  generalize (([.int p0, .int p1] : List Value)).toArray = args at hC ⊢
  obtain ⟨hx, hb, hml, hown, hts, hr, hlk⟩ := hC
  have hl : lv_has ls 2 [(0, .int p0), (1, .int p1)] := hl
  unfold zw_least at hw
  refine lv_iload_n hx hb dX5_least_0 rfl (lv_at hl 0 rfl) ?_
  refine lv_iload_n hx hb dX5_least_1 rfl (lv_at hl 1 rfl) ?_
  refine lv_icmp_ge (tgt := 9) hx hb dX5_least_2 (by decide) (fun hc_1 => ?_) (fun hc_1 => ?_)
  · have hw := hw.1 hc_1
    refine lv_iload_n hx hb dX5_least_9 rfl (lv_at hl 1 rfl) ?_
    exact zt_sret hx hb hr hlk rfl hw dX5_least_10
  · have hw := hw.2 hc_1
    refine lv_iload_n hx hb dX5_least_5 rfl (lv_at hl 0 rfl) ?_
    refine lv_goto (tgt := 10) hx hb dX5_least_6 (by decide) ?_
    exact zt_sret hx hb hr hlk rfl hw dX5_least_10
theorem hdT_least : yX5_least.cls ≠ "java/lang/invoke/MethodHandle" ∧ yX5_least.cls ≠ "java/lang/invoke/VarHandle" ∧ (parseMethodDescriptor yX5_least.desc).map (fun d => d.parameters.length) = some 2 := by decide +kernel
def zw_comes (p1 : Int32) (p2 : Int32) (S : zt_S) (post : Int32 → zt_S → Prop) : Prop :=
  zw_isAisle p1 (fun (r_1 : Int32) => (r_1 = (0 : Int32) → (post (2 : Int32) S)) ∧ (¬ r_1 = (0 : Int32) → (zw_in p2 (1 : Int32) (40 : Int32) (fun (r_3 : Int32) => (¬ r_3 = (0 : Int32) → (zw_a p1 (1 : Int32) S (fun (r_6 : Int32) (S_5 : zt_S) => zw_least (40 : Int32) (r_6 + p2) (fun (r_7 : Int32) => zw_setAisle p1 (1 : Int32) r_7 S_5 (fun (S_8 : zt_S) => zw_a p1 (1 : Int32) S_8 (fun (r_10 : Int32) (S_9 : zt_S) => ∀ S_11 : zt_S, S_11 = zt_us S_9 0 4 r_10 → (post (0 : Int32) S_11))))))) ∧ (r_3 = (0 : Int32) → (post (2 : Int32) S))))))
set_option maxHeartbeats 4000000 in
theorem zm_comes (l : Launch) (g : zt_G) (p1 : Int32) (p2 : Int32) (S : zt_S) (post : Int32 → zt_S → Prop) (hw : zw_comes p1 p2 S post) : Met l yX5_comes (ws_ yX5_comes cX5_comes 3 (some .int)) ({ frames := 2, cells := 0, slots := 0, locals := 42 } : Room) (va_Pc (.ref g.2.1 :: [.int p1, .int p2]) (zt_B g S)) (va_Qi post (zt_B g) (zt_A g)) 0 0 (zt_A g) := by
  refine zt_met (by decide) rfl (Nat.le_of_ble_eq_true rfl) (fun p e s m below meth c ls hC hI hl => ?_)
  generalize (Value.ref g.2.1 :: ([.int p1, .int p2] : List Value)).toArray = args at hC ⊢
  obtain ⟨hx, hb, hml, hown, hts, hr, hlk⟩ := hC
  have hl : lv_has ls 3 [(0, .ref g.2.1), (1, .int p1), (2, .int p2)] := hl
  unfold zw_comes at hw
  obtain ⟨H, eH⟩ : ∃ z, z = s.heap := ⟨_, rfl⟩
  obtain ⟨locs, elo⟩ : ∃ z : List Loc, z = [] := ⟨_, rfl⟩
  rw [← eH, ← elo] at hI ⊢
  refine lv_iload_n hx hb dX5_comes_0 rfl (lv_at hl 1 rfl) ?_
  refine zt_callS (As := [.int p1]) (rest := []) ⟨hx, hb, hml, hown, hts⟩ (zm_isAisle l p1 _ hw) (va_cwS 1 hts (lw_S q3732 q3733 q113 q3734) rfl rfl rfl hdT_isAisle ⟨Nat.le_of_ble_eq_true rfl, Nat.le_of_ble_eq_true rfl⟩) rfl hl.1 rfl (lv_room (Nat.le_of_ble_eq_true rfl)) dX5_comes_1 ⟨Nat.le_refl _, Nat.le_refl _⟩ (fun r_1 hw => ?_)
  refine lv_if_eq (tgt := 17) hx hb dX5_comes_4 (by decide) (fun hc_2 => ?_) (fun hc_2 => ?_)
  · have hw := hw.1 hc_2
    refine lv_iconst (v := 2) hx hb dX5_comes_17 (by decide) ?_
    exact zt_iret hx hb hr hlk hI hw dX5_comes_18
  · have hw := hw.2 hc_2
    refine lv_iload_n hx hb dX5_comes_7 rfl (lv_at hl 2 rfl) ?_
    refine lv_iconst (v := 1) hx hb dX5_comes_8 (by decide) ?_
    refine lv_bipush (v := 40) hx hb dX5_comes_9 (by decide) ?_
    refine zt_callS (As := [.int p2, .int (1 : Int32), .int (40 : Int32)]) (rest := []) ⟨hx, hb, hml, hown, hts⟩ (zm_in l p2 (1 : Int32) (40 : Int32) _ hw) (va_cwS 3 hts (lw_S q3693 q3694 q113 q3695) rfl rfl rfl hdT_in ⟨Nat.le_of_ble_eq_true rfl, Nat.le_of_ble_eq_true rfl⟩) rfl hl.1 rfl (lv_room (Nat.le_of_ble_eq_true rfl)) dX5_comes_11 ⟨Nat.le_refl _, Nat.le_refl _⟩ (fun r_3 hw => ?_)
    refine lv_if_ne (tgt := 19) hx hb dX5_comes_14 (by decide) (fun hc_4 => ?_) (fun hc_4 => ?_)
    · have hw := hw.1 hc_4
      refine lv_aload_n hx hb dX5_comes_19 rfl (lv_at hl 0 rfl) ?_
      refine lv_iload_n hx hb dX5_comes_20 rfl (lv_at hl 1 rfl) ?_
      refine lv_iconst (v := 1) hx hb dX5_comes_21 (by decide) ?_
      refine lv_bipush (v := 40) hx hb dX5_comes_22 (by decide) ?_
      refine lv_aload_n hx hb dX5_comes_24 rfl (lv_at hl 0 rfl) ?_
      refine lv_iload_n hx hb dX5_comes_25 rfl (lv_at hl 1 rfl) ?_
      refine lv_iconst (v := 1) hx hb dX5_comes_26 (by decide) ?_
      refine zt_calli (As := [.int p1, .int (1 : Int32)]) (rest := [.int (40 : Int32), .int (1 : Int32), .int p1, .ref g.2.1]) ⟨hx, hb, hml, hown, hts⟩ hI (zm_a l g p1 (1 : Int32) S _ hw) (cwV 2 hts (lw_V q3797 q3799 qs55 q113 q3800) rfl rfl rfl hdT_a ⟨Nat.le_of_ble_eq_true rfl, Nat.le_of_ble_eq_true rfl⟩) rfl hl.1 rfl (lv_room (Nat.le_of_ble_eq_true rfl)) dX5_comes_27 ⟨Nat.le_refl _, Nat.le_refl _⟩ (fun r_6 S_5 H locs hw hI => ?_)
      refine lv_iload_n hx hb dX5_comes_30 rfl (lv_at hl 2 rfl) ?_
      refine lv_iadd hx hb dX5_comes_31 ?_
      refine zt_callS (As := [.int (40 : Int32), .int (r_6 + p2)]) (rest := [.int (1 : Int32), .int p1, .ref g.2.1]) ⟨hx, hb, hml, hown, hts⟩ (zm_least l (40 : Int32) (r_6 + p2) _ hw) (va_cwS 2 hts (lw_S q3828 q3829 q113 q3830) rfl rfl rfl hdT_least ⟨Nat.le_of_ble_eq_true rfl, Nat.le_of_ble_eq_true rfl⟩) rfl hl.1 rfl (lv_room (Nat.le_of_ble_eq_true rfl)) dX5_comes_32 ⟨Nat.le_refl _, Nat.le_refl _⟩ (fun r_7 hw => ?_)
      refine zt_callv (As := [.int p1, .int (1 : Int32), .int r_7]) (rest := []) ⟨hx, hb, hml, hown, hts⟩ hI (zm_setAisle l g p1 (1 : Int32) r_7 S_5 _ hw) (cwV 3 hts (lw_V q3816 q3818 qs58 q113 q3819) rfl rfl rfl hdT_setAisle ⟨Nat.le_of_ble_eq_true rfl, Nat.le_of_ble_eq_true rfl⟩) rfl hl.1 rfl (lv_room (Nat.le_of_ble_eq_true rfl)) dX5_comes_35 ⟨Nat.le_refl _, Nat.le_refl _⟩ (fun S_8 H locs hw hI => ?_)
      refine lv_aload_n hx hb dX5_comes_38 rfl (lv_at hl 0 rfl) ?_
      refine lv_aload_n hx hb dX5_comes_39 rfl (lv_at hl 0 rfl) ?_
      refine lv_iload_n hx hb dX5_comes_40 rfl (lv_at hl 1 rfl) ?_
      refine lv_iconst (v := 1) hx hb dX5_comes_41 (by decide) ?_
      refine zt_calli (As := [.int p1, .int (1 : Int32)]) (rest := [.ref g.2.1]) ⟨hx, hb, hml, hown, hts⟩ hI (zm_a l g p1 (1 : Int32) S_8 _ hw) (cwV 2 hts (lw_V q3797 q3799 qs55 q113 q3800) rfl rfl rfl hdT_a ⟨Nat.le_of_ble_eq_true rfl, Nat.le_of_ble_eq_true rfl⟩) rfl hl.1 rfl (lv_room (Nat.le_of_ble_eq_true rfl)) dX5_comes_42 ⟨Nat.le_refl _, Nat.le_refl _⟩ (fun r_10 S_9 H locs hw hI => ?_)
      refine zt_put hx hb hts hown hI 4 (v := r_10) (ty := .int) (by decide) q3636 rfl rfl (by decide +kernel) rfl rfl rfl dX5_comes_45 (fun H locs hI => ?_)
      obtain ⟨S_11, eS_11⟩ : ∃ z, z = zt_us S_9 0 4 r_10 := ⟨_, rfl⟩
      rw [← eS_11] at hI
      have hw := hw S_11 eS_11
      refine lv_iconst (v := 0) hx hb dX5_comes_48 (by decide) ?_
      exact zt_iret hx hb hr hlk hI hw dX5_comes_49
    · have hw := hw.2 hc_4
      refine lv_iconst (v := 2) hx hb dX5_comes_17 (by decide) ?_
      exact zt_iret hx hb hr hlk hI hw dX5_comes_18
theorem hdT_comes : yX5_comes.cls = RX5 ∧ yX5_comes.cls ≠ "java/lang/invoke/MethodHandle" ∧ yX5_comes.cls ≠ "java/lang/invoke/VarHandle" ∧ (parseMethodDescriptor yX5_comes.desc).map (fun d => d.parameters.length) = some 2 := by decide +kernel
def zw_mice (p1 : Int32) (p2 : Int32) (S : zt_S) (post : Int32 → zt_S → Prop) : Prop :=
  zw_begins S (fun (S_1 : zt_S) => zw_comes p1 p2 S_1 (fun (r_3 : Int32) (S_2 : zt_S) => zw_ends r_3 (0 : Int32) (1 : Int32) (0 : Int32) S_2 (fun (r_5 : Int32) (S_4 : zt_S) => post r_5 S_4)))
set_option maxHeartbeats 4000000 in
theorem zm_mice (l : Launch) (g : zt_G) (p1 : Int32) (p2 : Int32) (S : zt_S) (post : Int32 → zt_S → Prop) (hw : zw_mice p1 p2 S post) : Met l yX5_mice (ws_ yX5_mice cX5_mice 3 (some .int)) ({ frames := 3, cells := 0, slots := 0, locals := 68 } : Room) (va_Pc (.ref g.2.1 :: [.int p1, .int p2]) (zt_B g S)) (va_Qi post (zt_B g) (zt_A g)) 0 0 (zt_A g) := by
  refine zt_met (by decide) rfl (Nat.le_of_ble_eq_true rfl) (fun p e s m below meth c ls hC hI hl => ?_)
  generalize (Value.ref g.2.1 :: ([.int p1, .int p2] : List Value)).toArray = args at hC ⊢
  obtain ⟨hx, hb, hml, hown, hts, hr, hlk⟩ := hC
  have hl : lv_has ls 3 [(0, .ref g.2.1), (1, .int p1), (2, .int p2)] := hl
  unfold zw_mice at hw
  obtain ⟨H, eH⟩ : ∃ z, z = s.heap := ⟨_, rfl⟩
  obtain ⟨locs, elo⟩ : ∃ z : List Loc, z = [] := ⟨_, rfl⟩
  rw [← eH, ← elo] at hI ⊢
  refine lv_aload_n hx hb dX5_mice_0 rfl (lv_at hl 0 rfl) ?_
  refine zt_callv (As := []) (rest := []) ⟨hx, hb, hml, hown, hts⟩ hI (zm_begins l g S _ hw) (cwV 0 hts (lw_V q3700 q3702 qs39 q113 q3703) rfl rfl rfl hdT_begins ⟨Nat.le_of_ble_eq_true rfl, Nat.le_of_ble_eq_true rfl⟩) rfl hl.1 rfl (lv_room (Nat.le_of_ble_eq_true rfl)) dX5_mice_1 ⟨Nat.le_refl _, Nat.le_refl _⟩ (fun S_1 H locs hw hI => ?_)
  refine lv_aload_n hx hb dX5_mice_4 rfl (lv_at hl 0 rfl) ?_
  refine lv_aload_n hx hb dX5_mice_5 rfl (lv_at hl 0 rfl) ?_
  refine lv_iload_n hx hb dX5_mice_6 rfl (lv_at hl 1 rfl) ?_
  refine lv_iload_n hx hb dX5_mice_7 rfl (lv_at hl 2 rfl) ?_
  refine zt_calli (As := [.int p1, .int p2]) (rest := [.ref g.2.1]) ⟨hx, hb, hml, hown, hts⟩ hI (zm_comes l g p1 p2 S_1 _ hw) (cwV 2 hts (lw_V q3824 q3826 qs59 q113 q3827) rfl rfl rfl hdT_comes ⟨Nat.le_of_ble_eq_true rfl, Nat.le_of_ble_eq_true rfl⟩) rfl hl.1 rfl (lv_room (Nat.le_of_ble_eq_true rfl)) dX5_mice_8 ⟨Nat.le_refl _, Nat.le_refl _⟩ (fun r_3 S_2 H locs hw hI => ?_)
  refine lv_iconst (v := 0) hx hb dX5_mice_11 (by decide) ?_
  refine lv_iconst (v := 1) hx hb dX5_mice_12 (by decide) ?_
  refine lv_iconst (v := 0) hx hb dX5_mice_13 (by decide) ?_
  refine zt_calli (As := [.int r_3, .int (0 : Int32), .int (1 : Int32), .int (0 : Int32)]) (rest := []) ⟨hx, hb, hml, hown, hts⟩ hI (zm_ends l g r_3 (0 : Int32) (1 : Int32) (0 : Int32) S_2 _ hw) (cwV 4 hts (lw_V q3735 q3737 qs46 q113 q3738) rfl rfl rfl hdT_ends ⟨Nat.le_of_ble_eq_true rfl, Nat.le_of_ble_eq_true rfl⟩) rfl hl.1 rfl (lv_room (Nat.le_of_ble_eq_true rfl)) dX5_mice_14 ⟨Nat.le_refl _, Nat.le_refl _⟩ (fun r_5 S_4 H locs hw hI => ?_)
  exact zt_iret hx hb hr hlk hI hw dX5_mice_17
theorem hdT_mice : yX5_mice.cls = RX5 ∧ yX5_mice.cls ≠ "java/lang/invoke/MethodHandle" ∧ yX5_mice.cls ≠ "java/lang/invoke/VarHandle" ∧ (parseMethodDescriptor yX5_mice.desc).map (fun d => d.parameters.length) = some 2 := by decide +kernel
def zw_setsTraps (p1 : Int32) (p2 : Int32) (S : zt_S) (post : Int32 → zt_S → Prop) : Prop :=
  zw_isAisle p1 (fun (r_1 : Int32) => (r_1 = (0 : Int32) → (post (2 : Int32) S)) ∧ (¬ r_1 = (0 : Int32) → (zw_in p2 (0 : Int32) (5 : Int32) (fun (r_3 : Int32) => (¬ r_3 = (0 : Int32) → (zw_sets p1 (2 : Int32) p2 S (fun (r_6 : Int32) (S_5 : zt_S) => post r_6 S_5))) ∧ (r_3 = (0 : Int32) → (post (2 : Int32) S))))))
set_option maxHeartbeats 4000000 in
theorem zm_setsTraps (l : Launch) (g : zt_G) (p1 : Int32) (p2 : Int32) (S : zt_S) (post : Int32 → zt_S → Prop) (hw : zw_setsTraps p1 p2 S post) : Met l yX5_setsTraps (ws_ yX5_setsTraps cX5_setsTraps 3 (some .int)) ({ frames := 2, cells := 0, slots := 0, locals := 46 } : Room) (va_Pc (.ref g.2.1 :: [.int p1, .int p2]) (zt_B g S)) (va_Qi post (zt_B g) (zt_A g)) 0 0 (zt_A g) := by
  refine zt_met (by decide) rfl (Nat.le_of_ble_eq_true rfl) (fun p e s m below meth c ls hC hI hl => ?_)
  generalize (Value.ref g.2.1 :: ([.int p1, .int p2] : List Value)).toArray = args at hC ⊢
  obtain ⟨hx, hb, hml, hown, hts, hr, hlk⟩ := hC
  have hl : lv_has ls 3 [(0, .ref g.2.1), (1, .int p1), (2, .int p2)] := hl
  unfold zw_setsTraps at hw
  obtain ⟨H, eH⟩ : ∃ z, z = s.heap := ⟨_, rfl⟩
  obtain ⟨locs, elo⟩ : ∃ z : List Loc, z = [] := ⟨_, rfl⟩
  rw [← eH, ← elo] at hI ⊢
  refine lv_iload_n hx hb dX5_setsTraps_0 rfl (lv_at hl 1 rfl) ?_
  refine zt_callS (As := [.int p1]) (rest := []) ⟨hx, hb, hml, hown, hts⟩ (zm_isAisle l p1 _ hw) (va_cwS 1 hts (lw_S q3732 q3733 q113 q3734) rfl rfl rfl hdT_isAisle ⟨Nat.le_of_ble_eq_true rfl, Nat.le_of_ble_eq_true rfl⟩) rfl hl.1 rfl (lv_room (Nat.le_of_ble_eq_true rfl)) dX5_setsTraps_1 ⟨Nat.le_refl _, Nat.le_refl _⟩ (fun r_1 hw => ?_)
  refine lv_if_eq (tgt := 16) hx hb dX5_setsTraps_4 (by decide) (fun hc_2 => ?_) (fun hc_2 => ?_)
  · have hw := hw.1 hc_2
    refine lv_iconst (v := 2) hx hb dX5_setsTraps_16 (by decide) ?_
    refine lv_goto (tgt := 27) hx hb dX5_setsTraps_17 (by decide) ?_
    exact zt_iret hx hb hr hlk hI hw dX5_setsTraps_27
  · have hw := hw.2 hc_2
    refine lv_iload_n hx hb dX5_setsTraps_7 rfl (lv_at hl 2 rfl) ?_
    refine lv_iconst (v := 0) hx hb dX5_setsTraps_8 (by decide) ?_
    refine lv_iconst (v := 5) hx hb dX5_setsTraps_9 (by decide) ?_
    refine zt_callS (As := [.int p2, .int (0 : Int32), .int (5 : Int32)]) (rest := []) ⟨hx, hb, hml, hown, hts⟩ (zm_in l p2 (0 : Int32) (5 : Int32) _ hw) (va_cwS 3 hts (lw_S q3693 q3694 q113 q3695) rfl rfl rfl hdT_in ⟨Nat.le_of_ble_eq_true rfl, Nat.le_of_ble_eq_true rfl⟩) rfl hl.1 rfl (lv_room (Nat.le_of_ble_eq_true rfl)) dX5_setsTraps_10 ⟨Nat.le_refl _, Nat.le_refl _⟩ (fun r_3 hw => ?_)
    refine lv_if_ne (tgt := 20) hx hb dX5_setsTraps_13 (by decide) (fun hc_4 => ?_) (fun hc_4 => ?_)
    · have hw := hw.1 hc_4
      refine lv_aload_n hx hb dX5_setsTraps_20 rfl (lv_at hl 0 rfl) ?_
      refine lv_iload_n hx hb dX5_setsTraps_21 rfl (lv_at hl 1 rfl) ?_
      refine lv_iconst (v := 2) hx hb dX5_setsTraps_22 (by decide) ?_
      refine lv_iload_n hx hb dX5_setsTraps_23 rfl (lv_at hl 2 rfl) ?_
      refine zt_calli (As := [.int p1, .int (2 : Int32), .int p2]) (rest := []) ⟨hx, hb, hml, hown, hts⟩ hI (zm_sets l g p1 (2 : Int32) p2 S _ hw) (cwV 3 hts (lw_V q3812 q3814 qs57 q113 q3815) rfl rfl rfl hdT_sets ⟨Nat.le_of_ble_eq_true rfl, Nat.le_of_ble_eq_true rfl⟩) rfl hl.1 rfl (lv_room (Nat.le_of_ble_eq_true rfl)) dX5_setsTraps_24 ⟨Nat.le_refl _, Nat.le_refl _⟩ (fun r_6 S_5 H locs hw hI => ?_)
      exact zt_iret hx hb hr hlk hI hw dX5_setsTraps_27
    · have hw := hw.2 hc_4
      refine lv_iconst (v := 2) hx hb dX5_setsTraps_16 (by decide) ?_
      refine lv_goto (tgt := 27) hx hb dX5_setsTraps_17 (by decide) ?_
      exact zt_iret hx hb hr hlk hI hw dX5_setsTraps_27
theorem hdT_setsTraps : yX5_setsTraps.cls = RX5 ∧ yX5_setsTraps.cls ≠ "java/lang/invoke/MethodHandle" ∧ yX5_setsTraps.cls ≠ "java/lang/invoke/VarHandle" ∧ (parseMethodDescriptor yX5_setsTraps.desc).map (fun d => d.parameters.length) = some 2 := by decide +kernel
def zw_trap (p1 : Int32) (p2 : Int32) (S : zt_S) (post : Int32 → zt_S → Prop) : Prop :=
  zw_begins S (fun (S_1 : zt_S) => zw_setsTraps p1 p2 S_1 (fun (r_3 : Int32) (S_2 : zt_S) => zw_ends r_3 (0 : Int32) (1 : Int32) (0 : Int32) S_2 (fun (r_5 : Int32) (S_4 : zt_S) => post r_5 S_4)))
set_option maxHeartbeats 4000000 in
theorem zm_trap (l : Launch) (g : zt_G) (p1 : Int32) (p2 : Int32) (S : zt_S) (post : Int32 → zt_S → Prop) (hw : zw_trap p1 p2 S post) : Met l yX5_trap (ws_ yX5_trap cX5_trap 3 (some .int)) ({ frames := 3, cells := 0, slots := 0, locals := 68 } : Room) (va_Pc (.ref g.2.1 :: [.int p1, .int p2]) (zt_B g S)) (va_Qi post (zt_B g) (zt_A g)) 0 0 (zt_A g) := by
  refine zt_met (by decide) rfl (Nat.le_of_ble_eq_true rfl) (fun p e s m below meth c ls hC hI hl => ?_)
  generalize (Value.ref g.2.1 :: ([.int p1, .int p2] : List Value)).toArray = args at hC ⊢
  obtain ⟨hx, hb, hml, hown, hts, hr, hlk⟩ := hC
  have hl : lv_has ls 3 [(0, .ref g.2.1), (1, .int p1), (2, .int p2)] := hl
  unfold zw_trap at hw
  obtain ⟨H, eH⟩ : ∃ z, z = s.heap := ⟨_, rfl⟩
  obtain ⟨locs, elo⟩ : ∃ z : List Loc, z = [] := ⟨_, rfl⟩
  rw [← eH, ← elo] at hI ⊢
  refine lv_aload_n hx hb dX5_trap_0 rfl (lv_at hl 0 rfl) ?_
  refine zt_callv (As := []) (rest := []) ⟨hx, hb, hml, hown, hts⟩ hI (zm_begins l g S _ hw) (cwV 0 hts (lw_V q3700 q3702 qs39 q113 q3703) rfl rfl rfl hdT_begins ⟨Nat.le_of_ble_eq_true rfl, Nat.le_of_ble_eq_true rfl⟩) rfl hl.1 rfl (lv_room (Nat.le_of_ble_eq_true rfl)) dX5_trap_1 ⟨Nat.le_refl _, Nat.le_refl _⟩ (fun S_1 H locs hw hI => ?_)
  refine lv_aload_n hx hb dX5_trap_4 rfl (lv_at hl 0 rfl) ?_
  refine lv_aload_n hx hb dX5_trap_5 rfl (lv_at hl 0 rfl) ?_
  refine lv_iload_n hx hb dX5_trap_6 rfl (lv_at hl 1 rfl) ?_
  refine lv_iload_n hx hb dX5_trap_7 rfl (lv_at hl 2 rfl) ?_
  refine zt_calli (As := [.int p1, .int p2]) (rest := [.ref g.2.1]) ⟨hx, hb, hml, hown, hts⟩ hI (zm_setsTraps l g p1 p2 S_1 _ hw) (cwV 2 hts (lw_V q3835 q3837 qs60 q113 q3838) rfl rfl rfl hdT_setsTraps ⟨Nat.le_of_ble_eq_true rfl, Nat.le_of_ble_eq_true rfl⟩) rfl hl.1 rfl (lv_room (Nat.le_of_ble_eq_true rfl)) dX5_trap_8 ⟨Nat.le_refl _, Nat.le_refl _⟩ (fun r_3 S_2 H locs hw hI => ?_)
  refine lv_iconst (v := 0) hx hb dX5_trap_11 (by decide) ?_
  refine lv_iconst (v := 1) hx hb dX5_trap_12 (by decide) ?_
  refine lv_iconst (v := 0) hx hb dX5_trap_13 (by decide) ?_
  refine zt_calli (As := [.int r_3, .int (0 : Int32), .int (1 : Int32), .int (0 : Int32)]) (rest := []) ⟨hx, hb, hml, hown, hts⟩ hI (zm_ends l g r_3 (0 : Int32) (1 : Int32) (0 : Int32) S_2 _ hw) (cwV 4 hts (lw_V q3735 q3737 qs46 q113 q3738) rfl rfl rfl hdT_ends ⟨Nat.le_of_ble_eq_true rfl, Nat.le_of_ble_eq_true rfl⟩) rfl hl.1 rfl (lv_room (Nat.le_of_ble_eq_true rfl)) dX5_trap_14 ⟨Nat.le_refl _, Nat.le_refl _⟩ (fun r_5 S_4 H locs hw hI => ?_)
  exact zt_iret hx hb hr hlk hI hw dX5_trap_17
theorem hdT_trap : yX5_trap.cls = RX5 ∧ yX5_trap.cls ≠ "java/lang/invoke/MethodHandle" ∧ yX5_trap.cls ≠ "java/lang/invoke/VarHandle" ∧ (parseMethodDescriptor yX5_trap.desc).map (fun d => d.parameters.length) = some 2 := by decide +kernel
def zw_reamsAt (p1 : Int32) (p2 : Int32) (S : zt_S) (post : Int32 → zt_S → Prop) : Prop :=
  ∃ (In_1 : Int32 → Int32 → zt_S → Prop) (mu_1 : Int32 → Int32 → zt_S → Nat), In_1 (0 : Int32) (0 : Int32) S ∧ ∀ (x3_1 : Int32) (x4_1 : Int32) (S_1 : zt_S), In_1 x3_1 x4_1 S_1 → (vp_in (5 : Int32) 3810 ∧ ((S_1 1 (5 : Int32).toNatClampNeg ≤ x4_1 → (post x3_1 S_1)) ∧ (¬ S_1 1 (5 : Int32).toNatClampNeg ≤ x4_1 → (zw_r x4_1 (4 : Int32) S_1 (fun (r_4 : Int32) (S_3 : zt_S) => (r_4 = p1 → ((p2 = (0 : Int32) → (In_1 (x3_1 + (1 : Int32)) (x4_1 + (1 : Int32)) S_3 ∧ mu_1 (x3_1 + (1 : Int32)) (x4_1 + (1 : Int32)) S_3 < mu_1 x3_1 x4_1 S_1)) ∧ (¬ p2 = (0 : Int32) → (zw_r x4_1 (2 : Int32) S_3 (fun (r_8 : Int32) (S_7 : zt_S) => In_1 (x3_1 + r_8) (x4_1 + (1 : Int32)) S_7 ∧ mu_1 (x3_1 + r_8) (x4_1 + (1 : Int32)) S_7 < mu_1 x3_1 x4_1 S_1))))) ∧ (¬ r_4 = p1 → (In_1 (x3_1 + (0 : Int32)) (x4_1 + (1 : Int32)) S_3 ∧ mu_1 (x3_1 + (0 : Int32)) (x4_1 + (1 : Int32)) S_3 < mu_1 x3_1 x4_1 S_1)))))))
set_option maxHeartbeats 4000000 in
theorem zm_reamsAt (l : Launch) (g : zt_G) (p1 : Int32) (p2 : Int32) (S : zt_S) (post : Int32 → zt_S → Prop) (hw : zw_reamsAt p1 p2 S post) : Met l yX5_reamsAt (ws_ yX5_reamsAt cX5_reamsAt 5 (some .int)) ({ frames := 1, cells := 0, slots := 0, locals := 22 } : Room) (va_Pc (.ref g.2.1 :: [.int p1, .int p2]) (zt_B g S)) (va_Qi post (zt_B g) (zt_A g)) 0 0 (zt_A g) := by
  refine zt_met (by decide) rfl (Nat.le_of_ble_eq_true rfl) (fun p e s m below meth c ls hC hI hl => ?_)
  generalize (Value.ref g.2.1 :: ([.int p1, .int p2] : List Value)).toArray = args at hC ⊢
  obtain ⟨hx, hb, hml, hown, hts, hr, hlk⟩ := hC
  have hl : lv_has ls 5 [(0, .ref g.2.1), (1, .int p1), (2, .int p2)] := hl
  unfold zw_reamsAt at hw
  obtain ⟨H, eH⟩ : ∃ z, z = s.heap := ⟨_, rfl⟩
  obtain ⟨locs, elo⟩ : ∃ z : List Loc, z = [] := ⟨_, rfl⟩
  rw [← eH, ← elo] at hI ⊢
  refine lv_iconst (v := 0) hx hb dX5_reamsAt_0 (by decide) ?_
  refine lv_istore_n (lv' := [(3, .int (0 : Int32)), (0, .ref g.2.1), (1, .int p1), (2, .int p2)]) hx hb dX5_reamsAt_1 rfl hl (by decide) rfl (fun ls hl => ?_)
  refine lv_iconst (v := 0) hx hb dX5_reamsAt_2 (by decide) ?_
  refine lv_istore (lv' := [(4, .int (0 : Int32)), (3, .int (0 : Int32)), (0, .ref g.2.1), (1, .int p1), (2, .int p2)]) hx hb dX5_reamsAt_3 hl (by decide) rfl (fun ls hl => ?_)
  obtain ⟨In_1, mu_1, h0_1, hw⟩ := hw
  have hL_1 : ∀ (n : Nat) (x3_1 : Int32) (x4_1 : Int32) (S_1 : zt_S) (H : Heap) (locs : List Loc) (ls : Array Slot), mu_1 x3_1 x4_1 S_1 < n → In_1 x3_1 x4_1 S_1 → zt_I g S_1 s H locs → lv_has ls 5 [(0, .ref g.2.1), (1, .int p1), (2, .int p2), (3, .int x3_1), (4, .int x4_1)] → W p l e ({ frames := 1, cells := 0, slots := 0, locals := 22 } : Room) s m args below meth c H locs 0 0 (MQ below (va_Qi post (zt_B g) (zt_A g)) args s 0 0 (zt_A g)) (F0 m 5 ls []) := by
    intro n
    induction n with
    | zero => intro x3_1 x4_1 S_1 H locs ls hn _ _ _; exact absurd hn (Nat.not_lt_zero _)
    | succ n ih_1 =>
      intro x3_1 x4_1 S_1 H locs ls hn_1 hi_1 hI hl
      have hw := hw x3_1 x4_1 S_1 hi_1
      refine lv_iload hx hb dX5_reamsAt_5 (lv_at hl 4 rfl) ?_
      refine lv_aload_n hx hb dX5_reamsAt_7 rfl (lv_at hl 0 rfl) ?_
      refine zt_get hx hb hts hown hI 1 (v := .ref g.2.2.1) (by decide) q3633 rfl rfl dX5_reamsAt_8 ?_
      refine lv_iconst (v := 5) hx hb dX5_reamsAt_11 (by decide) ?_
      refine zt_ld1 hx hb hI hw.1 dX5_reamsAt_12 ?_
      have hw := hw.2
      refine lv_icmp_ge (tgt := 55) hx hb dX5_reamsAt_13 (by decide) (fun hc_2 => ?_) (fun hc_2 => ?_)
      · have hw := hw.1 hc_2
        refine lv_iload_n hx hb dX5_reamsAt_55 rfl (lv_at hl 3 rfl) ?_
        exact zt_iret hx hb hr hlk hI hw dX5_reamsAt_56
      · have hw := hw.2 hc_2
        refine lv_iload_n hx hb dX5_reamsAt_16 rfl (lv_at hl 3 rfl) ?_
        refine lv_aload_n hx hb dX5_reamsAt_17 rfl (lv_at hl 0 rfl) ?_
        refine lv_iload hx hb dX5_reamsAt_18 (lv_at hl 4 rfl) ?_
        refine lv_iconst (v := 4) hx hb dX5_reamsAt_20 (by decide) ?_
        refine zt_calli (As := [.int x4_1, .int (4 : Int32)]) (rest := [.int x3_1]) ⟨hx, hb, hml, hown, hts⟩ hI (zm_r l g x4_1 (4 : Int32) S_1 _ hw) (cwV 2 hts (lw_V q3761 q3763 qs49 q113 q3764) rfl rfl rfl hdT_r ⟨Nat.le_of_ble_eq_true rfl, Nat.le_of_ble_eq_true rfl⟩) rfl hl.1 rfl (lv_room (Nat.le_of_ble_eq_true rfl)) dX5_reamsAt_21 ⟨Nat.le_refl _, Nat.le_refl _⟩ (fun r_4 S_3 H locs hw hI => ?_)
        refine lv_iload_n hx hb dX5_reamsAt_24 rfl (lv_at hl 1 rfl) ?_
        refine lv_icmp_eq (tgt := 32) hx hb dX5_reamsAt_25 (by decide) (fun hc_5 => ?_) (fun hc_5 => ?_)
        · have hw := hw.1 hc_5
          refine lv_iload_n hx hb dX5_reamsAt_32 rfl (lv_at hl 2 rfl) ?_
          refine lv_if_eq (tgt := 46) hx hb dX5_reamsAt_33 (by decide) (fun hc_6 => ?_) (fun hc_6 => ?_)
          · have hw := hw.1 hc_6
            refine lv_iconst (v := 1) hx hb dX5_reamsAt_46 (by decide) ?_
            refine lv_iadd hx hb dX5_reamsAt_47 ?_
            refine lv_istore_n (lv' := [(3, .int (x3_1 + (1 : Int32))), (0, .ref g.2.1), (1, .int p1), (2, .int p2), (4, .int x4_1)]) hx hb dX5_reamsAt_48 rfl hl (by decide) rfl (fun ls hl => ?_)
            refine lv_iinc (v := x4_1 + (1 : Int32)) (lv' := [(4, .int (x4_1 + (1 : Int32))), (3, .int (x3_1 + (1 : Int32))), (0, .ref g.2.1), (1, .int p1), (2, .int p2)]) hx hb dX5_reamsAt_49 hl (k := 4) rfl rfl (by decide) rfl (fun ls hl => ?_)
            refine lv_goto (tgt := 5) hx hb dX5_reamsAt_52 (by decide) ?_
            exact ih_1 _ _ _ H locs ls (Nat.lt_of_lt_of_le hw.2 (Nat.le_of_lt_succ hn_1)) hw.1 hI (lv_sub hl [2, 3, 4, 1, 0] rfl)
          · have hw := hw.2 hc_6
            refine lv_aload_n hx hb dX5_reamsAt_36 rfl (lv_at hl 0 rfl) ?_
            refine lv_iload hx hb dX5_reamsAt_37 (lv_at hl 4 rfl) ?_
            refine lv_iconst (v := 2) hx hb dX5_reamsAt_39 (by decide) ?_
            refine zt_calli (As := [.int x4_1, .int (2 : Int32)]) (rest := [.int x3_1]) ⟨hx, hb, hml, hown, hts⟩ hI (zm_r l g x4_1 (2 : Int32) S_3 _ hw) (cwV 2 hts (lw_V q3761 q3763 qs49 q113 q3764) rfl rfl rfl hdT_r ⟨Nat.le_of_ble_eq_true rfl, Nat.le_of_ble_eq_true rfl⟩) rfl hl.1 rfl (lv_room (Nat.le_of_ble_eq_true rfl)) dX5_reamsAt_40 ⟨Nat.le_refl _, Nat.le_refl _⟩ (fun r_8 S_7 H locs hw hI => ?_)
            refine lv_goto (tgt := 47) hx hb dX5_reamsAt_43 (by decide) ?_
            refine lv_iadd hx hb dX5_reamsAt_47 ?_
            refine lv_istore_n (lv' := [(3, .int (x3_1 + r_8)), (0, .ref g.2.1), (1, .int p1), (2, .int p2), (4, .int x4_1)]) hx hb dX5_reamsAt_48 rfl hl (by decide) rfl (fun ls hl => ?_)
            refine lv_iinc (v := x4_1 + (1 : Int32)) (lv' := [(4, .int (x4_1 + (1 : Int32))), (3, .int (x3_1 + r_8)), (0, .ref g.2.1), (1, .int p1), (2, .int p2)]) hx hb dX5_reamsAt_49 hl (k := 4) rfl rfl (by decide) rfl (fun ls hl => ?_)
            refine lv_goto (tgt := 5) hx hb dX5_reamsAt_52 (by decide) ?_
            exact ih_1 _ _ _ H locs ls (Nat.lt_of_lt_of_le hw.2 (Nat.le_of_lt_succ hn_1)) hw.1 hI (lv_sub hl [2, 3, 4, 1, 0] rfl)
        · have hw := hw.2 hc_5
          refine lv_iconst (v := 0) hx hb dX5_reamsAt_28 (by decide) ?_
          refine lv_goto (tgt := 47) hx hb dX5_reamsAt_29 (by decide) ?_
          refine lv_iadd hx hb dX5_reamsAt_47 ?_
          refine lv_istore_n (lv' := [(3, .int (x3_1 + (0 : Int32))), (0, .ref g.2.1), (1, .int p1), (2, .int p2), (4, .int x4_1)]) hx hb dX5_reamsAt_48 rfl hl (by decide) rfl (fun ls hl => ?_)
          refine lv_iinc (v := x4_1 + (1 : Int32)) (lv' := [(4, .int (x4_1 + (1 : Int32))), (3, .int (x3_1 + (0 : Int32))), (0, .ref g.2.1), (1, .int p1), (2, .int p2)]) hx hb dX5_reamsAt_49 hl (k := 4) rfl rfl (by decide) rfl (fun ls hl => ?_)
          refine lv_goto (tgt := 5) hx hb dX5_reamsAt_52 (by decide) ?_
          exact ih_1 _ _ _ H locs ls (Nat.lt_of_lt_of_le hw.2 (Nat.le_of_lt_succ hn_1)) hw.1 hI (lv_sub hl [2, 3, 4, 1, 0] rfl)
  exact hL_1 _ _ _ _ H locs ls (Nat.lt_succ_self _) h0_1 hI (lv_sub hl [2, 3, 4, 1, 0] rfl)
theorem hdT_reamsAt : yX5_reamsAt.cls = RX5 ∧ yX5_reamsAt.cls ≠ "java/lang/invoke/MethodHandle" ∧ yX5_reamsAt.cls ≠ "java/lang/invoke/VarHandle" ∧ (parseMethodDescriptor yX5_reamsAt.desc).map (fun d => d.parameters.length) = some 2 := by decide +kernel
def zw_aisleOf_23 (post : Int32 → zt_S → Prop) (t0 : Int32) (v1 : Int32) (v2 : Int32) (S : zt_S) : Prop :=
  ∀ S_3 : zt_S, S_3 = zt_us S 0 0 t0 → ((S_3 0 0 = (0 : Int32) → ((v2 = (3 : Int32) → (zw_reamsAt v1 (0 : Int32) S_3 (fun (r_7 : Int32) (S_6 : zt_S) => post r_7 S_6))) ∧ (¬ v2 = (3 : Int32) → ((v2 = (4 : Int32) → (zw_reamsAt v1 (1 : Int32) S_3 (fun (r_10 : Int32) (S_9 : zt_S) => post r_10 S_9))) ∧ (¬ v2 = (4 : Int32) → ((v2 = (5 : Int32) → (zw_ladderAt v1 S_3 (fun (r_13 : Int32) (S_12 : zt_S) => post r_13 S_12))) ∧ (¬ v2 = (5 : Int32) → ((v2 = (6 : Int32) → (zw_a v1 (3 : Int32) S_3 (fun (r_16 : Int32) (S_15 : zt_S) => post r_16 S_15))) ∧ (¬ v2 = (6 : Int32) → ((v2 = (7 : Int32) → (zw_a v1 (4 : Int32) S_3 (fun (r_19 : Int32) (S_18 : zt_S) => post r_19 S_18))) ∧ (¬ v2 = (7 : Int32) → (zw_a v1 v2 S_3 (fun (r_21 : Int32) (S_20 : zt_S) => post r_21 S_20))))))))))))) ∧ (¬ S_3 0 0 = (0 : Int32) → (post (0 : Int32) S_3)))
set_option maxHeartbeats 4000000 in
theorem zj_aisleOf_23 {p : Program} {l : Launch} {e : Env} {s : State} {m : MethodId} {args : Array Value} {below : List Frame} {meth : Method} {c : Code} {H : Heap} {locs : List Loc} {ls : Array Slot} (g : zt_G) (post : Int32 → zt_S → Prop) (t0 : Int32) (v1 : Int32) (v2 : Int32) (S : zt_S) (hC : zt_C p s m args meth c cX5_aisleOf 3 (some .int)) (hw : zw_aisleOf_23 post t0 v1 v2 S) (hI : zt_I g S s H locs) (hl : lv_has ls 3 [(0, .ref g.2.1), (1, .int v1), (2, .int v2)]) : W p l e ({ frames := 2, cells := 0, slots := 0, locals := 46 } : Room) s m args below meth c H locs 0 0 (MQ below (va_Qi post (zt_B g) (zt_A g)) args s 0 0 (zt_A g)) (F0 m 23 ls [.int t0, .ref g.2.1]) := by
  obtain ⟨hx, hb, hml, hown, hts, hr, hlk⟩ := hC
  unfold zw_aisleOf_23 at hw
  refine zt_put hx hb hts hown hI 0 (v := t0) (ty := .int) (by decide) q3632 rfl rfl (by decide +kernel) rfl rfl rfl dX5_aisleOf_23 (fun H locs hI => ?_)
  obtain ⟨S_3, eS_3⟩ : ∃ z, z = zt_us S 0 0 t0 := ⟨_, rfl⟩
  rw [← eS_3] at hI
  have hw := hw S_3 eS_3
  refine lv_aload_n hx hb dX5_aisleOf_26 rfl (lv_at hl 0 rfl) ?_
  refine zt_get hx hb hts hown hI 0 (v := .int (S_3 0 0)) (by decide) q3632 rfl rfl dX5_aisleOf_27 ?_
  refine lv_if_eq (tgt := 35) hx hb dX5_aisleOf_30 (by decide) (fun hc_4 => ?_) (fun hc_4 => ?_)
  · have hw := hw.1 hc_4
    refine lv_iload_n hx hb dX5_aisleOf_35 rfl (lv_at hl 2 rfl) ?_
    by_cases hc_5 : v2 = (3 : Int32)
    · have hw := hw.1 hc_5
      refine lv_tableIn (tgt := 72) hx hb dX5_aisleOf_36 (by rw [hc_5]; decide) (by rw [hc_5]; decide) (off := 36) (by rw [hc_5]; rfl) (by decide) ?_
      refine lv_aload_n hx hb dX5_aisleOf_72 rfl (lv_at hl 0 rfl) ?_
      refine lv_iload_n hx hb dX5_aisleOf_73 rfl (lv_at hl 1 rfl) ?_
      refine lv_iconst (v := 0) hx hb dX5_aisleOf_74 (by decide) ?_
      refine zt_calli (As := [.int v1, .int (0 : Int32)]) (rest := []) ⟨hx, hb, hml, hown, hts⟩ hI (zm_reamsAt l g v1 (0 : Int32) S_3 _ hw) (cwV 2 hts (lw_V q3843 q3845 qs61 q113 q3846) rfl rfl rfl hdT_reamsAt ⟨Nat.le_of_ble_eq_true rfl, Nat.le_of_ble_eq_true rfl⟩) rfl hl.1 rfl (lv_room (Nat.le_of_ble_eq_true rfl)) dX5_aisleOf_75 ⟨Nat.le_refl _, Nat.le_refl _⟩ (fun r_7 S_6 H locs hw hI => ?_)
      exact zt_iret hx hb hr hlk hI hw dX5_aisleOf_78
    have hw := hw.2 hc_5
    by_cases hc_8 : v2 = (4 : Int32)
    · have hw := hw.1 hc_8
      refine lv_tableIn (tgt := 79) hx hb dX5_aisleOf_36 (by rw [hc_8]; decide) (by rw [hc_8]; decide) (off := 43) (by rw [hc_8]; rfl) (by decide) ?_
      refine lv_aload_n hx hb dX5_aisleOf_79 rfl (lv_at hl 0 rfl) ?_
      refine lv_iload_n hx hb dX5_aisleOf_80 rfl (lv_at hl 1 rfl) ?_
      refine lv_iconst (v := 1) hx hb dX5_aisleOf_81 (by decide) ?_
      refine zt_calli (As := [.int v1, .int (1 : Int32)]) (rest := []) ⟨hx, hb, hml, hown, hts⟩ hI (zm_reamsAt l g v1 (1 : Int32) S_3 _ hw) (cwV 2 hts (lw_V q3843 q3845 qs61 q113 q3846) rfl rfl rfl hdT_reamsAt ⟨Nat.le_of_ble_eq_true rfl, Nat.le_of_ble_eq_true rfl⟩) rfl hl.1 rfl (lv_room (Nat.le_of_ble_eq_true rfl)) dX5_aisleOf_82 ⟨Nat.le_refl _, Nat.le_refl _⟩ (fun r_10 S_9 H locs hw hI => ?_)
      exact zt_iret hx hb hr hlk hI hw dX5_aisleOf_85
    have hw := hw.2 hc_8
    by_cases hc_11 : v2 = (5 : Int32)
    · have hw := hw.1 hc_11
      refine lv_tableIn (tgt := 86) hx hb dX5_aisleOf_36 (by rw [hc_11]; decide) (by rw [hc_11]; decide) (off := 50) (by rw [hc_11]; rfl) (by decide) ?_
      refine lv_aload_n hx hb dX5_aisleOf_86 rfl (lv_at hl 0 rfl) ?_
      refine lv_iload_n hx hb dX5_aisleOf_87 rfl (lv_at hl 1 rfl) ?_
      refine zt_calli (As := [.int v1]) (rest := []) ⟨hx, hb, hml, hown, hts⟩ hI (zm_ladderAt l g v1 S_3 _ hw) (cwV 1 hts (lw_V q3708 q3710 qs41 q113 q3711) rfl rfl rfl hdT_ladderAt ⟨Nat.le_of_ble_eq_true rfl, Nat.le_of_ble_eq_true rfl⟩) rfl hl.1 rfl (lv_room (Nat.le_of_ble_eq_true rfl)) dX5_aisleOf_88 ⟨Nat.le_refl _, Nat.le_refl _⟩ (fun r_13 S_12 H locs hw hI => ?_)
      exact zt_iret hx hb hr hlk hI hw dX5_aisleOf_91
    have hw := hw.2 hc_11
    by_cases hc_14 : v2 = (6 : Int32)
    · have hw := hw.1 hc_14
      refine lv_tableIn (tgt := 92) hx hb dX5_aisleOf_36 (by rw [hc_14]; decide) (by rw [hc_14]; decide) (off := 56) (by rw [hc_14]; rfl) (by decide) ?_
      refine lv_aload_n hx hb dX5_aisleOf_92 rfl (lv_at hl 0 rfl) ?_
      refine lv_iload_n hx hb dX5_aisleOf_93 rfl (lv_at hl 1 rfl) ?_
      refine lv_iconst (v := 3) hx hb dX5_aisleOf_94 (by decide) ?_
      refine zt_calli (As := [.int v1, .int (3 : Int32)]) (rest := []) ⟨hx, hb, hml, hown, hts⟩ hI (zm_a l g v1 (3 : Int32) S_3 _ hw) (cwV 2 hts (lw_V q3797 q3799 qs55 q113 q3800) rfl rfl rfl hdT_a ⟨Nat.le_of_ble_eq_true rfl, Nat.le_of_ble_eq_true rfl⟩) rfl hl.1 rfl (lv_room (Nat.le_of_ble_eq_true rfl)) dX5_aisleOf_95 ⟨Nat.le_refl _, Nat.le_refl _⟩ (fun r_16 S_15 H locs hw hI => ?_)
      exact zt_iret hx hb hr hlk hI hw dX5_aisleOf_98
    have hw := hw.2 hc_14
    by_cases hc_17 : v2 = (7 : Int32)
    · have hw := hw.1 hc_17
      refine lv_tableIn (tgt := 99) hx hb dX5_aisleOf_36 (by rw [hc_17]; decide) (by rw [hc_17]; decide) (off := 63) (by rw [hc_17]; rfl) (by decide) ?_
      refine lv_aload_n hx hb dX5_aisleOf_99 rfl (lv_at hl 0 rfl) ?_
      refine lv_iload_n hx hb dX5_aisleOf_100 rfl (lv_at hl 1 rfl) ?_
      refine lv_iconst (v := 4) hx hb dX5_aisleOf_101 (by decide) ?_
      refine zt_calli (As := [.int v1, .int (4 : Int32)]) (rest := []) ⟨hx, hb, hml, hown, hts⟩ hI (zm_a l g v1 (4 : Int32) S_3 _ hw) (cwV 2 hts (lw_V q3797 q3799 qs55 q113 q3800) rfl rfl rfl hdT_a ⟨Nat.le_of_ble_eq_true rfl, Nat.le_of_ble_eq_true rfl⟩) rfl hl.1 rfl (lv_room (Nat.le_of_ble_eq_true rfl)) dX5_aisleOf_102 ⟨Nat.le_refl _, Nat.le_refl _⟩ (fun r_19 S_18 H locs hw hI => ?_)
      exact zt_iret hx hb hr hlk hI hw dX5_aisleOf_105
    have hw := hw.2 hc_17
    refine lv_tableOut (tgt := 106) hx hb dX5_aisleOf_36 (zs_out 3 7 5 [3, 4, 5, 6, 7] (by decide) (by decide) (List.forall_mem_cons.mpr ⟨hc_5, List.forall_mem_cons.mpr ⟨hc_8, List.forall_mem_cons.mpr ⟨hc_11, List.forall_mem_cons.mpr ⟨hc_14, List.forall_mem_cons.mpr ⟨hc_17, fun _ h => absurd h List.not_mem_nil⟩⟩⟩⟩⟩)) (by decide) ?_
    refine lv_aload_n hx hb dX5_aisleOf_106 rfl (lv_at hl 0 rfl) ?_
    refine lv_iload_n hx hb dX5_aisleOf_107 rfl (lv_at hl 1 rfl) ?_
    refine lv_iload_n hx hb dX5_aisleOf_108 rfl (lv_at hl 2 rfl) ?_
    refine zt_calli (As := [.int v1, .int v2]) (rest := []) ⟨hx, hb, hml, hown, hts⟩ hI (zm_a l g v1 v2 S_3 _ hw) (cwV 2 hts (lw_V q3797 q3799 qs55 q113 q3800) rfl rfl rfl hdT_a ⟨Nat.le_of_ble_eq_true rfl, Nat.le_of_ble_eq_true rfl⟩) rfl hl.1 rfl (lv_room (Nat.le_of_ble_eq_true rfl)) dX5_aisleOf_109 ⟨Nat.le_refl _, Nat.le_refl _⟩ (fun r_21 S_20 H locs hw hI => ?_)
    exact zt_iret hx hb hr hlk hI hw dX5_aisleOf_112
  · have hw := hw.2 hc_4
    refine lv_iconst (v := 0) hx hb dX5_aisleOf_33 (by decide) ?_
    exact zt_iret hx hb hr hlk hI hw dX5_aisleOf_34
def zw_aisleOf_22 (post : Int32 → zt_S → Prop) (v1 : Int32) (v2 : Int32) (S : zt_S) : Prop :=
  zw_aisleOf_23 post (1 : Int32) v1 v2 S
set_option maxHeartbeats 4000000 in
theorem zj_aisleOf_22 {p : Program} {l : Launch} {e : Env} {s : State} {m : MethodId} {args : Array Value} {below : List Frame} {meth : Method} {c : Code} {H : Heap} {locs : List Loc} {ls : Array Slot} (g : zt_G) (post : Int32 → zt_S → Prop) (v1 : Int32) (v2 : Int32) (S : zt_S) (hC : zt_C p s m args meth c cX5_aisleOf 3 (some .int)) (hw : zw_aisleOf_22 post v1 v2 S) (hI : zt_I g S s H locs) (hl : lv_has ls 3 [(0, .ref g.2.1), (1, .int v1), (2, .int v2)]) : W p l e ({ frames := 2, cells := 0, slots := 0, locals := 46 } : Room) s m args below meth c H locs 0 0 (MQ below (va_Qi post (zt_B g) (zt_A g)) args s 0 0 (zt_A g)) (F0 m 22 ls [.ref g.2.1]) := by
  obtain ⟨hx, hb, hml, hown, hts, hr, hlk⟩ := hC
  unfold zw_aisleOf_22 at hw
  refine lv_iconst (v := 1) hx hb dX5_aisleOf_22 (by decide) ?_
  exact zj_aisleOf_23 g post (1 : Int32) v1 v2 S ⟨hx, hb, hml, hown, hts, hr, hlk⟩ hw hI (lv_sub hl [0, 1, 2] rfl)
def zw_aisleOf (p1 : Int32) (p2 : Int32) (S : zt_S) (post : Int32 → zt_S → Prop) : Prop :=
  zw_isAisle p1 (fun (r_1 : Int32) => (r_1 = (0 : Int32) → (zw_aisleOf_22 post p1 p2 S)) ∧ (¬ r_1 = (0 : Int32) → (zw_in p2 (0 : Int32) (7 : Int32) (fun (r_22 : Int32) => (r_22 = (0 : Int32) → (zw_aisleOf_22 post p1 p2 S)) ∧ (¬ r_22 = (0 : Int32) → (zw_aisleOf_23 post (0 : Int32) p1 p2 S))))))
set_option maxHeartbeats 4000000 in
theorem zm_aisleOf (l : Launch) (g : zt_G) (p1 : Int32) (p2 : Int32) (S : zt_S) (post : Int32 → zt_S → Prop) (hw : zw_aisleOf p1 p2 S post) : Met l yX5_aisleOf (ws_ yX5_aisleOf cX5_aisleOf 3 (some .int)) ({ frames := 2, cells := 0, slots := 0, locals := 46 } : Room) (va_Pc (.ref g.2.1 :: [.int p1, .int p2]) (zt_B g S)) (va_Qi post (zt_B g) (zt_A g)) 0 0 (zt_A g) := by
  refine zt_met (by decide) rfl (Nat.le_of_ble_eq_true rfl) (fun p e s m below meth c ls hC hI hl => ?_)
  generalize (Value.ref g.2.1 :: ([.int p1, .int p2] : List Value)).toArray = args at hC ⊢
  obtain ⟨hx, hb, hml, hown, hts, hr, hlk⟩ := hC
  have hl : lv_has ls 3 [(0, .ref g.2.1), (1, .int p1), (2, .int p2)] := hl
  unfold zw_aisleOf at hw
  obtain ⟨H, eH⟩ : ∃ z, z = s.heap := ⟨_, rfl⟩
  obtain ⟨locs, elo⟩ : ∃ z : List Loc, z = [] := ⟨_, rfl⟩
  rw [← eH, ← elo] at hI ⊢
  refine lv_aload_n hx hb dX5_aisleOf_0 rfl (lv_at hl 0 rfl) ?_
  refine lv_iload_n hx hb dX5_aisleOf_1 rfl (lv_at hl 1 rfl) ?_
  refine zt_callS (As := [.int p1]) (rest := [.ref g.2.1]) ⟨hx, hb, hml, hown, hts⟩ (zm_isAisle l p1 _ hw) (va_cwS 1 hts (lw_S q3732 q3733 q113 q3734) rfl rfl rfl hdT_isAisle ⟨Nat.le_of_ble_eq_true rfl, Nat.le_of_ble_eq_true rfl⟩) rfl hl.1 rfl (lv_room (Nat.le_of_ble_eq_true rfl)) dX5_aisleOf_2 ⟨Nat.le_refl _, Nat.le_refl _⟩ (fun r_1 hw => ?_)
  refine lv_if_eq (tgt := 22) hx hb dX5_aisleOf_5 (by decide) (fun hc_2 => ?_) (fun hc_2 => ?_)
  · have hw := hw.1 hc_2
    exact zj_aisleOf_22 g post p1 p2 S ⟨hx, hb, hml, hown, hts, hr, hlk⟩ hw hI (lv_sub hl [0, 1, 2] rfl)
  · have hw := hw.2 hc_2
    refine lv_iload_n hx hb dX5_aisleOf_8 rfl (lv_at hl 2 rfl) ?_
    refine lv_iconst (v := 0) hx hb dX5_aisleOf_9 (by decide) ?_
    refine lv_bipush (v := 7) hx hb dX5_aisleOf_10 (by decide) ?_
    refine zt_callS (As := [.int p2, .int (0 : Int32), .int (7 : Int32)]) (rest := [.ref g.2.1]) ⟨hx, hb, hml, hown, hts⟩ (zm_in l p2 (0 : Int32) (7 : Int32) _ hw) (va_cwS 3 hts (lw_S q3693 q3694 q113 q3695) rfl rfl rfl hdT_in ⟨Nat.le_of_ble_eq_true rfl, Nat.le_of_ble_eq_true rfl⟩) rfl hl.1 rfl (lv_room (Nat.le_of_ble_eq_true rfl)) dX5_aisleOf_12 ⟨Nat.le_refl _, Nat.le_refl _⟩ (fun r_22 hw => ?_)
    refine lv_if_eq (tgt := 22) hx hb dX5_aisleOf_15 (by decide) (fun hc_23 => ?_) (fun hc_23 => ?_)
    · have hw := hw.1 hc_23
      exact zj_aisleOf_22 g post p1 p2 S ⟨hx, hb, hml, hown, hts, hr, hlk⟩ hw hI (lv_sub hl [0, 1, 2] rfl)
    · have hw := hw.2 hc_23
      refine lv_iconst (v := 0) hx hb dX5_aisleOf_18 (by decide) ?_
      refine lv_goto (tgt := 23) hx hb dX5_aisleOf_19 (by decide) ?_
      exact zj_aisleOf_23 g post (0 : Int32) p1 p2 S ⟨hx, hb, hml, hown, hts, hr, hlk⟩ hw hI (lv_sub hl [0, 1, 2] rfl)
theorem hdT_aisleOf : yX5_aisleOf.cls = RX5 ∧ yX5_aisleOf.cls ≠ "java/lang/invoke/MethodHandle" ∧ yX5_aisleOf.cls ≠ "java/lang/invoke/VarHandle" ∧ (parseMethodDescriptor yX5_aisleOf.desc).map (fun d => d.parameters.length) = some 2 := by decide +kernel
def zw_leave (p1 : Int32) (p2 : Int32) (S : zt_S) (post : zt_S → Prop) : Prop :=
  zw_r p1 (2 : Int32) S (fun (r_2 : Int32) (S_1 : zt_S) => zw_setReam p1 (2 : Int32) (r_2 - p2) S_1 (fun (S_3 : zt_S) => zw_r p1 (2 : Int32) S_3 (fun (r_5 : Int32) (S_4 : zt_S) => (r_5 ≤ (0 : Int32) → (zw_r p1 (4 : Int32) S_4 (fun (r_8 : Int32) (S_7 : zt_S) => zw_r p1 (5 : Int32) S_7 (fun (r_10 : Int32) (S_9 : zt_S) => zw_r p1 (6 : Int32) S_9 (fun (r_12 : Int32) (S_11 : zt_S) => ∃ (In_13 : Int32 → zt_S → Prop) (mu_13 : Int32 → zt_S → Nat), In_13 (4 : Int32) S_11 ∧ ∀ (x6_13 : Int32) (S_13 : zt_S), In_13 x6_13 S_13 → (((6 : Int32) < x6_13 → (∃ (In_15 : Int32 → zt_S → Prop) (mu_15 : Int32 → zt_S → Nat), In_15 (0 : Int32) S_13 ∧ ∀ (x6_15 : Int32) (S_15 : zt_S), In_15 x6_15 S_15 → (vp_in (5 : Int32) 3810 ∧ ((S_15 1 (5 : Int32).toNatClampNeg ≤ x6_15 → (post S_15)) ∧ (¬ S_15 1 (5 : Int32).toNatClampNeg ≤ x6_15 → (zw_r x6_15 (4 : Int32) S_15 (fun (r_18 : Int32) (S_17 : zt_S) => (¬ r_18 = r_8 → (In_15 (x6_15 + (1 : Int32)) S_17 ∧ mu_15 (x6_15 + (1 : Int32)) S_17 < mu_15 x6_15 S_15)) ∧ (r_18 = r_8 → (zw_r x6_15 (5 : Int32) S_17 (fun (r_21 : Int32) (S_20 : zt_S) => (¬ r_21 = r_10 → (In_15 (x6_15 + (1 : Int32)) S_20 ∧ mu_15 (x6_15 + (1 : Int32)) S_20 < mu_15 x6_15 S_15)) ∧ (r_21 = r_10 → (zw_r x6_15 (6 : Int32) S_20 (fun (r_24 : Int32) (S_23 : zt_S) => (r_24 ≤ r_12 → (In_15 (x6_15 + (1 : Int32)) S_23 ∧ mu_15 (x6_15 + (1 : Int32)) S_23 < mu_15 x6_15 S_15)) ∧ (¬ r_24 ≤ r_12 → (zw_r x6_15 (6 : Int32) S_23 (fun (r_27 : Int32) (S_26 : zt_S) => zw_setReam x6_15 (6 : Int32) (r_27 - (1 : Int32)) S_26 (fun (S_28 : zt_S) => In_15 (x6_15 + (1 : Int32)) S_28 ∧ mu_15 (x6_15 + (1 : Int32)) S_28 < mu_15 x6_15 S_15))))))))))))))))) ∧ (¬ (6 : Int32) < x6_13 → (zw_setReam p1 x6_13 (-1 : Int32) S_13 (fun (S_29 : zt_S) => In_13 (x6_13 + (1 : Int32)) S_29 ∧ mu_13 (x6_13 + (1 : Int32)) S_29 < mu_13 x6_13 S_13))))))))) ∧ (¬ r_5 ≤ (0 : Int32) → (post S_4)))))
set_option maxHeartbeats 4000000 in
theorem zm_leave (l : Launch) (g : zt_G) (p1 : Int32) (p2 : Int32) (S : zt_S) (post : zt_S → Prop) (hw : zw_leave p1 p2 S post) : Met l yX5_leave (ws_ yX5_leave cX5_leave 7 none) ({ frames := 1, cells := 0, slots := 0, locals := 23 } : Room) (va_Pc (.ref g.2.1 :: [.int p1, .int p2]) (zt_B g S)) (va_Qv post (zt_B g) (zt_A g)) 0 0 (zt_A g) := by
  refine zt_met (by decide) rfl (Nat.le_of_ble_eq_true rfl) (fun p e s m below meth c ls hC hI hl => ?_)
  generalize (Value.ref g.2.1 :: ([.int p1, .int p2] : List Value)).toArray = args at hC ⊢
  obtain ⟨hx, hb, hml, hown, hts, hr, hlk⟩ := hC
  have hl : lv_has ls 7 [(0, .ref g.2.1), (1, .int p1), (2, .int p2)] := hl
  unfold zw_leave at hw
  obtain ⟨H, eH⟩ : ∃ z, z = s.heap := ⟨_, rfl⟩
  obtain ⟨locs, elo⟩ : ∃ z : List Loc, z = [] := ⟨_, rfl⟩
  rw [← eH, ← elo] at hI ⊢
  refine lv_aload_n hx hb dX5_leave_0 rfl (lv_at hl 0 rfl) ?_
  refine lv_iload_n hx hb dX5_leave_1 rfl (lv_at hl 1 rfl) ?_
  refine lv_iconst (v := 2) hx hb dX5_leave_2 (by decide) ?_
  refine lv_aload_n hx hb dX5_leave_3 rfl (lv_at hl 0 rfl) ?_
  refine lv_iload_n hx hb dX5_leave_4 rfl (lv_at hl 1 rfl) ?_
  refine lv_iconst (v := 2) hx hb dX5_leave_5 (by decide) ?_
  refine zt_calli (As := [.int p1, .int (2 : Int32)]) (rest := [.int (2 : Int32), .int p1, .ref g.2.1]) ⟨hx, hb, hml, hown, hts⟩ hI (zm_r l g p1 (2 : Int32) S _ hw) (cwV 2 hts (lw_V q3761 q3763 qs49 q113 q3764) rfl rfl rfl hdT_r ⟨Nat.le_of_ble_eq_true rfl, Nat.le_of_ble_eq_true rfl⟩) rfl hl.1 rfl (lv_room (Nat.le_of_ble_eq_true rfl)) dX5_leave_6 ⟨Nat.le_refl _, Nat.le_refl _⟩ (fun r_2 S_1 H locs hw hI => ?_)
  refine lv_iload_n hx hb dX5_leave_9 rfl (lv_at hl 2 rfl) ?_
  refine lv_isub hx hb dX5_leave_10 ?_
  refine zt_callv (As := [.int p1, .int (2 : Int32), .int (r_2 - p2)]) (rest := []) ⟨hx, hb, hml, hown, hts⟩ hI (zm_setReam l g p1 (2 : Int32) (r_2 - p2) S_1 _ hw) (cwV 3 hts (lw_V q3765 q3767 qs50 q113 q3768) rfl rfl rfl hdT_setReam ⟨Nat.le_of_ble_eq_true rfl, Nat.le_of_ble_eq_true rfl⟩) rfl hl.1 rfl (lv_room (Nat.le_of_ble_eq_true rfl)) dX5_leave_11 ⟨Nat.le_refl _, Nat.le_refl _⟩ (fun S_3 H locs hw hI => ?_)
  refine lv_aload_n hx hb dX5_leave_14 rfl (lv_at hl 0 rfl) ?_
  refine lv_iload_n hx hb dX5_leave_15 rfl (lv_at hl 1 rfl) ?_
  refine lv_iconst (v := 2) hx hb dX5_leave_16 (by decide) ?_
  refine zt_calli (As := [.int p1, .int (2 : Int32)]) (rest := []) ⟨hx, hb, hml, hown, hts⟩ hI (zm_r l g p1 (2 : Int32) S_3 _ hw) (cwV 2 hts (lw_V q3761 q3763 qs49 q113 q3764) rfl rfl rfl hdT_r ⟨Nat.le_of_ble_eq_true rfl, Nat.le_of_ble_eq_true rfl⟩) rfl hl.1 rfl (lv_room (Nat.le_of_ble_eq_true rfl)) dX5_leave_17 ⟨Nat.le_refl _, Nat.le_refl _⟩ (fun r_5 S_4 H locs hw hI => ?_)
  refine lv_if_le (tgt := 24) hx hb dX5_leave_20 (by decide) (fun hc_6 => ?_) (fun hc_6 => ?_)
  · have hw := hw.1 hc_6
    refine lv_aload_n hx hb dX5_leave_24 rfl (lv_at hl 0 rfl) ?_
    refine lv_iload_n hx hb dX5_leave_25 rfl (lv_at hl 1 rfl) ?_
    refine lv_iconst (v := 4) hx hb dX5_leave_26 (by decide) ?_
    refine zt_calli (As := [.int p1, .int (4 : Int32)]) (rest := []) ⟨hx, hb, hml, hown, hts⟩ hI (zm_r l g p1 (4 : Int32) S_4 _ hw) (cwV 2 hts (lw_V q3761 q3763 qs49 q113 q3764) rfl rfl rfl hdT_r ⟨Nat.le_of_ble_eq_true rfl, Nat.le_of_ble_eq_true rfl⟩) rfl hl.1 rfl (lv_room (Nat.le_of_ble_eq_true rfl)) dX5_leave_27 ⟨Nat.le_refl _, Nat.le_refl _⟩ (fun r_8 S_7 H locs hw hI => ?_)
    refine lv_istore_n (lv' := [(3, .int r_8), (0, .ref g.2.1), (1, .int p1), (2, .int p2)]) hx hb dX5_leave_30 rfl hl (by decide) rfl (fun ls hl => ?_)
    refine lv_aload_n hx hb dX5_leave_31 rfl (lv_at hl 1 rfl) ?_
    refine lv_iload_n hx hb dX5_leave_32 rfl (lv_at hl 2 rfl) ?_
    refine lv_iconst (v := 5) hx hb dX5_leave_33 (by decide) ?_
    refine zt_calli (As := [.int p1, .int (5 : Int32)]) (rest := []) ⟨hx, hb, hml, hown, hts⟩ hI (zm_r l g p1 (5 : Int32) S_7 _ hw) (cwV 2 hts (lw_V q3761 q3763 qs49 q113 q3764) rfl rfl rfl hdT_r ⟨Nat.le_of_ble_eq_true rfl, Nat.le_of_ble_eq_true rfl⟩) rfl hl.1 rfl (lv_room (Nat.le_of_ble_eq_true rfl)) dX5_leave_34 ⟨Nat.le_refl _, Nat.le_refl _⟩ (fun r_10 S_9 H locs hw hI => ?_)
    refine lv_istore (lv' := [(4, .int r_10), (3, .int r_8), (0, .ref g.2.1), (1, .int p1), (2, .int p2)]) hx hb dX5_leave_37 hl (by decide) rfl (fun ls hl => ?_)
    refine lv_aload_n hx hb dX5_leave_39 rfl (lv_at hl 2 rfl) ?_
    refine lv_iload_n hx hb dX5_leave_40 rfl (lv_at hl 3 rfl) ?_
    refine lv_bipush (v := 6) hx hb dX5_leave_41 (by decide) ?_
    refine zt_calli (As := [.int p1, .int (6 : Int32)]) (rest := []) ⟨hx, hb, hml, hown, hts⟩ hI (zm_r l g p1 (6 : Int32) S_9 _ hw) (cwV 2 hts (lw_V q3761 q3763 qs49 q113 q3764) rfl rfl rfl hdT_r ⟨Nat.le_of_ble_eq_true rfl, Nat.le_of_ble_eq_true rfl⟩) rfl hl.1 rfl (lv_room (Nat.le_of_ble_eq_true rfl)) dX5_leave_43 ⟨Nat.le_refl _, Nat.le_refl _⟩ (fun r_12 S_11 H locs hw hI => ?_)
    refine lv_istore (lv' := [(5, .int r_12), (4, .int r_10), (3, .int r_8), (0, .ref g.2.1), (1, .int p1), (2, .int p2)]) hx hb dX5_leave_46 hl (by decide) rfl (fun ls hl => ?_)
    refine lv_iconst (v := 4) hx hb dX5_leave_48 (by decide) ?_
    refine lv_istore (lv' := [(6, .int (4 : Int32)), (5, .int r_12), (4, .int r_10), (3, .int r_8), (0, .ref g.2.1), (1, .int p1), (2, .int p2)]) hx hb dX5_leave_49 hl (by decide) rfl (fun ls hl => ?_)
    obtain ⟨In_13, mu_13, h0_13, hw⟩ := hw
    have hL_13 : ∀ (n : Nat) (x6_13 : Int32) (S_13 : zt_S) (H : Heap) (locs : List Loc) (ls : Array Slot), mu_13 x6_13 S_13 < n → In_13 x6_13 S_13 → zt_I g S_13 s H locs → lv_has ls 7 [(0, .ref g.2.1), (1, .int p1), (3, .int r_8), (4, .int r_10), (5, .int r_12), (6, .int x6_13)] → W p l e ({ frames := 1, cells := 0, slots := 0, locals := 23 } : Room) s m args below meth c H locs 0 0 (MQ below (va_Qv post (zt_B g) (zt_A g)) args s 0 0 (zt_A g)) (F0 m 51 ls []) := by
      intro n
      induction n with
      | zero => intro x6_13 S_13 H locs ls hn _ _ _; exact absurd hn (Nat.not_lt_zero _)
      | succ n ih_13 =>
        intro x6_13 S_13 H locs ls hn_13 hi_13 hI hl
        have hw := hw x6_13 S_13 hi_13
        refine lv_iload hx hb dX5_leave_51 (lv_at hl 5 rfl) ?_
        refine lv_bipush (v := 6) hx hb dX5_leave_53 (by decide) ?_
        refine lv_icmp_gt (tgt := 72) hx hb dX5_leave_55 (by decide) (fun hc_14 => ?_) (fun hc_14 => ?_)
        · have hw := hw.1 hc_14
          refine lv_iconst (v := 0) hx hb dX5_leave_72 (by decide) ?_
          refine lv_istore (lv' := [(6, .int (0 : Int32)), (0, .ref g.2.1), (1, .int p1), (3, .int r_8), (4, .int r_10), (5, .int r_12)]) hx hb dX5_leave_73 hl (by decide) rfl (fun ls hl => ?_)
          obtain ⟨In_15, mu_15, h0_15, hw⟩ := hw
          have hL_15 : ∀ (n : Nat) (x6_15 : Int32) (S_15 : zt_S) (H : Heap) (locs : List Loc) (ls : Array Slot), mu_15 x6_15 S_15 < n → In_15 x6_15 S_15 → zt_I g S_15 s H locs → lv_has ls 7 [(0, .ref g.2.1), (3, .int r_8), (4, .int r_10), (5, .int r_12), (6, .int x6_15)] → W p l e ({ frames := 1, cells := 0, slots := 0, locals := 23 } : Room) s m args below meth c H locs 0 0 (MQ below (va_Qv post (zt_B g) (zt_A g)) args s 0 0 (zt_A g)) (F0 m 75 ls []) := by
            intro n
            induction n with
            | zero => intro x6_15 S_15 H locs ls hn _ _ _; exact absurd hn (Nat.not_lt_zero _)
            | succ n ih_15 =>
              intro x6_15 S_15 H locs ls hn_15 hi_15 hI hl
              have hw := hw x6_15 S_15 hi_15
              refine lv_iload hx hb dX5_leave_75 (lv_at hl 4 rfl) ?_
              refine lv_aload_n hx hb dX5_leave_77 rfl (lv_at hl 0 rfl) ?_
              refine zt_get hx hb hts hown hI 1 (v := .ref g.2.2.1) (by decide) q3633 rfl rfl dX5_leave_78 ?_
              refine lv_iconst (v := 5) hx hb dX5_leave_81 (by decide) ?_
              refine zt_ld1 hx hb hI hw.1 dX5_leave_82 ?_
              have hw := hw.2
              refine lv_icmp_ge (tgt := 146) hx hb dX5_leave_83 (by decide) (fun hc_16 => ?_) (fun hc_16 => ?_)
              · have hw := hw.1 hc_16
                exact zt_vret hx hb hr hlk hI hw dX5_leave_146
              · have hw := hw.2 hc_16
                refine lv_aload_n hx hb dX5_leave_86 rfl (lv_at hl 0 rfl) ?_
                refine lv_iload hx hb dX5_leave_87 (lv_at hl 4 rfl) ?_
                refine lv_iconst (v := 4) hx hb dX5_leave_89 (by decide) ?_
                refine zt_calli (As := [.int x6_15, .int (4 : Int32)]) (rest := []) ⟨hx, hb, hml, hown, hts⟩ hI (zm_r l g x6_15 (4 : Int32) S_15 _ hw) (cwV 2 hts (lw_V q3761 q3763 qs49 q113 q3764) rfl rfl rfl hdT_r ⟨Nat.le_of_ble_eq_true rfl, Nat.le_of_ble_eq_true rfl⟩) rfl hl.1 rfl (lv_room (Nat.le_of_ble_eq_true rfl)) dX5_leave_90 ⟨Nat.le_refl _, Nat.le_refl _⟩ (fun r_18 S_17 H locs hw hI => ?_)
                refine lv_iload_n hx hb dX5_leave_93 rfl (lv_at hl 1 rfl) ?_
                refine lv_icmp_ne (tgt := 140) hx hb dX5_leave_94 (by decide) (fun hc_19 => ?_) (fun hc_19 => ?_)
                · have hw := hw.1 hc_19
                  refine lv_iinc (v := x6_15 + (1 : Int32)) (lv' := [(6, .int (x6_15 + (1 : Int32))), (0, .ref g.2.1), (3, .int r_8), (4, .int r_10), (5, .int r_12)]) hx hb dX5_leave_140 hl (k := 4) rfl rfl (by decide) rfl (fun ls hl => ?_)
                  refine lv_goto (tgt := 75) hx hb dX5_leave_143 (by decide) ?_
                  exact ih_15 _ _ H locs ls (Nat.lt_of_lt_of_le hw.2 (Nat.le_of_lt_succ hn_15)) hw.1 hI (lv_sub hl [1, 2, 3, 4, 0] rfl)
                · have hw := hw.2 hc_19
                  refine lv_aload_n hx hb dX5_leave_97 rfl (lv_at hl 0 rfl) ?_
                  refine lv_iload hx hb dX5_leave_98 (lv_at hl 4 rfl) ?_
                  refine lv_iconst (v := 5) hx hb dX5_leave_100 (by decide) ?_
                  refine zt_calli (As := [.int x6_15, .int (5 : Int32)]) (rest := []) ⟨hx, hb, hml, hown, hts⟩ hI (zm_r l g x6_15 (5 : Int32) S_17 _ hw) (cwV 2 hts (lw_V q3761 q3763 qs49 q113 q3764) rfl rfl rfl hdT_r ⟨Nat.le_of_ble_eq_true rfl, Nat.le_of_ble_eq_true rfl⟩) rfl hl.1 rfl (lv_room (Nat.le_of_ble_eq_true rfl)) dX5_leave_101 ⟨Nat.le_refl _, Nat.le_refl _⟩ (fun r_21 S_20 H locs hw hI => ?_)
                  refine lv_iload hx hb dX5_leave_104 (lv_at hl 2 rfl) ?_
                  refine lv_icmp_ne (tgt := 140) hx hb dX5_leave_106 (by decide) (fun hc_22 => ?_) (fun hc_22 => ?_)
                  · have hw := hw.1 hc_22
                    refine lv_iinc (v := x6_15 + (1 : Int32)) (lv' := [(6, .int (x6_15 + (1 : Int32))), (0, .ref g.2.1), (3, .int r_8), (4, .int r_10), (5, .int r_12)]) hx hb dX5_leave_140 hl (k := 4) rfl rfl (by decide) rfl (fun ls hl => ?_)
                    refine lv_goto (tgt := 75) hx hb dX5_leave_143 (by decide) ?_
                    exact ih_15 _ _ H locs ls (Nat.lt_of_lt_of_le hw.2 (Nat.le_of_lt_succ hn_15)) hw.1 hI (lv_sub hl [1, 2, 3, 4, 0] rfl)
                  · have hw := hw.2 hc_22
                    refine lv_aload_n hx hb dX5_leave_109 rfl (lv_at hl 0 rfl) ?_
                    refine lv_iload hx hb dX5_leave_110 (lv_at hl 4 rfl) ?_
                    refine lv_bipush (v := 6) hx hb dX5_leave_112 (by decide) ?_
                    refine zt_calli (As := [.int x6_15, .int (6 : Int32)]) (rest := []) ⟨hx, hb, hml, hown, hts⟩ hI (zm_r l g x6_15 (6 : Int32) S_20 _ hw) (cwV 2 hts (lw_V q3761 q3763 qs49 q113 q3764) rfl rfl rfl hdT_r ⟨Nat.le_of_ble_eq_true rfl, Nat.le_of_ble_eq_true rfl⟩) rfl hl.1 rfl (lv_room (Nat.le_of_ble_eq_true rfl)) dX5_leave_114 ⟨Nat.le_refl _, Nat.le_refl _⟩ (fun r_24 S_23 H locs hw hI => ?_)
                    refine lv_iload hx hb dX5_leave_117 (lv_at hl 3 rfl) ?_
                    refine lv_icmp_le (tgt := 140) hx hb dX5_leave_119 (by decide) (fun hc_25 => ?_) (fun hc_25 => ?_)
                    · have hw := hw.1 hc_25
                      refine lv_iinc (v := x6_15 + (1 : Int32)) (lv' := [(6, .int (x6_15 + (1 : Int32))), (0, .ref g.2.1), (3, .int r_8), (4, .int r_10), (5, .int r_12)]) hx hb dX5_leave_140 hl (k := 4) rfl rfl (by decide) rfl (fun ls hl => ?_)
                      refine lv_goto (tgt := 75) hx hb dX5_leave_143 (by decide) ?_
                      exact ih_15 _ _ H locs ls (Nat.lt_of_lt_of_le hw.2 (Nat.le_of_lt_succ hn_15)) hw.1 hI (lv_sub hl [1, 2, 3, 4, 0] rfl)
                    · have hw := hw.2 hc_25
                      refine lv_aload_n hx hb dX5_leave_122 rfl (lv_at hl 0 rfl) ?_
                      refine lv_iload hx hb dX5_leave_123 (lv_at hl 4 rfl) ?_
                      refine lv_bipush (v := 6) hx hb dX5_leave_125 (by decide) ?_
                      refine lv_aload_n hx hb dX5_leave_127 rfl (lv_at hl 0 rfl) ?_
                      refine lv_iload hx hb dX5_leave_128 (lv_at hl 4 rfl) ?_
                      refine lv_bipush (v := 6) hx hb dX5_leave_130 (by decide) ?_
                      refine zt_calli (As := [.int x6_15, .int (6 : Int32)]) (rest := [.int (6 : Int32), .int x6_15, .ref g.2.1]) ⟨hx, hb, hml, hown, hts⟩ hI (zm_r l g x6_15 (6 : Int32) S_23 _ hw) (cwV 2 hts (lw_V q3761 q3763 qs49 q113 q3764) rfl rfl rfl hdT_r ⟨Nat.le_of_ble_eq_true rfl, Nat.le_of_ble_eq_true rfl⟩) rfl hl.1 rfl (lv_room (Nat.le_of_ble_eq_true rfl)) dX5_leave_132 ⟨Nat.le_refl _, Nat.le_refl _⟩ (fun r_27 S_26 H locs hw hI => ?_)
                      refine lv_iconst (v := 1) hx hb dX5_leave_135 (by decide) ?_
                      refine lv_isub hx hb dX5_leave_136 ?_
                      refine zt_callv (As := [.int x6_15, .int (6 : Int32), .int (r_27 - (1 : Int32))]) (rest := []) ⟨hx, hb, hml, hown, hts⟩ hI (zm_setReam l g x6_15 (6 : Int32) (r_27 - (1 : Int32)) S_26 _ hw) (cwV 3 hts (lw_V q3765 q3767 qs50 q113 q3768) rfl rfl rfl hdT_setReam ⟨Nat.le_of_ble_eq_true rfl, Nat.le_of_ble_eq_true rfl⟩) rfl hl.1 rfl (lv_room (Nat.le_of_ble_eq_true rfl)) dX5_leave_137 ⟨Nat.le_refl _, Nat.le_refl _⟩ (fun S_28 H locs hw hI => ?_)
                      refine lv_iinc (v := x6_15 + (1 : Int32)) (lv' := [(6, .int (x6_15 + (1 : Int32))), (0, .ref g.2.1), (3, .int r_8), (4, .int r_10), (5, .int r_12)]) hx hb dX5_leave_140 hl (k := 4) rfl rfl (by decide) rfl (fun ls hl => ?_)
                      refine lv_goto (tgt := 75) hx hb dX5_leave_143 (by decide) ?_
                      exact ih_15 _ _ H locs ls (Nat.lt_of_lt_of_le hw.2 (Nat.le_of_lt_succ hn_15)) hw.1 hI (lv_sub hl [1, 2, 3, 4, 0] rfl)
          exact hL_15 _ _ _ H locs ls (Nat.lt_succ_self _) h0_15 hI (lv_sub hl [1, 3, 4, 5, 0] rfl)
        · have hw := hw.2 hc_14
          refine lv_aload_n hx hb dX5_leave_58 rfl (lv_at hl 0 rfl) ?_
          refine lv_iload_n hx hb dX5_leave_59 rfl (lv_at hl 1 rfl) ?_
          refine lv_iload hx hb dX5_leave_60 (lv_at hl 5 rfl) ?_
          refine lv_iconst (v := -1) hx hb dX5_leave_62 (by decide) ?_
          refine zt_callv (As := [.int p1, .int x6_13, .int (-1 : Int32)]) (rest := []) ⟨hx, hb, hml, hown, hts⟩ hI (zm_setReam l g p1 x6_13 (-1 : Int32) S_13 _ hw) (cwV 3 hts (lw_V q3765 q3767 qs50 q113 q3768) rfl rfl rfl hdT_setReam ⟨Nat.le_of_ble_eq_true rfl, Nat.le_of_ble_eq_true rfl⟩) rfl hl.1 rfl (lv_room (Nat.le_of_ble_eq_true rfl)) dX5_leave_63 ⟨Nat.le_refl _, Nat.le_refl _⟩ (fun S_29 H locs hw hI => ?_)
          refine lv_iinc (v := x6_13 + (1 : Int32)) (lv' := [(6, .int (x6_13 + (1 : Int32))), (0, .ref g.2.1), (1, .int p1), (3, .int r_8), (4, .int r_10), (5, .int r_12)]) hx hb dX5_leave_66 hl (k := 5) rfl rfl (by decide) rfl (fun ls hl => ?_)
          refine lv_goto (tgt := 51) hx hb dX5_leave_69 (by decide) ?_
          exact ih_13 _ _ H locs ls (Nat.lt_of_lt_of_le hw.2 (Nat.le_of_lt_succ hn_13)) hw.1 hI (lv_sub hl [1, 2, 3, 4, 5, 0] rfl)
    exact hL_13 _ _ _ H locs ls (Nat.lt_succ_self _) h0_13 hI (lv_sub hl [4, 5, 3, 2, 1, 0] rfl)
  · have hw := hw.2 hc_6
    exact zt_vret hx hb hr hlk hI hw dX5_leave_23
theorem hdT_leave : yX5_leave.cls = RX5 ∧ yX5_leave.cls ≠ "java/lang/invoke/MethodHandle" ∧ yX5_leave.cls ≠ "java/lang/invoke/VarHandle" ∧ (parseMethodDescriptor yX5_leave.desc).map (fun d => d.parameters.length) = some 2 := by decide +kernel
def zw_eats (p1 : Int32) (S : zt_S) (post : Int32 → zt_S → Prop) : Prop :=
  zw_a p1 (1 : Int32) S (fun (r_2 : Int32) (S_1 : zt_S) => ∃ (In_3 : Int32 → Int32 → Int32 → zt_S → Prop) (mu_3 : Int32 → Int32 → Int32 → zt_S → Nat), In_3 ((r_2 + (2 : Int32)) / (3 : Int32)) (0 : Int32) (0 : Int32) S_1 ∧ ∀ (x2_3 : Int32) (x3_3 : Int32) (x4_3 : Int32) (S_3 : zt_S), In_3 x2_3 x3_3 x4_3 S_3 → (((6 : Int32) ≤ x4_3 → (zw_a p1 (3 : Int32) S_3 (fun (r_6 : Int32) (S_5 : zt_S) => zw_setAisle p1 (3 : Int32) (r_6 + x3_3) S_5 (fun (S_7 : zt_S) => vp_in (1 : Int32) 3810 ∧ (vp_in (1 : Int32) 3810 ∧ ∀ S_8 : zt_S, S_8 = zt_us S_7 1 (1 : Int32).toNatClampNeg ((S_7 1 (1 : Int32).toNatClampNeg) + x3_3) → (post x3_3 S_8)))))) ∧ (¬ (6 : Int32) ≤ x4_3 → (zw_heightOf p1 x4_3 S_3 (fun (r_10 : Int32) (S_9 : zt_S) => ∃ (In_11 : Int32 → Int32 → Int32 → zt_S → Prop) (mu_11 : Int32 → Int32 → Int32 → zt_S → Nat), In_11 x2_3 x3_3 (r_10 - (1 : Int32)) S_9 ∧ ∀ (x2_11 : Int32) (x3_11 : Int32) (x5_11 : Int32) (S_11 : zt_S), In_11 x2_11 x3_11 x5_11 S_11 → ((x5_11 < (0 : Int32) → (In_3 x2_11 x3_11 (x4_3 + (1 : Int32)) S_11 ∧ mu_3 x2_11 x3_11 (x4_3 + (1 : Int32)) S_11 < mu_3 x2_3 x3_3 x4_3 S_3)) ∧ (¬ x5_11 < (0 : Int32) → ((x2_11 ≤ (0 : Int32) → (In_3 x2_11 x3_11 (x4_3 + (1 : Int32)) S_11 ∧ mu_3 x2_11 x3_11 (x4_3 + (1 : Int32)) S_11 < mu_3 x2_3 x3_3 x4_3 S_3)) ∧ (¬ x2_11 ≤ (0 : Int32) → (zw_reamAt p1 x4_3 x5_11 S_11 (fun (r_15 : Int32) (S_14 : zt_S) => zw_r r_15 (2 : Int32) S_14 (fun (r_17 : Int32) (S_16 : zt_S) => zw_least x2_11 r_17 (fun (r_18 : Int32) => zw_r r_15 (7 : Int32) S_16 (fun (r_20 : Int32) (S_19 : zt_S) => zw_setReam r_15 (7 : Int32) (r_20 + r_18) S_19 (fun (S_21 : zt_S) => zw_leave r_15 r_18 S_21 (fun (S_22 : zt_S) => In_11 (x2_11 - r_18) (x3_11 + r_18) (x5_11 + (-1 : Int32)) S_22 ∧ mu_11 (x2_11 - r_18) (x3_11 + r_18) (x5_11 + (-1 : Int32)) S_22 < mu_11 x2_11 x3_11 x5_11 S_11))))))))))))))))
set_option maxHeartbeats 4000000 in
theorem zm_eats (l : Launch) (g : zt_G) (p1 : Int32) (S : zt_S) (post : Int32 → zt_S → Prop) (hw : zw_eats p1 S post) : Met l yX5_eats (ws_ yX5_eats cX5_eats 8 (some .int)) ({ frames := 2, cells := 0, slots := 0, locals := 49 } : Room) (va_Pc (.ref g.2.1 :: [.int p1]) (zt_B g S)) (va_Qi post (zt_B g) (zt_A g)) 0 0 (zt_A g) := by
  refine zt_met (by decide) rfl (Nat.le_of_ble_eq_true rfl) (fun p e s m below meth c ls hC hI hl => ?_)
  generalize (Value.ref g.2.1 :: ([.int p1] : List Value)).toArray = args at hC ⊢
  obtain ⟨hx, hb, hml, hown, hts, hr, hlk⟩ := hC
  have hl : lv_has ls 8 [(0, .ref g.2.1), (1, .int p1)] := hl
  unfold zw_eats at hw
  obtain ⟨H, eH⟩ : ∃ z, z = s.heap := ⟨_, rfl⟩
  obtain ⟨locs, elo⟩ : ∃ z : List Loc, z = [] := ⟨_, rfl⟩
  rw [← eH, ← elo] at hI ⊢
  refine lv_aload_n hx hb dX5_eats_0 rfl (lv_at hl 0 rfl) ?_
  refine lv_iload_n hx hb dX5_eats_1 rfl (lv_at hl 1 rfl) ?_
  refine lv_iconst (v := 1) hx hb dX5_eats_2 (by decide) ?_
  refine zt_calli (As := [.int p1, .int (1 : Int32)]) (rest := []) ⟨hx, hb, hml, hown, hts⟩ hI (zm_a l g p1 (1 : Int32) S _ hw) (cwV 2 hts (lw_V q3797 q3799 qs55 q113 q3800) rfl rfl rfl hdT_a ⟨Nat.le_of_ble_eq_true rfl, Nat.le_of_ble_eq_true rfl⟩) rfl hl.1 rfl (lv_room (Nat.le_of_ble_eq_true rfl)) dX5_eats_3 ⟨Nat.le_refl _, Nat.le_refl _⟩ (fun r_2 S_1 H locs hw hI => ?_)
  refine lv_iconst (v := 2) hx hb dX5_eats_6 (by decide) ?_
  refine lv_iadd hx hb dX5_eats_7 ?_
  refine lv_iconst (v := 3) hx hb dX5_eats_8 (by decide) ?_
  refine lv_idiv hx hb dX5_eats_9 (by decide) ?_
  refine lv_istore_n (lv' := [(2, .int ((r_2 + (2 : Int32)) / (3 : Int32))), (0, .ref g.2.1), (1, .int p1)]) hx hb dX5_eats_10 rfl hl (by decide) rfl (fun ls hl => ?_)
  refine lv_iconst (v := 0) hx hb dX5_eats_11 (by decide) ?_
  refine lv_istore_n (lv' := [(3, .int (0 : Int32)), (2, .int ((r_2 + (2 : Int32)) / (3 : Int32))), (0, .ref g.2.1), (1, .int p1)]) hx hb dX5_eats_12 rfl hl (by decide) rfl (fun ls hl => ?_)
  refine lv_iconst (v := 0) hx hb dX5_eats_13 (by decide) ?_
  refine lv_istore (lv' := [(4, .int (0 : Int32)), (3, .int (0 : Int32)), (2, .int ((r_2 + (2 : Int32)) / (3 : Int32))), (0, .ref g.2.1), (1, .int p1)]) hx hb dX5_eats_14 hl (by decide) rfl (fun ls hl => ?_)
  obtain ⟨In_3, mu_3, h0_3, hw⟩ := hw
  have hL_3 : ∀ (n : Nat) (x2_3 : Int32) (x3_3 : Int32) (x4_3 : Int32) (S_3 : zt_S) (H : Heap) (locs : List Loc) (ls : Array Slot), mu_3 x2_3 x3_3 x4_3 S_3 < n → In_3 x2_3 x3_3 x4_3 S_3 → zt_I g S_3 s H locs → lv_has ls 8 [(0, .ref g.2.1), (1, .int p1), (2, .int x2_3), (3, .int x3_3), (4, .int x4_3)] → W p l e ({ frames := 2, cells := 0, slots := 0, locals := 49 } : Room) s m args below meth c H locs 0 0 (MQ below (va_Qi post (zt_B g) (zt_A g)) args s 0 0 (zt_A g)) (F0 m 16 ls []) := by
    intro n
    induction n with
    | zero => intro x2_3 x3_3 x4_3 S_3 H locs ls hn _ _ _; exact absurd hn (Nat.not_lt_zero _)
    | succ n ih_3 =>
      intro x2_3 x3_3 x4_3 S_3 H locs ls hn_3 hi_3 hI hl
      have hw := hw x2_3 x3_3 x4_3 S_3 hi_3
      refine lv_iload hx hb dX5_eats_16 (lv_at hl 4 rfl) ?_
      refine lv_bipush (v := 6) hx hb dX5_eats_18 (by decide) ?_
      refine lv_icmp_ge (tgt := 116) hx hb dX5_eats_20 (by decide) (fun hc_4 => ?_) (fun hc_4 => ?_)
      · have hw := hw.1 hc_4
        refine lv_aload_n hx hb dX5_eats_116 rfl (lv_at hl 0 rfl) ?_
        refine lv_iload_n hx hb dX5_eats_117 rfl (lv_at hl 1 rfl) ?_
        refine lv_iconst (v := 3) hx hb dX5_eats_118 (by decide) ?_
        refine lv_aload_n hx hb dX5_eats_119 rfl (lv_at hl 0 rfl) ?_
        refine lv_iload_n hx hb dX5_eats_120 rfl (lv_at hl 1 rfl) ?_
        refine lv_iconst (v := 3) hx hb dX5_eats_121 (by decide) ?_
        refine zt_calli (As := [.int p1, .int (3 : Int32)]) (rest := [.int (3 : Int32), .int p1, .ref g.2.1]) ⟨hx, hb, hml, hown, hts⟩ hI (zm_a l g p1 (3 : Int32) S_3 _ hw) (cwV 2 hts (lw_V q3797 q3799 qs55 q113 q3800) rfl rfl rfl hdT_a ⟨Nat.le_of_ble_eq_true rfl, Nat.le_of_ble_eq_true rfl⟩) rfl hl.1 rfl (lv_room (Nat.le_of_ble_eq_true rfl)) dX5_eats_122 ⟨Nat.le_refl _, Nat.le_refl _⟩ (fun r_6 S_5 H locs hw hI => ?_)
        refine lv_iload_n hx hb dX5_eats_125 rfl (lv_at hl 3 rfl) ?_
        refine lv_iadd hx hb dX5_eats_126 ?_
        refine zt_callv (As := [.int p1, .int (3 : Int32), .int (r_6 + x3_3)]) (rest := []) ⟨hx, hb, hml, hown, hts⟩ hI (zm_setAisle l g p1 (3 : Int32) (r_6 + x3_3) S_5 _ hw) (cwV 3 hts (lw_V q3816 q3818 qs58 q113 q3819) rfl rfl rfl hdT_setAisle ⟨Nat.le_of_ble_eq_true rfl, Nat.le_of_ble_eq_true rfl⟩) rfl hl.1 rfl (lv_room (Nat.le_of_ble_eq_true rfl)) dX5_eats_127 ⟨Nat.le_refl _, Nat.le_refl _⟩ (fun S_7 H locs hw hI => ?_)
        refine lv_aload_n hx hb dX5_eats_130 rfl (lv_at hl 0 rfl) ?_
        refine zt_get hx hb hts hown hI 1 (v := .ref g.2.2.1) (by decide) q3633 rfl rfl dX5_eats_131 ?_
        refine lv_iconst (v := 1) hx hb dX5_eats_134 (by decide) ?_
        refine lv_dup2_11 hx hb dX5_eats_135 rfl rfl ?_
        refine zt_ld1 hx hb hI hw.1 dX5_eats_136 ?_
        have hw := hw.2
        refine lv_iload_n hx hb dX5_eats_137 rfl (lv_at hl 3 rfl) ?_
        refine lv_iadd hx hb dX5_eats_138 ?_
        refine zt_st1 hx hb hI hw.1 dX5_eats_139 (fun H locs hI => ?_)
        obtain ⟨S_8, eS_8⟩ : ∃ z, z = zt_us S_7 1 (1 : Int32).toNatClampNeg ((S_7 1 (1 : Int32).toNatClampNeg) + x3_3) := ⟨_, rfl⟩
        rw [← eS_8] at hI
        have hw := hw.2 S_8 eS_8
        refine lv_iload_n hx hb dX5_eats_140 rfl (lv_at hl 3 rfl) ?_
        exact zt_iret hx hb hr hlk hI hw dX5_eats_141
      · have hw := hw.2 hc_4
        refine lv_aload_n hx hb dX5_eats_23 rfl (lv_at hl 0 rfl) ?_
        refine lv_iload_n hx hb dX5_eats_24 rfl (lv_at hl 1 rfl) ?_
        refine lv_iload hx hb dX5_eats_25 (lv_at hl 4 rfl) ?_
        refine zt_calli (As := [.int p1, .int x4_3]) (rest := []) ⟨hx, hb, hml, hown, hts⟩ hI (zm_heightOf l g p1 x4_3 S_3 _ hw) (cwV 2 hts (lw_V q3757 q3759 qs48 q113 q3760) rfl rfl rfl hdT_heightOf ⟨Nat.le_of_ble_eq_true rfl, Nat.le_of_ble_eq_true rfl⟩) rfl hl.1 rfl (lv_room (Nat.le_of_ble_eq_true rfl)) dX5_eats_27 ⟨Nat.le_refl _, Nat.le_refl _⟩ (fun r_10 S_9 H locs hw hI => ?_)
        refine lv_iconst (v := 1) hx hb dX5_eats_30 (by decide) ?_
        refine lv_isub hx hb dX5_eats_31 ?_
        refine lv_istore (lv' := [(5, .int (r_10 - (1 : Int32))), (0, .ref g.2.1), (1, .int p1), (2, .int x2_3), (3, .int x3_3), (4, .int x4_3)]) hx hb dX5_eats_32 hl (by decide) rfl (fun ls hl => ?_)
        obtain ⟨In_11, mu_11, h0_11, hw⟩ := hw
        have hL_11 : ∀ (n : Nat) (x2_11 : Int32) (x3_11 : Int32) (x5_11 : Int32) (S_11 : zt_S) (H : Heap) (locs : List Loc) (ls : Array Slot), mu_11 x2_11 x3_11 x5_11 S_11 < n → In_11 x2_11 x3_11 x5_11 S_11 → zt_I g S_11 s H locs → lv_has ls 8 [(0, .ref g.2.1), (1, .int p1), (2, .int x2_11), (3, .int x3_11), (4, .int x4_3), (5, .int x5_11)] → W p l e ({ frames := 2, cells := 0, slots := 0, locals := 49 } : Room) s m args below meth c H locs 0 0 (MQ below (va_Qi post (zt_B g) (zt_A g)) args s 0 0 (zt_A g)) (F0 m 34 ls []) := by
          intro n
          induction n with
          | zero => intro x2_11 x3_11 x5_11 S_11 H locs ls hn _ _ _; exact absurd hn (Nat.not_lt_zero _)
          | succ n ih_11 =>
            intro x2_11 x3_11 x5_11 S_11 H locs ls hn_11 hi_11 hI hl
            have hw := hw x2_11 x3_11 x5_11 S_11 hi_11
            refine lv_iload hx hb dX5_eats_34 (lv_at hl 5 rfl) ?_
            refine lv_if_lt (tgt := 110) hx hb dX5_eats_36 (by decide) (fun hc_12 => ?_) (fun hc_12 => ?_)
            · have hw := hw.1 hc_12
              refine lv_iinc (v := x4_3 + (1 : Int32)) (lv' := [(4, .int (x4_3 + (1 : Int32))), (0, .ref g.2.1), (1, .int p1), (2, .int x2_11), (3, .int x3_11), (5, .int x5_11)]) hx hb dX5_eats_110 hl (k := 4) rfl rfl (by decide) rfl (fun ls hl => ?_)
              refine lv_goto (tgt := 16) hx hb dX5_eats_113 (by decide) ?_
              exact ih_3 _ _ _ _ H locs ls (Nat.lt_of_lt_of_le hw.2 (Nat.le_of_lt_succ hn_3)) hw.1 hI (lv_sub hl [1, 2, 3, 4, 0] rfl)
            · have hw := hw.2 hc_12
              refine lv_iload_n hx hb dX5_eats_39 rfl (lv_at hl 2 rfl) ?_
              refine lv_if_le (tgt := 110) hx hb dX5_eats_40 (by decide) (fun hc_13 => ?_) (fun hc_13 => ?_)
              · have hw := hw.1 hc_13
                refine lv_iinc (v := x4_3 + (1 : Int32)) (lv' := [(4, .int (x4_3 + (1 : Int32))), (0, .ref g.2.1), (1, .int p1), (2, .int x2_11), (3, .int x3_11), (5, .int x5_11)]) hx hb dX5_eats_110 hl (k := 4) rfl rfl (by decide) rfl (fun ls hl => ?_)
                refine lv_goto (tgt := 16) hx hb dX5_eats_113 (by decide) ?_
                exact ih_3 _ _ _ _ H locs ls (Nat.lt_of_lt_of_le hw.2 (Nat.le_of_lt_succ hn_3)) hw.1 hI (lv_sub hl [1, 2, 3, 4, 0] rfl)
              · have hw := hw.2 hc_13
                refine lv_aload_n hx hb dX5_eats_43 rfl (lv_at hl 0 rfl) ?_
                refine lv_iload_n hx hb dX5_eats_44 rfl (lv_at hl 1 rfl) ?_
                refine lv_iload hx hb dX5_eats_45 (lv_at hl 4 rfl) ?_
                refine lv_iload hx hb dX5_eats_47 (lv_at hl 5 rfl) ?_
                refine zt_calli (As := [.int p1, .int x4_3, .int x5_11]) (rest := []) ⟨hx, hb, hml, hown, hts⟩ hI (zm_reamAt l g p1 x4_3 x5_11 S_11 _ hw) (cwV 3 hts (lw_V q3785 q3787 qs53 q113 q3788) rfl rfl rfl hdT_reamAt ⟨Nat.le_of_ble_eq_true rfl, Nat.le_of_ble_eq_true rfl⟩) rfl hl.1 rfl (lv_room (Nat.le_of_ble_eq_true rfl)) dX5_eats_49 ⟨Nat.le_refl _, Nat.le_refl _⟩ (fun r_15 S_14 H locs hw hI => ?_)
                refine lv_istore (lv' := [(6, .int r_15), (0, .ref g.2.1), (1, .int p1), (2, .int x2_11), (3, .int x3_11), (4, .int x4_3), (5, .int x5_11)]) hx hb dX5_eats_52 hl (by decide) rfl (fun ls hl => ?_)
                refine lv_iload_n hx hb dX5_eats_54 rfl (lv_at hl 3 rfl) ?_
                refine lv_aload_n hx hb dX5_eats_55 rfl (lv_at hl 1 rfl) ?_
                refine lv_iload hx hb dX5_eats_56 (lv_at hl 0 rfl) ?_
                refine lv_iconst (v := 2) hx hb dX5_eats_58 (by decide) ?_
                refine zt_calli (As := [.int r_15, .int (2 : Int32)]) (rest := [.int x2_11]) ⟨hx, hb, hml, hown, hts⟩ hI (zm_r l g r_15 (2 : Int32) S_14 _ hw) (cwV 2 hts (lw_V q3761 q3763 qs49 q113 q3764) rfl rfl rfl hdT_r ⟨Nat.le_of_ble_eq_true rfl, Nat.le_of_ble_eq_true rfl⟩) rfl hl.1 rfl (lv_room (Nat.le_of_ble_eq_true rfl)) dX5_eats_59 ⟨Nat.le_refl _, Nat.le_refl _⟩ (fun r_17 S_16 H locs hw hI => ?_)
                refine zt_callS (As := [.int x2_11, .int r_17]) (rest := []) ⟨hx, hb, hml, hown, hts⟩ (zm_least l x2_11 r_17 _ hw) (va_cwS 2 hts (lw_S q3828 q3829 q113 q3830) rfl rfl rfl hdT_least ⟨Nat.le_of_ble_eq_true rfl, Nat.le_of_ble_eq_true rfl⟩) rfl hl.1 rfl (lv_room (Nat.le_of_ble_eq_true rfl)) dX5_eats_62 ⟨Nat.le_refl _, Nat.le_refl _⟩ (fun r_18 hw => ?_)
                refine lv_istore (lv' := [(7, .int r_18), (6, .int r_15), (0, .ref g.2.1), (1, .int p1), (2, .int x2_11), (3, .int x3_11), (4, .int x4_3), (5, .int x5_11)]) hx hb dX5_eats_65 hl (by decide) rfl (fun ls hl => ?_)
                refine lv_aload_n hx hb dX5_eats_67 rfl (lv_at hl 2 rfl) ?_
                refine lv_iload hx hb dX5_eats_68 (lv_at hl 1 rfl) ?_
                refine lv_bipush (v := 7) hx hb dX5_eats_70 (by decide) ?_
                refine lv_aload_n hx hb dX5_eats_72 rfl (lv_at hl 2 rfl) ?_
                refine lv_iload hx hb dX5_eats_73 (lv_at hl 1 rfl) ?_
                refine lv_bipush (v := 7) hx hb dX5_eats_75 (by decide) ?_
                refine zt_calli (As := [.int r_15, .int (7 : Int32)]) (rest := [.int (7 : Int32), .int r_15, .ref g.2.1]) ⟨hx, hb, hml, hown, hts⟩ hI (zm_r l g r_15 (7 : Int32) S_16 _ hw) (cwV 2 hts (lw_V q3761 q3763 qs49 q113 q3764) rfl rfl rfl hdT_r ⟨Nat.le_of_ble_eq_true rfl, Nat.le_of_ble_eq_true rfl⟩) rfl hl.1 rfl (lv_room (Nat.le_of_ble_eq_true rfl)) dX5_eats_77 ⟨Nat.le_refl _, Nat.le_refl _⟩ (fun r_20 S_19 H locs hw hI => ?_)
                refine lv_iload hx hb dX5_eats_80 (lv_at hl 0 rfl) ?_
                refine lv_iadd hx hb dX5_eats_82 ?_
                refine zt_callv (As := [.int r_15, .int (7 : Int32), .int (r_20 + r_18)]) (rest := []) ⟨hx, hb, hml, hown, hts⟩ hI (zm_setReam l g r_15 (7 : Int32) (r_20 + r_18) S_19 _ hw) (cwV 3 hts (lw_V q3765 q3767 qs50 q113 q3768) rfl rfl rfl hdT_setReam ⟨Nat.le_of_ble_eq_true rfl, Nat.le_of_ble_eq_true rfl⟩) rfl hl.1 rfl (lv_room (Nat.le_of_ble_eq_true rfl)) dX5_eats_83 ⟨Nat.le_refl _, Nat.le_refl _⟩ (fun S_21 H locs hw hI => ?_)
                refine lv_aload_n hx hb dX5_eats_86 rfl (lv_at hl 2 rfl) ?_
                refine lv_iload hx hb dX5_eats_87 (lv_at hl 1 rfl) ?_
                refine lv_iload hx hb dX5_eats_89 (lv_at hl 0 rfl) ?_
                refine zt_callv (As := [.int r_15, .int r_18]) (rest := []) ⟨hx, hb, hml, hown, hts⟩ hI (zm_leave l g r_15 r_18 S_21 _ hw) (cwV 2 hts (lw_V q3859 q3861 qs64 q113 q3862) rfl rfl rfl hdT_leave ⟨Nat.le_of_ble_eq_true rfl, Nat.le_of_ble_eq_true rfl⟩) rfl hl.1 rfl (lv_room (Nat.le_of_ble_eq_true rfl)) dX5_eats_91 ⟨Nat.le_refl _, Nat.le_refl _⟩ (fun S_22 H locs hw hI => ?_)
                refine lv_iload_n hx hb dX5_eats_94 rfl (lv_at hl 4 rfl) ?_
                refine lv_iload hx hb dX5_eats_95 (lv_at hl 0 rfl) ?_
                refine lv_isub hx hb dX5_eats_97 ?_
                refine lv_istore_n (lv' := [(2, .int (x2_11 - r_18)), (7, .int r_18), (6, .int r_15), (0, .ref g.2.1), (1, .int p1), (3, .int x3_11), (4, .int x4_3), (5, .int x5_11)]) hx hb dX5_eats_98 rfl hl (by decide) rfl (fun ls hl => ?_)
                refine lv_iload_n hx hb dX5_eats_99 rfl (lv_at hl 5 rfl) ?_
                refine lv_iload hx hb dX5_eats_100 (lv_at hl 1 rfl) ?_
                refine lv_iadd hx hb dX5_eats_102 ?_
                refine lv_istore_n (lv' := [(3, .int (x3_11 + r_18)), (2, .int (x2_11 - r_18)), (7, .int r_18), (6, .int r_15), (0, .ref g.2.1), (1, .int p1), (4, .int x4_3), (5, .int x5_11)]) hx hb dX5_eats_103 rfl hl (by decide) rfl (fun ls hl => ?_)
                refine lv_iinc (v := x5_11 + (-1 : Int32)) (lv' := [(5, .int (x5_11 + (-1 : Int32))), (3, .int (x3_11 + r_18)), (2, .int (x2_11 - r_18)), (7, .int r_18), (6, .int r_15), (0, .ref g.2.1), (1, .int p1), (4, .int x4_3)]) hx hb dX5_eats_104 hl (k := 7) rfl rfl (by decide) rfl (fun ls hl => ?_)
                refine lv_goto (tgt := 34) hx hb dX5_eats_107 (by decide) ?_
                exact ih_11 _ _ _ _ H locs ls (Nat.lt_of_lt_of_le hw.2 (Nat.le_of_lt_succ hn_11)) hw.1 hI (lv_sub hl [5, 6, 2, 1, 7, 0] rfl)
        exact hL_11 _ _ _ _ _ H locs ls (Nat.lt_succ_self _) h0_11 hI (lv_sub hl [1, 2, 3, 4, 5, 0] rfl)
  exact hL_3 _ _ _ _ _ H locs ls (Nat.lt_succ_self _) h0_3 hI (lv_sub hl [3, 4, 2, 1, 0] rfl)
theorem hdT_eats : yX5_eats.cls = RX5 ∧ yX5_eats.cls ≠ "java/lang/invoke/MethodHandle" ∧ yX5_eats.cls ≠ "java/lang/invoke/VarHandle" ∧ (parseMethodDescriptor yX5_eats.desc).map (fun d => d.parameters.length) = some 1 := by decide +kernel
def zw_breed_31 (post : zt_S → Prop) (t0 : Int32) (v1 : Int32) (S : zt_S) : Prop :=
  zw_a v1 (2 : Int32) S (fun (r_6 : Int32) (S_5 : zt_S) => zw_least t0 ((2 : Int32) * r_6) (fun (r_7 : Int32) => zw_setAisle v1 (1 : Int32) (t0 - r_7) S_5 (fun (S_8 : zt_S) => zw_a v1 (4 : Int32) S_8 (fun (r_10 : Int32) (S_9 : zt_S) => zw_setAisle v1 (4 : Int32) (r_10 + r_7) S_9 (fun (S_11 : zt_S) => vp_in (4 : Int32) 3810 ∧ (vp_in (4 : Int32) 3810 ∧ ∀ S_12 : zt_S, S_12 = zt_us S_11 1 (4 : Int32).toNatClampNeg ((S_11 1 (4 : Int32).toNatClampNeg) + r_7) → (post S_12)))))))
set_option maxHeartbeats 4000000 in
theorem zj_breed_31 {p : Program} {l : Launch} {e : Env} {s : State} {m : MethodId} {args : Array Value} {below : List Frame} {meth : Method} {c : Code} {H : Heap} {locs : List Loc} {ls : Array Slot} (g : zt_G) (post : zt_S → Prop) (t0 : Int32) (v1 : Int32) (S : zt_S) (hC : zt_C p s m args meth c cX5_breed 5 none) (hw : zw_breed_31 post t0 v1 S) (hI : zt_I g S s H locs) (hl : lv_has ls 5 [(0, .ref g.2.1), (1, .int v1)]) : W p l e ({ frames := 1, cells := 0, slots := 0, locals := 23 } : Room) s m args below meth c H locs 0 0 (MQ below (va_Qv post (zt_B g) (zt_A g)) args s 0 0 (zt_A g)) (F0 m 31 ls [.int t0]) := by
  obtain ⟨hx, hb, hml, hown, hts, hr, hlk⟩ := hC
  unfold zw_breed_31 at hw
  refine lv_istore_n (lv' := [(3, .int t0), (0, .ref g.2.1), (1, .int v1)]) hx hb dX5_breed_31 rfl hl (by decide) rfl (fun ls hl => ?_)
  refine lv_iload_n hx hb dX5_breed_32 rfl (lv_at hl 0 rfl) ?_
  refine lv_iconst (v := 2) hx hb dX5_breed_33 (by decide) ?_
  refine lv_aload_n hx hb dX5_breed_34 rfl (lv_at hl 1 rfl) ?_
  refine lv_iload_n hx hb dX5_breed_35 rfl (lv_at hl 2 rfl) ?_
  refine lv_iconst (v := 2) hx hb dX5_breed_36 (by decide) ?_
  refine zt_calli (As := [.int v1, .int (2 : Int32)]) (rest := [.int (2 : Int32), .int t0]) ⟨hx, hb, hml, hown, hts⟩ hI (zm_a l g v1 (2 : Int32) S _ hw) (cwV 2 hts (lw_V q3797 q3799 qs55 q113 q3800) rfl rfl rfl hdT_a ⟨Nat.le_of_ble_eq_true rfl, Nat.le_of_ble_eq_true rfl⟩) rfl hl.1 rfl (lv_room (Nat.le_of_ble_eq_true rfl)) dX5_breed_37 ⟨Nat.le_refl _, Nat.le_refl _⟩ (fun r_6 S_5 H locs hw hI => ?_)
  refine lv_imul hx hb dX5_breed_40 ?_
  refine zt_callS (As := [.int t0, .int ((2 : Int32) * r_6)]) (rest := []) ⟨hx, hb, hml, hown, hts⟩ (zm_least l t0 ((2 : Int32) * r_6) _ hw) (va_cwS 2 hts (lw_S q3828 q3829 q113 q3830) rfl rfl rfl hdT_least ⟨Nat.le_of_ble_eq_true rfl, Nat.le_of_ble_eq_true rfl⟩) rfl hl.1 rfl (lv_room (Nat.le_of_ble_eq_true rfl)) dX5_breed_41 ⟨Nat.le_refl _, Nat.le_refl _⟩ (fun r_7 hw => ?_)
  refine lv_istore (lv' := [(4, .int r_7), (3, .int t0), (0, .ref g.2.1), (1, .int v1)]) hx hb dX5_breed_44 hl (by decide) rfl (fun ls hl => ?_)
  refine lv_aload_n hx hb dX5_breed_46 rfl (lv_at hl 2 rfl) ?_
  refine lv_iload_n hx hb dX5_breed_47 rfl (lv_at hl 3 rfl) ?_
  refine lv_iconst (v := 1) hx hb dX5_breed_48 (by decide) ?_
  refine lv_iload_n hx hb dX5_breed_49 rfl (lv_at hl 1 rfl) ?_
  refine lv_iload hx hb dX5_breed_50 (lv_at hl 0 rfl) ?_
  refine lv_isub hx hb dX5_breed_52 ?_
  refine zt_callv (As := [.int v1, .int (1 : Int32), .int (t0 - r_7)]) (rest := []) ⟨hx, hb, hml, hown, hts⟩ hI (zm_setAisle l g v1 (1 : Int32) (t0 - r_7) S_5 _ hw) (cwV 3 hts (lw_V q3816 q3818 qs58 q113 q3819) rfl rfl rfl hdT_setAisle ⟨Nat.le_of_ble_eq_true rfl, Nat.le_of_ble_eq_true rfl⟩) rfl hl.1 rfl (lv_room (Nat.le_of_ble_eq_true rfl)) dX5_breed_53 ⟨Nat.le_refl _, Nat.le_refl _⟩ (fun S_8 H locs hw hI => ?_)
  refine lv_aload_n hx hb dX5_breed_56 rfl (lv_at hl 2 rfl) ?_
  refine lv_iload_n hx hb dX5_breed_57 rfl (lv_at hl 3 rfl) ?_
  refine lv_iconst (v := 4) hx hb dX5_breed_58 (by decide) ?_
  refine lv_aload_n hx hb dX5_breed_59 rfl (lv_at hl 2 rfl) ?_
  refine lv_iload_n hx hb dX5_breed_60 rfl (lv_at hl 3 rfl) ?_
  refine lv_iconst (v := 4) hx hb dX5_breed_61 (by decide) ?_
  refine zt_calli (As := [.int v1, .int (4 : Int32)]) (rest := [.int (4 : Int32), .int v1, .ref g.2.1]) ⟨hx, hb, hml, hown, hts⟩ hI (zm_a l g v1 (4 : Int32) S_8 _ hw) (cwV 2 hts (lw_V q3797 q3799 qs55 q113 q3800) rfl rfl rfl hdT_a ⟨Nat.le_of_ble_eq_true rfl, Nat.le_of_ble_eq_true rfl⟩) rfl hl.1 rfl (lv_room (Nat.le_of_ble_eq_true rfl)) dX5_breed_62 ⟨Nat.le_refl _, Nat.le_refl _⟩ (fun r_10 S_9 H locs hw hI => ?_)
  refine lv_iload hx hb dX5_breed_65 (lv_at hl 0 rfl) ?_
  refine lv_iadd hx hb dX5_breed_67 ?_
  refine zt_callv (As := [.int v1, .int (4 : Int32), .int (r_10 + r_7)]) (rest := []) ⟨hx, hb, hml, hown, hts⟩ hI (zm_setAisle l g v1 (4 : Int32) (r_10 + r_7) S_9 _ hw) (cwV 3 hts (lw_V q3816 q3818 qs58 q113 q3819) rfl rfl rfl hdT_setAisle ⟨Nat.le_of_ble_eq_true rfl, Nat.le_of_ble_eq_true rfl⟩) rfl hl.1 rfl (lv_room (Nat.le_of_ble_eq_true rfl)) dX5_breed_68 ⟨Nat.le_refl _, Nat.le_refl _⟩ (fun S_11 H locs hw hI => ?_)
  refine lv_aload_n hx hb dX5_breed_71 rfl (lv_at hl 2 rfl) ?_
  refine zt_get hx hb hts hown hI 1 (v := .ref g.2.2.1) (by decide) q3633 rfl rfl dX5_breed_72 ?_
  refine lv_iconst (v := 4) hx hb dX5_breed_75 (by decide) ?_
  refine lv_dup2_11 hx hb dX5_breed_76 rfl rfl ?_
  refine zt_ld1 hx hb hI hw.1 dX5_breed_77 ?_
  have hw := hw.2
  refine lv_iload hx hb dX5_breed_78 (lv_at hl 0 rfl) ?_
  refine lv_iadd hx hb dX5_breed_80 ?_
  refine zt_st1 hx hb hI hw.1 dX5_breed_81 (fun H locs hI => ?_)
  obtain ⟨S_12, eS_12⟩ : ∃ z, z = zt_us S_11 1 (4 : Int32).toNatClampNeg ((S_11 1 (4 : Int32).toNatClampNeg) + r_7) := ⟨_, rfl⟩
  rw [← eS_12] at hI
  have hw := hw.2 S_12 eS_12
  exact zt_vret hx hb hr hlk hI hw dX5_breed_82
def zw_breed (p1 : Int32) (p2 : Int32) (S : zt_S) (post : zt_S → Prop) : Prop :=
  zw_a p1 (1 : Int32) S (fun (r_2 : Int32) (S_1 : zt_S) => (p2 = (0 : Int32) → (zw_most (0 : Int32) (r_2 - (1 : Int32)) (fun (r_4 : Int32) => zw_breed_31 post r_4 p1 S_1))) ∧ (¬ p2 = (0 : Int32) → (zw_least (40 : Int32) (r_2 + (r_2 / (4 : Int32))) (fun (r_13 : Int32) => zw_breed_31 post r_13 p1 S_1))))
set_option maxHeartbeats 4000000 in
theorem zm_breed (l : Launch) (g : zt_G) (p1 : Int32) (p2 : Int32) (S : zt_S) (post : zt_S → Prop) (hw : zw_breed p1 p2 S post) : Met l yX5_breed (ws_ yX5_breed cX5_breed 5 none) ({ frames := 1, cells := 0, slots := 0, locals := 23 } : Room) (va_Pc (.ref g.2.1 :: [.int p1, .int p2]) (zt_B g S)) (va_Qv post (zt_B g) (zt_A g)) 0 0 (zt_A g) := by
  refine zt_met (by decide) rfl (Nat.le_of_ble_eq_true rfl) (fun p e s m below meth c ls hC hI hl => ?_)
  generalize (Value.ref g.2.1 :: ([.int p1, .int p2] : List Value)).toArray = args at hC ⊢
  obtain ⟨hx, hb, hml, hown, hts, hr, hlk⟩ := hC
  have hl : lv_has ls 5 [(0, .ref g.2.1), (1, .int p1), (2, .int p2)] := hl
  unfold zw_breed at hw
  obtain ⟨H, eH⟩ : ∃ z, z = s.heap := ⟨_, rfl⟩
  obtain ⟨locs, elo⟩ : ∃ z : List Loc, z = [] := ⟨_, rfl⟩
  rw [← eH, ← elo] at hI ⊢
  refine lv_aload_n hx hb dX5_breed_0 rfl (lv_at hl 0 rfl) ?_
  refine lv_iload_n hx hb dX5_breed_1 rfl (lv_at hl 1 rfl) ?_
  refine lv_iconst (v := 1) hx hb dX5_breed_2 (by decide) ?_
  refine zt_calli (As := [.int p1, .int (1 : Int32)]) (rest := []) ⟨hx, hb, hml, hown, hts⟩ hI (zm_a l g p1 (1 : Int32) S _ hw) (cwV 2 hts (lw_V q3797 q3799 qs55 q113 q3800) rfl rfl rfl hdT_a ⟨Nat.le_of_ble_eq_true rfl, Nat.le_of_ble_eq_true rfl⟩) rfl hl.1 rfl (lv_room (Nat.le_of_ble_eq_true rfl)) dX5_breed_3 ⟨Nat.le_refl _, Nat.le_refl _⟩ (fun r_2 S_1 H locs hw hI => ?_)
  refine lv_istore_n (lv' := [(3, .int r_2), (0, .ref g.2.1), (1, .int p1), (2, .int p2)]) hx hb dX5_breed_6 rfl hl (by decide) rfl (fun ls hl => ?_)
  refine lv_iload_n hx hb dX5_breed_7 rfl (lv_at hl 3 rfl) ?_
  refine lv_if_eq (tgt := 24) hx hb dX5_breed_8 (by decide) (fun hc_3 => ?_) (fun hc_3 => ?_)
  · have hw := hw.1 hc_3
    refine lv_iconst (v := 0) hx hb dX5_breed_24 (by decide) ?_
    refine lv_iload_n hx hb dX5_breed_25 rfl (lv_at hl 0 rfl) ?_
    refine lv_iconst (v := 1) hx hb dX5_breed_26 (by decide) ?_
    refine lv_isub hx hb dX5_breed_27 ?_
    refine zt_callS (As := [.int (0 : Int32), .int (r_2 - (1 : Int32))]) (rest := []) ⟨hx, hb, hml, hown, hts⟩ (zm_most l (0 : Int32) (r_2 - (1 : Int32)) _ hw) (va_cwS 2 hts (lw_S q3801 q3802 q113 q3803) rfl rfl rfl hdT_most ⟨Nat.le_of_ble_eq_true rfl, Nat.le_of_ble_eq_true rfl⟩) rfl hl.1 rfl (lv_room (Nat.le_of_ble_eq_true rfl)) dX5_breed_28 ⟨Nat.le_refl _, Nat.le_refl _⟩ (fun r_4 hw => ?_)
    exact zj_breed_31 g post r_4 p1 S_1 ⟨hx, hb, hml, hown, hts, hr, hlk⟩ hw hI (lv_sub hl [1, 2] rfl)
  · have hw := hw.2 hc_3
    refine lv_bipush (v := 40) hx hb dX5_breed_11 (by decide) ?_
    refine lv_iload_n hx hb dX5_breed_13 rfl (lv_at hl 0 rfl) ?_
    refine lv_iload_n hx hb dX5_breed_14 rfl (lv_at hl 0 rfl) ?_
    refine lv_iconst (v := 4) hx hb dX5_breed_15 (by decide) ?_
    refine lv_idiv hx hb dX5_breed_16 (by decide) ?_
    refine lv_iadd hx hb dX5_breed_17 ?_
    refine zt_callS (As := [.int (40 : Int32), .int (r_2 + (r_2 / (4 : Int32)))]) (rest := []) ⟨hx, hb, hml, hown, hts⟩ (zm_least l (40 : Int32) (r_2 + (r_2 / (4 : Int32))) _ hw) (va_cwS 2 hts (lw_S q3828 q3829 q113 q3830) rfl rfl rfl hdT_least ⟨Nat.le_of_ble_eq_true rfl, Nat.le_of_ble_eq_true rfl⟩) rfl hl.1 rfl (lv_room (Nat.le_of_ble_eq_true rfl)) dX5_breed_18 ⟨Nat.le_refl _, Nat.le_refl _⟩ (fun r_13 hw => ?_)
    refine lv_goto (tgt := 31) hx hb dX5_breed_21 (by decide) ?_
    exact zj_breed_31 g post r_13 p1 S_1 ⟨hx, hb, hml, hown, hts, hr, hlk⟩ hw hI (lv_sub hl [1, 2] rfl)
theorem hdT_breed : yX5_breed.cls = RX5 ∧ yX5_breed.cls ≠ "java/lang/invoke/MethodHandle" ∧ yX5_breed.cls ≠ "java/lang/invoke/VarHandle" ∧ (parseMethodDescriptor yX5_breed.desc).map (fun d => d.parameters.length) = some 2 := by decide +kernel
def zw_dayGoes_105 (post : Int32 → zt_S → Prop) (hd83 : Int32 → Int32 → zt_S → Prop) (t0 : Int32) (t1 : Int32) (v1 : Int32) (v2 : Int32) (v3 : Int32) (S : zt_S) : Prop :=
  zw_breed t1 t0 S (fun (S_9 : zt_S) => hd83 (v1 + v3) (v2 + (1 : Int32)) S_9)
set_option maxHeartbeats 4000000 in
theorem zj_dayGoes_105 {p : Program} {l : Launch} {e : Env} {s : State} {m : MethodId} {args : Array Value} {below : List Frame} {meth : Method} {c : Code} {H : Heap} {locs : List Loc} {ls : Array Slot} (g : zt_G) (post : Int32 → zt_S → Prop) (hd83 : Int32 → Int32 → zt_S → Prop) (t0 : Int32) (t1 : Int32) (v1 : Int32) (v2 : Int32) (v3 : Int32) (S : zt_S) (hC : zt_C p s m args meth c cX5_dayGoes 4 (some .int)) (hw : zw_dayGoes_105 post hd83 t0 t1 v1 v2 v3 S) (hhd83 : ∀ (y0 : Int32) (y1 : Int32) (T : zt_S) (H : Heap) (locs : List Loc) (ls : Array Slot), hd83 y0 y1 T → zt_I g T s H locs → lv_has ls 4 [(0, .ref g.2.1), (1, .int y0), (2, .int y1)] → W p l e ({ frames := 3, cells := 0, slots := 0, locals := 76 } : Room) s m args below meth c H locs 0 0 (MQ below (va_Qi post (zt_B g) (zt_A g)) args s 0 0 (zt_A g)) (F0 m 83 ls [])) (hI : zt_I g S s H locs) (hl : lv_has ls 4 [(0, .ref g.2.1), (1, .int v1), (2, .int v2), (3, .int v3)]) : W p l e ({ frames := 3, cells := 0, slots := 0, locals := 76 } : Room) s m args below meth c H locs 0 0 (MQ below (va_Qi post (zt_B g) (zt_A g)) args s 0 0 (zt_A g)) (F0 m 105 ls [.int t0, .int t1, .ref g.2.1]) := by
  obtain ⟨hx, hb, hml, hown, hts, hr, hlk⟩ := hC
  unfold zw_dayGoes_105 at hw
  refine zt_callv (As := [.int t1, .int t0]) (rest := []) ⟨hx, hb, hml, hown, hts⟩ hI (zm_breed l g t1 t0 S _ hw) (cwV 2 hts (lw_V q3863 q3865 qs65 q113 q3866) rfl rfl rfl hdT_breed ⟨Nat.le_of_ble_eq_true rfl, Nat.le_of_ble_eq_true rfl⟩) rfl hl.1 rfl (lv_room (Nat.le_of_ble_eq_true rfl)) dX5_dayGoes_105 ⟨Nat.le_refl _, Nat.le_refl _⟩ (fun S_9 H locs hw hI => ?_)
  refine lv_iload_n hx hb dX5_dayGoes_108 rfl (lv_at hl 1 rfl) ?_
  refine lv_iload_n hx hb dX5_dayGoes_109 rfl (lv_at hl 3 rfl) ?_
  refine lv_iadd hx hb dX5_dayGoes_110 ?_
  refine lv_istore_n (lv' := [(1, .int (v1 + v3)), (0, .ref g.2.1), (2, .int v2), (3, .int v3)]) hx hb dX5_dayGoes_111 rfl hl (by decide) rfl (fun ls hl => ?_)
  refine lv_iinc (v := v2 + (1 : Int32)) (lv' := [(2, .int (v2 + (1 : Int32))), (1, .int (v1 + v3)), (0, .ref g.2.1), (3, .int v3)]) hx hb dX5_dayGoes_112 hl (k := 2) rfl rfl (by decide) rfl (fun ls hl => ?_)
  refine lv_goto (tgt := 83) hx hb dX5_dayGoes_115 (by decide) ?_
  exact hhd83 _ _ _ H locs ls hw hI (lv_sub hl [2, 1, 0] rfl)
def zw_dayGoes_70 (post : Int32 → zt_S → Prop) (hd2 : Int32 → zt_S → Prop) (t0 : Int32) (t1 : Int32) (t2 : Int32) (v1 : Int32) (S : zt_S) : Prop :=
  zw_setReam t2 t1 t0 S (fun (S_21 : zt_S) => hd2 (v1 + (1 : Int32)) S_21)
set_option maxHeartbeats 4000000 in
theorem zj_dayGoes_70 {p : Program} {l : Launch} {e : Env} {s : State} {m : MethodId} {args : Array Value} {below : List Frame} {meth : Method} {c : Code} {H : Heap} {locs : List Loc} {ls : Array Slot} (g : zt_G) (post : Int32 → zt_S → Prop) (hd2 : Int32 → zt_S → Prop) (t0 : Int32) (t1 : Int32) (t2 : Int32) (v1 : Int32) (S : zt_S) (hC : zt_C p s m args meth c cX5_dayGoes 4 (some .int)) (hw : zw_dayGoes_70 post hd2 t0 t1 t2 v1 S) (hhd2 : ∀ (y0 : Int32) (T : zt_S) (H : Heap) (locs : List Loc) (ls : Array Slot), hd2 y0 T → zt_I g T s H locs → lv_has ls 4 [(0, .ref g.2.1), (1, .int y0)] → W p l e ({ frames := 3, cells := 0, slots := 0, locals := 76 } : Room) s m args below meth c H locs 0 0 (MQ below (va_Qi post (zt_B g) (zt_A g)) args s 0 0 (zt_A g)) (F0 m 2 ls [])) (hI : zt_I g S s H locs) (hl : lv_has ls 4 [(0, .ref g.2.1), (1, .int v1)]) : W p l e ({ frames := 3, cells := 0, slots := 0, locals := 76 } : Room) s m args below meth c H locs 0 0 (MQ below (va_Qi post (zt_B g) (zt_A g)) args s 0 0 (zt_A g)) (F0 m 70 ls [.int t0, .int t1, .int t2, .ref g.2.1]) := by
  obtain ⟨hx, hb, hml, hown, hts, hr, hlk⟩ := hC
  unfold zw_dayGoes_70 at hw
  refine zt_callv (As := [.int t2, .int t1, .int t0]) (rest := []) ⟨hx, hb, hml, hown, hts⟩ hI (zm_setReam l g t2 t1 t0 S _ hw) (cwV 3 hts (lw_V q3765 q3767 qs50 q113 q3768) rfl rfl rfl hdT_setReam ⟨Nat.le_of_ble_eq_true rfl, Nat.le_of_ble_eq_true rfl⟩) rfl hl.1 rfl (lv_room (Nat.le_of_ble_eq_true rfl)) dX5_dayGoes_70 ⟨Nat.le_refl _, Nat.le_refl _⟩ (fun S_21 H locs hw hI => ?_)
  refine lv_iinc (v := v1 + (1 : Int32)) (lv' := [(1, .int (v1 + (1 : Int32))), (0, .ref g.2.1)]) hx hb dX5_dayGoes_73 hl (k := 1) rfl rfl (by decide) rfl (fun ls hl => ?_)
  refine lv_goto (tgt := 2) hx hb dX5_dayGoes_76 (by decide) ?_
  exact hhd2 _ _ H locs ls hw hI (lv_sub hl [1, 0] rfl)
def zw_dayGoes (S : zt_S) (post : Int32 → zt_S → Prop) : Prop :=
  ∃ (In_1 : Int32 → zt_S → Prop) (mu_1 : Int32 → zt_S → Nat), In_1 (0 : Int32) S ∧ ∀ (x1_1 : Int32) (S_1 : zt_S), In_1 x1_1 S_1 → (vp_in (5 : Int32) 3810 ∧ ((S_1 1 (5 : Int32).toNatClampNeg ≤ x1_1 → (∃ (In_3 : Int32 → Int32 → zt_S → Prop) (mu_3 : Int32 → Int32 → zt_S → Nat), In_3 (0 : Int32) (0 : Int32) S_1 ∧ ∀ (x1_3 : Int32) (x2_3 : Int32) (S_3 : zt_S), In_3 x1_3 x2_3 S_3 → (((5 : Int32) ≤ x2_3 → (vp_in (0 : Int32) 3810 ∧ (vp_in (0 : Int32) 3810 ∧ ∀ S_5 : zt_S, S_5 = zt_us S_3 1 (0 : Int32).toNatClampNeg ((S_3 1 (0 : Int32).toNatClampNeg) + (1 : Int32)) → (post x1_3 S_5)))) ∧ (¬ (5 : Int32) ≤ x2_3 → (zw_eats x2_3 S_3 (fun (r_7 : Int32) (S_6 : zt_S) => (r_7 ≤ (0 : Int32) → (zw_dayGoes_105 post (fun (y0 : Int32) (y1 : Int32) (T : zt_S) => In_3 y0 y1 T ∧ mu_3 y0 y1 T < mu_3 x1_3 x2_3 S_3) (0 : Int32) x2_3 x1_3 x2_3 r_7 S_6)) ∧ (¬ r_7 ≤ (0 : Int32) → (zw_dayGoes_105 post (fun (y0 : Int32) (y1 : Int32) (T : zt_S) => In_3 y0 y1 T ∧ mu_3 y0 y1 T < mu_3 x1_3 x2_3 S_3) (1 : Int32) x2_3 x1_3 x2_3 r_7 S_6)))))))) ∧ (¬ S_1 1 (5 : Int32).toNatClampNeg ≤ x1_1 → (zw_r x1_1 (4 : Int32) S_1 (fun (r_11 : Int32) (S_10 : zt_S) => (¬ r_11 = (-1 : Int32) → (zw_r x1_1 (4 : Int32) S_10 (fun (r_14 : Int32) (S_13 : zt_S) => zw_a r_14 (0 : Int32) S_13 (fun (r_16 : Int32) (S_15 : zt_S) => zw_r x1_1 (3 : Int32) S_15 (fun (r_18 : Int32) (S_17 : zt_S) => (r_16 ≤ r_18 → ((r_18 ≤ r_16 → (zw_dayGoes_70 post (fun (y0 : Int32) (T : zt_S) => In_1 y0 T ∧ mu_1 y0 T < mu_1 x1_1 S_1) r_18 (3 : Int32) x1_1 x1_1 S_17)) ∧ (¬ r_18 ≤ r_16 → (zw_dayGoes_70 post (fun (y0 : Int32) (T : zt_S) => In_1 y0 T ∧ mu_1 y0 T < mu_1 x1_1 S_1) (r_18 - (1 : Int32)) (3 : Int32) x1_1 x1_1 S_17)))) ∧ (¬ r_16 ≤ r_18 → (zw_dayGoes_70 post (fun (y0 : Int32) (T : zt_S) => In_1 y0 T ∧ mu_1 y0 T < mu_1 x1_1 S_1) (r_18 + (1 : Int32)) (3 : Int32) x1_1 x1_1 S_17))))))) ∧ (r_11 = (-1 : Int32) → (In_1 (x1_1 + (1 : Int32)) S_10 ∧ mu_1 (x1_1 + (1 : Int32)) S_10 < mu_1 x1_1 S_1)))))))
set_option maxHeartbeats 4000000 in
theorem zm_dayGoes (l : Launch) (g : zt_G) (S : zt_S) (post : Int32 → zt_S → Prop) (hw : zw_dayGoes S post) : Met l yX5_dayGoes (ws_ yX5_dayGoes cX5_dayGoes 4 (some .int)) ({ frames := 3, cells := 0, slots := 0, locals := 76 } : Room) (va_Pc (.ref g.2.1 :: []) (zt_B g S)) (va_Qi post (zt_B g) (zt_A g)) 0 0 (zt_A g) := by
  refine zt_met (by decide) rfl (Nat.le_of_ble_eq_true rfl) (fun p e s m below meth c ls hC hI hl => ?_)
  generalize (Value.ref g.2.1 :: ([] : List Value)).toArray = args at hC ⊢
  obtain ⟨hx, hb, hml, hown, hts, hr, hlk⟩ := hC
  have hl : lv_has ls 4 [(0, .ref g.2.1)] := hl
  unfold zw_dayGoes at hw
  obtain ⟨H, eH⟩ : ∃ z, z = s.heap := ⟨_, rfl⟩
  obtain ⟨locs, elo⟩ : ∃ z : List Loc, z = [] := ⟨_, rfl⟩
  rw [← eH, ← elo] at hI ⊢
  refine lv_iconst (v := 0) hx hb dX5_dayGoes_0 (by decide) ?_
  refine lv_istore_n (lv' := [(1, .int (0 : Int32)), (0, .ref g.2.1)]) hx hb dX5_dayGoes_1 rfl hl (by decide) rfl (fun ls hl => ?_)
  obtain ⟨In_1, mu_1, h0_1, hw⟩ := hw
  have hL_1 : ∀ (n : Nat) (x1_1 : Int32) (S_1 : zt_S) (H : Heap) (locs : List Loc) (ls : Array Slot), mu_1 x1_1 S_1 < n → In_1 x1_1 S_1 → zt_I g S_1 s H locs → lv_has ls 4 [(0, .ref g.2.1), (1, .int x1_1)] → W p l e ({ frames := 3, cells := 0, slots := 0, locals := 76 } : Room) s m args below meth c H locs 0 0 (MQ below (va_Qi post (zt_B g) (zt_A g)) args s 0 0 (zt_A g)) (F0 m 2 ls []) := by
    intro n
    induction n with
    | zero => intro x1_1 S_1 H locs ls hn _ _ _; exact absurd hn (Nat.not_lt_zero _)
    | succ n ih_1 =>
      intro x1_1 S_1 H locs ls hn_1 hi_1 hI hl
      have hw := hw x1_1 S_1 hi_1
      refine lv_iload_n hx hb dX5_dayGoes_2 rfl (lv_at hl 1 rfl) ?_
      refine lv_aload_n hx hb dX5_dayGoes_3 rfl (lv_at hl 0 rfl) ?_
      refine zt_get hx hb hts hown hI 1 (v := .ref g.2.2.1) (by decide) q3633 rfl rfl dX5_dayGoes_4 ?_
      refine lv_iconst (v := 5) hx hb dX5_dayGoes_7 (by decide) ?_
      refine zt_ld1 hx hb hI hw.1 dX5_dayGoes_8 ?_
      have hw := hw.2
      refine lv_icmp_ge (tgt := 79) hx hb dX5_dayGoes_9 (by decide) (fun hc_2 => ?_) (fun hc_2 => ?_)
      · have hw := hw.1 hc_2
        refine lv_iconst (v := 0) hx hb dX5_dayGoes_79 (by decide) ?_
        refine lv_istore_n (lv' := [(1, .int (0 : Int32)), (0, .ref g.2.1)]) hx hb dX5_dayGoes_80 rfl hl (by decide) rfl (fun ls hl => ?_)
        refine lv_iconst (v := 0) hx hb dX5_dayGoes_81 (by decide) ?_
        refine lv_istore_n (lv' := [(2, .int (0 : Int32)), (1, .int (0 : Int32)), (0, .ref g.2.1)]) hx hb dX5_dayGoes_82 rfl hl (by decide) rfl (fun ls hl => ?_)
        obtain ⟨In_3, mu_3, h0_3, hw⟩ := hw
        have hL_3 : ∀ (n : Nat) (x1_3 : Int32) (x2_3 : Int32) (S_3 : zt_S) (H : Heap) (locs : List Loc) (ls : Array Slot), mu_3 x1_3 x2_3 S_3 < n → In_3 x1_3 x2_3 S_3 → zt_I g S_3 s H locs → lv_has ls 4 [(0, .ref g.2.1), (1, .int x1_3), (2, .int x2_3)] → W p l e ({ frames := 3, cells := 0, slots := 0, locals := 76 } : Room) s m args below meth c H locs 0 0 (MQ below (va_Qi post (zt_B g) (zt_A g)) args s 0 0 (zt_A g)) (F0 m 83 ls []) := by
          intro n
          induction n with
          | zero => intro x1_3 x2_3 S_3 H locs ls hn _ _ _; exact absurd hn (Nat.not_lt_zero _)
          | succ n ih_3 =>
            intro x1_3 x2_3 S_3 H locs ls hn_3 hi_3 hI hl
            have hw := hw x1_3 x2_3 S_3 hi_3
            refine lv_iload_n hx hb dX5_dayGoes_83 rfl (lv_at hl 2 rfl) ?_
            refine lv_iconst (v := 5) hx hb dX5_dayGoes_84 (by decide) ?_
            refine lv_icmp_ge (tgt := 118) hx hb dX5_dayGoes_85 (by decide) (fun hc_4 => ?_) (fun hc_4 => ?_)
            · have hw := hw.1 hc_4
              refine lv_aload_n hx hb dX5_dayGoes_118 rfl (lv_at hl 0 rfl) ?_
              refine zt_get hx hb hts hown hI 1 (v := .ref g.2.2.1) (by decide) q3633 rfl rfl dX5_dayGoes_119 ?_
              refine lv_iconst (v := 0) hx hb dX5_dayGoes_122 (by decide) ?_
              refine lv_dup2_11 hx hb dX5_dayGoes_123 rfl rfl ?_
              refine zt_ld1 hx hb hI hw.1 dX5_dayGoes_124 ?_
              have hw := hw.2
              refine lv_iconst (v := 1) hx hb dX5_dayGoes_125 (by decide) ?_
              refine lv_iadd hx hb dX5_dayGoes_126 ?_
              refine zt_st1 hx hb hI hw.1 dX5_dayGoes_127 (fun H locs hI => ?_)
              obtain ⟨S_5, eS_5⟩ : ∃ z, z = zt_us S_3 1 (0 : Int32).toNatClampNeg ((S_3 1 (0 : Int32).toNatClampNeg) + (1 : Int32)) := ⟨_, rfl⟩
              rw [← eS_5] at hI
              have hw := hw.2 S_5 eS_5
              refine lv_iload_n hx hb dX5_dayGoes_128 rfl (lv_at hl 1 rfl) ?_
              exact zt_iret hx hb hr hlk hI hw dX5_dayGoes_129
            · have hw := hw.2 hc_4
              refine lv_aload_n hx hb dX5_dayGoes_88 rfl (lv_at hl 0 rfl) ?_
              refine lv_iload_n hx hb dX5_dayGoes_89 rfl (lv_at hl 2 rfl) ?_
              refine zt_calli (As := [.int x2_3]) (rest := []) ⟨hx, hb, hml, hown, hts⟩ hI (zm_eats l g x2_3 S_3 _ hw) (cwV 1 hts (lw_V q3855 q3857 qs63 q113 q3858) rfl rfl rfl hdT_eats ⟨Nat.le_of_ble_eq_true rfl, Nat.le_of_ble_eq_true rfl⟩) rfl hl.1 rfl (lv_room (Nat.le_of_ble_eq_true rfl)) dX5_dayGoes_90 ⟨Nat.le_refl _, Nat.le_refl _⟩ (fun r_7 S_6 H locs hw hI => ?_)
              refine lv_istore_n (lv' := [(3, .int r_7), (0, .ref g.2.1), (1, .int x1_3), (2, .int x2_3)]) hx hb dX5_dayGoes_93 rfl hl (by decide) rfl (fun ls hl => ?_)
              refine lv_aload_n hx hb dX5_dayGoes_94 rfl (lv_at hl 1 rfl) ?_
              refine lv_iload_n hx hb dX5_dayGoes_95 rfl (lv_at hl 3 rfl) ?_
              refine lv_iload_n hx hb dX5_dayGoes_96 rfl (lv_at hl 0 rfl) ?_
              refine lv_if_le (tgt := 104) hx hb dX5_dayGoes_97 (by decide) (fun hc_8 => ?_) (fun hc_8 => ?_)
              · have hw := hw.1 hc_8
                refine lv_iconst (v := 0) hx hb dX5_dayGoes_104 (by decide) ?_
                exact zj_dayGoes_105 g post (fun (y0 : Int32) (y1 : Int32) (T : zt_S) => In_3 y0 y1 T ∧ mu_3 y0 y1 T < mu_3 x1_3 x2_3 S_3) (0 : Int32) x2_3 x1_3 x2_3 r_7 S_6 ⟨hx, hb, hml, hown, hts, hr, hlk⟩ hw (fun _y0 _y1 _y2 H locs ls hw hI hl => ih_3 _ _ _ H locs ls (Nat.lt_of_lt_of_le hw.2 (Nat.le_of_lt_succ hn_3)) hw.1 hI hl) hI (lv_sub hl [1, 2, 3, 0] rfl)
              · have hw := hw.2 hc_8
                refine lv_iconst (v := 1) hx hb dX5_dayGoes_100 (by decide) ?_
                refine lv_goto (tgt := 105) hx hb dX5_dayGoes_101 (by decide) ?_
                exact zj_dayGoes_105 g post (fun (y0 : Int32) (y1 : Int32) (T : zt_S) => In_3 y0 y1 T ∧ mu_3 y0 y1 T < mu_3 x1_3 x2_3 S_3) (1 : Int32) x2_3 x1_3 x2_3 r_7 S_6 ⟨hx, hb, hml, hown, hts, hr, hlk⟩ hw (fun _y0 _y1 _y2 H locs ls hw hI hl => ih_3 _ _ _ H locs ls (Nat.lt_of_lt_of_le hw.2 (Nat.le_of_lt_succ hn_3)) hw.1 hI hl) hI (lv_sub hl [1, 2, 3, 0] rfl)
        exact hL_3 _ _ _ _ H locs ls (Nat.lt_succ_self _) h0_3 hI (lv_sub hl [2, 1, 0] rfl)
      · have hw := hw.2 hc_2
        refine lv_aload_n hx hb dX5_dayGoes_12 rfl (lv_at hl 0 rfl) ?_
        refine lv_iload_n hx hb dX5_dayGoes_13 rfl (lv_at hl 1 rfl) ?_
        refine lv_iconst (v := 4) hx hb dX5_dayGoes_14 (by decide) ?_
        refine zt_calli (As := [.int x1_1, .int (4 : Int32)]) (rest := []) ⟨hx, hb, hml, hown, hts⟩ hI (zm_r l g x1_1 (4 : Int32) S_1 _ hw) (cwV 2 hts (lw_V q3761 q3763 qs49 q113 q3764) rfl rfl rfl hdT_r ⟨Nat.le_of_ble_eq_true rfl, Nat.le_of_ble_eq_true rfl⟩) rfl hl.1 rfl (lv_room (Nat.le_of_ble_eq_true rfl)) dX5_dayGoes_15 ⟨Nat.le_refl _, Nat.le_refl _⟩ (fun r_11 S_10 H locs hw hI => ?_)
        refine lv_iconst (v := -1) hx hb dX5_dayGoes_18 (by decide) ?_
        refine lv_icmp_ne (tgt := 25) hx hb dX5_dayGoes_19 (by decide) (fun hc_12 => ?_) (fun hc_12 => ?_)
        · have hw := hw.1 hc_12
          refine lv_aload_n hx hb dX5_dayGoes_25 rfl (lv_at hl 0 rfl) ?_
          refine lv_aload_n hx hb dX5_dayGoes_26 rfl (lv_at hl 0 rfl) ?_
          refine lv_iload_n hx hb dX5_dayGoes_27 rfl (lv_at hl 1 rfl) ?_
          refine lv_iconst (v := 4) hx hb dX5_dayGoes_28 (by decide) ?_
          refine zt_calli (As := [.int x1_1, .int (4 : Int32)]) (rest := [.ref g.2.1]) ⟨hx, hb, hml, hown, hts⟩ hI (zm_r l g x1_1 (4 : Int32) S_10 _ hw) (cwV 2 hts (lw_V q3761 q3763 qs49 q113 q3764) rfl rfl rfl hdT_r ⟨Nat.le_of_ble_eq_true rfl, Nat.le_of_ble_eq_true rfl⟩) rfl hl.1 rfl (lv_room (Nat.le_of_ble_eq_true rfl)) dX5_dayGoes_29 ⟨Nat.le_refl _, Nat.le_refl _⟩ (fun r_14 S_13 H locs hw hI => ?_)
          refine lv_iconst (v := 0) hx hb dX5_dayGoes_32 (by decide) ?_
          refine zt_calli (As := [.int r_14, .int (0 : Int32)]) (rest := []) ⟨hx, hb, hml, hown, hts⟩ hI (zm_a l g r_14 (0 : Int32) S_13 _ hw) (cwV 2 hts (lw_V q3797 q3799 qs55 q113 q3800) rfl rfl rfl hdT_a ⟨Nat.le_of_ble_eq_true rfl, Nat.le_of_ble_eq_true rfl⟩) rfl hl.1 rfl (lv_room (Nat.le_of_ble_eq_true rfl)) dX5_dayGoes_33 ⟨Nat.le_refl _, Nat.le_refl _⟩ (fun r_16 S_15 H locs hw hI => ?_)
          refine lv_istore_n (lv' := [(2, .int r_16), (0, .ref g.2.1), (1, .int x1_1)]) hx hb dX5_dayGoes_36 rfl hl (by decide) rfl (fun ls hl => ?_)
          refine lv_aload_n hx hb dX5_dayGoes_37 rfl (lv_at hl 1 rfl) ?_
          refine lv_iload_n hx hb dX5_dayGoes_38 rfl (lv_at hl 2 rfl) ?_
          refine lv_iconst (v := 3) hx hb dX5_dayGoes_39 (by decide) ?_
          refine zt_calli (As := [.int x1_1, .int (3 : Int32)]) (rest := []) ⟨hx, hb, hml, hown, hts⟩ hI (zm_r l g x1_1 (3 : Int32) S_15 _ hw) (cwV 2 hts (lw_V q3761 q3763 qs49 q113 q3764) rfl rfl rfl hdT_r ⟨Nat.le_of_ble_eq_true rfl, Nat.le_of_ble_eq_true rfl⟩) rfl hl.1 rfl (lv_room (Nat.le_of_ble_eq_true rfl)) dX5_dayGoes_40 ⟨Nat.le_refl _, Nat.le_refl _⟩ (fun r_18 S_17 H locs hw hI => ?_)
          refine lv_istore_n (lv' := [(3, .int r_18), (2, .int r_16), (0, .ref g.2.1), (1, .int x1_1)]) hx hb dX5_dayGoes_43 rfl hl (by decide) rfl (fun ls hl => ?_)
          refine lv_aload_n hx hb dX5_dayGoes_44 rfl (lv_at hl 2 rfl) ?_
          refine lv_iload_n hx hb dX5_dayGoes_45 rfl (lv_at hl 3 rfl) ?_
          refine lv_iconst (v := 3) hx hb dX5_dayGoes_46 (by decide) ?_
          refine lv_iload_n hx hb dX5_dayGoes_47 rfl (lv_at hl 0 rfl) ?_
          refine lv_iload_n hx hb dX5_dayGoes_48 rfl (lv_at hl 1 rfl) ?_
          refine lv_icmp_ge (tgt := 58) hx hb dX5_dayGoes_49 (by decide) (fun hc_19 => ?_) (fun hc_19 => ?_)
          · have hw := hw.1 hc_19
            refine lv_iload_n hx hb dX5_dayGoes_58 rfl (lv_at hl 0 rfl) ?_
            refine lv_iload_n hx hb dX5_dayGoes_59 rfl (lv_at hl 1 rfl) ?_
            refine lv_icmp_le (tgt := 69) hx hb dX5_dayGoes_60 (by decide) (fun hc_20 => ?_) (fun hc_20 => ?_)
            · have hw := hw.1 hc_20
              refine lv_iload_n hx hb dX5_dayGoes_69 rfl (lv_at hl 0 rfl) ?_
              exact zj_dayGoes_70 g post (fun (y0 : Int32) (T : zt_S) => In_1 y0 T ∧ mu_1 y0 T < mu_1 x1_1 S_1) r_18 (3 : Int32) x1_1 x1_1 S_17 ⟨hx, hb, hml, hown, hts, hr, hlk⟩ hw (fun _y0 _y1 H locs ls hw hI hl => ih_1 _ _ H locs ls (Nat.lt_of_lt_of_le hw.2 (Nat.le_of_lt_succ hn_1)) hw.1 hI hl) hI (lv_sub hl [2, 3] rfl)
            · have hw := hw.2 hc_20
              refine lv_iload_n hx hb dX5_dayGoes_63 rfl (lv_at hl 0 rfl) ?_
              refine lv_iconst (v := 1) hx hb dX5_dayGoes_64 (by decide) ?_
              refine lv_isub hx hb dX5_dayGoes_65 ?_
              refine lv_goto (tgt := 70) hx hb dX5_dayGoes_66 (by decide) ?_
              exact zj_dayGoes_70 g post (fun (y0 : Int32) (T : zt_S) => In_1 y0 T ∧ mu_1 y0 T < mu_1 x1_1 S_1) (r_18 - (1 : Int32)) (3 : Int32) x1_1 x1_1 S_17 ⟨hx, hb, hml, hown, hts, hr, hlk⟩ hw (fun _y0 _y1 H locs ls hw hI hl => ih_1 _ _ H locs ls (Nat.lt_of_lt_of_le hw.2 (Nat.le_of_lt_succ hn_1)) hw.1 hI hl) hI (lv_sub hl [2, 3] rfl)
          · have hw := hw.2 hc_19
            refine lv_iload_n hx hb dX5_dayGoes_52 rfl (lv_at hl 0 rfl) ?_
            refine lv_iconst (v := 1) hx hb dX5_dayGoes_53 (by decide) ?_
            refine lv_iadd hx hb dX5_dayGoes_54 ?_
            refine lv_goto (tgt := 70) hx hb dX5_dayGoes_55 (by decide) ?_
            exact zj_dayGoes_70 g post (fun (y0 : Int32) (T : zt_S) => In_1 y0 T ∧ mu_1 y0 T < mu_1 x1_1 S_1) (r_18 + (1 : Int32)) (3 : Int32) x1_1 x1_1 S_17 ⟨hx, hb, hml, hown, hts, hr, hlk⟩ hw (fun _y0 _y1 H locs ls hw hI hl => ih_1 _ _ H locs ls (Nat.lt_of_lt_of_le hw.2 (Nat.le_of_lt_succ hn_1)) hw.1 hI hl) hI (lv_sub hl [2, 3] rfl)
        · have hw := hw.2 hc_12
          refine lv_goto (tgt := 73) hx hb dX5_dayGoes_22 (by decide) ?_
          refine lv_iinc (v := x1_1 + (1 : Int32)) (lv' := [(1, .int (x1_1 + (1 : Int32))), (0, .ref g.2.1)]) hx hb dX5_dayGoes_73 hl (k := 1) rfl rfl (by decide) rfl (fun ls hl => ?_)
          refine lv_goto (tgt := 2) hx hb dX5_dayGoes_76 (by decide) ?_
          exact ih_1 _ _ H locs ls (Nat.lt_of_lt_of_le hw.2 (Nat.le_of_lt_succ hn_1)) hw.1 hI (lv_sub hl [1, 0] rfl)
  exact hL_1 _ _ _ H locs ls (Nat.lt_succ_self _) h0_1 hI (lv_sub hl [1, 0] rfl)
theorem hdT_dayGoes : yX5_dayGoes.cls = RX5 ∧ yX5_dayGoes.cls ≠ "java/lang/invoke/MethodHandle" ∧ yX5_dayGoes.cls ≠ "java/lang/invoke/VarHandle" ∧ (parseMethodDescriptor yX5_dayGoes.desc).map (fun d => d.parameters.length) = some 0 := by decide +kernel
def zw_eatenIn_23 (post : Int32 → zt_S → Prop) (t0 : Int32) (v1 : Int32) (v2 : Int32) (S : zt_S) : Prop :=
  ∀ S_3 : zt_S, S_3 = zt_us S 0 0 t0 → ((S_3 0 0 = (0 : Int32) → (zw_copies (0 : Int32) (9 : Int32) S_3 (fun (S_5 : zt_S) => zw_a v1 (3 : Int32) S_5 (fun (r_7 : Int32) (S_6 : zt_S) => ∃ (In_8 : Int32 → zt_S → Prop) (mu_8 : Int32 → zt_S → Nat), In_8 (0 : Int32) S_6 ∧ ∀ (x4_8 : Int32) (S_8 : zt_S), In_8 x4_8 S_8 → ((v2 ≤ x4_8 → (zw_a v1 (3 : Int32) S_8 (fun (r_11 : Int32) (S_10 : zt_S) => zw_copies (9 : Int32) (0 : Int32) S_10 (fun (S_12 : zt_S) => post (r_11 - r_7) S_12)))) ∧ (¬ v2 ≤ x4_8 → (zw_dayGoes S_8 (fun (r_14 : Int32) (S_13 : zt_S) => In_8 (x4_8 + (1 : Int32)) S_13 ∧ mu_8 (x4_8 + (1 : Int32)) S_13 < mu_8 x4_8 S_8)))))))) ∧ (¬ S_3 0 0 = (0 : Int32) → (post (0 : Int32) S_3)))
set_option maxHeartbeats 4000000 in
theorem zj_eatenIn_23 {p : Program} {l : Launch} {e : Env} {s : State} {m : MethodId} {args : Array Value} {below : List Frame} {meth : Method} {c : Code} {H : Heap} {locs : List Loc} {ls : Array Slot} (g : zt_G) (post : Int32 → zt_S → Prop) (t0 : Int32) (v1 : Int32) (v2 : Int32) (S : zt_S) (hC : zt_C p s m args meth c cX5_eatenIn 6 (some .int)) (hw : zw_eatenIn_23 post t0 v1 v2 S) (hI : zt_I g S s H locs) (hl : lv_has ls 6 [(0, .ref g.2.1), (1, .int v1), (2, .int v2)]) : W p l e ({ frames := 4, cells := 0, slots := 0, locals := 99 } : Room) s m args below meth c H locs 0 0 (MQ below (va_Qi post (zt_B g) (zt_A g)) args s 0 0 (zt_A g)) (F0 m 23 ls [.int t0, .ref g.2.1]) := by
  obtain ⟨hx, hb, hml, hown, hts, hr, hlk⟩ := hC
  unfold zw_eatenIn_23 at hw
  refine zt_put hx hb hts hown hI 0 (v := t0) (ty := .int) (by decide) q3632 rfl rfl (by decide +kernel) rfl rfl rfl dX5_eatenIn_23 (fun H locs hI => ?_)
  obtain ⟨S_3, eS_3⟩ : ∃ z, z = zt_us S 0 0 t0 := ⟨_, rfl⟩
  rw [← eS_3] at hI
  have hw := hw S_3 eS_3
  refine lv_aload_n hx hb dX5_eatenIn_26 rfl (lv_at hl 0 rfl) ?_
  refine zt_get hx hb hts hown hI 0 (v := .int (S_3 0 0)) (by decide) q3632 rfl rfl dX5_eatenIn_27 ?_
  refine lv_if_eq (tgt := 35) hx hb dX5_eatenIn_30 (by decide) (fun hc_4 => ?_) (fun hc_4 => ?_)
  · have hw := hw.1 hc_4
    refine lv_aload_n hx hb dX5_eatenIn_35 rfl (lv_at hl 0 rfl) ?_
    refine lv_iconst (v := 0) hx hb dX5_eatenIn_36 (by decide) ?_
    refine lv_bipush (v := 9) hx hb dX5_eatenIn_37 (by decide) ?_
    refine zt_callv (As := [.int (0 : Int32), .int (9 : Int32)]) (rest := []) ⟨hx, hb, hml, hown, hts⟩ hI (zm_copies l g (0 : Int32) (9 : Int32) S_3 _ hw) (cwV 2 hts (lw_V q3704 q3706 qs40 q113 q3707) rfl rfl rfl hdT_copies ⟨Nat.le_of_ble_eq_true rfl, Nat.le_of_ble_eq_true rfl⟩) rfl hl.1 rfl (lv_room (Nat.le_of_ble_eq_true rfl)) dX5_eatenIn_39 ⟨Nat.le_refl _, Nat.le_refl _⟩ (fun S_5 H locs hw hI => ?_)
    refine lv_aload_n hx hb dX5_eatenIn_42 rfl (lv_at hl 0 rfl) ?_
    refine lv_iload_n hx hb dX5_eatenIn_43 rfl (lv_at hl 1 rfl) ?_
    refine lv_iconst (v := 3) hx hb dX5_eatenIn_44 (by decide) ?_
    refine zt_calli (As := [.int v1, .int (3 : Int32)]) (rest := []) ⟨hx, hb, hml, hown, hts⟩ hI (zm_a l g v1 (3 : Int32) S_5 _ hw) (cwV 2 hts (lw_V q3797 q3799 qs55 q113 q3800) rfl rfl rfl hdT_a ⟨Nat.le_of_ble_eq_true rfl, Nat.le_of_ble_eq_true rfl⟩) rfl hl.1 rfl (lv_room (Nat.le_of_ble_eq_true rfl)) dX5_eatenIn_45 ⟨Nat.le_refl _, Nat.le_refl _⟩ (fun r_7 S_6 H locs hw hI => ?_)
    refine lv_istore_n (lv' := [(3, .int r_7), (0, .ref g.2.1), (1, .int v1), (2, .int v2)]) hx hb dX5_eatenIn_48 rfl hl (by decide) rfl (fun ls hl => ?_)
    refine lv_iconst (v := 0) hx hb dX5_eatenIn_49 (by decide) ?_
    refine lv_istore (lv' := [(4, .int (0 : Int32)), (3, .int r_7), (0, .ref g.2.1), (1, .int v1), (2, .int v2)]) hx hb dX5_eatenIn_50 hl (by decide) rfl (fun ls hl => ?_)
    obtain ⟨In_8, mu_8, h0_8, hw⟩ := hw
    have hL_8 : ∀ (n : Nat) (x4_8 : Int32) (S_8 : zt_S) (H : Heap) (locs : List Loc) (ls : Array Slot), mu_8 x4_8 S_8 < n → In_8 x4_8 S_8 → zt_I g S_8 s H locs → lv_has ls 6 [(0, .ref g.2.1), (1, .int v1), (2, .int v2), (3, .int r_7), (4, .int x4_8)] → W p l e ({ frames := 4, cells := 0, slots := 0, locals := 99 } : Room) s m args below meth c H locs 0 0 (MQ below (va_Qi post (zt_B g) (zt_A g)) args s 0 0 (zt_A g)) (F0 m 52 ls []) := by
      intro n
      induction n with
      | zero => intro x4_8 S_8 H locs ls hn _ _ _; exact absurd hn (Nat.not_lt_zero _)
      | succ n ih_8 =>
        intro x4_8 S_8 H locs ls hn_8 hi_8 hI hl
        have hw := hw x4_8 S_8 hi_8
        refine lv_iload hx hb dX5_eatenIn_52 (lv_at hl 4 rfl) ?_
        refine lv_iload_n hx hb dX5_eatenIn_54 rfl (lv_at hl 2 rfl) ?_
        refine lv_icmp_ge (tgt := 70) hx hb dX5_eatenIn_55 (by decide) (fun hc_9 => ?_) (fun hc_9 => ?_)
        · have hw := hw.1 hc_9
          refine lv_aload_n hx hb dX5_eatenIn_70 rfl (lv_at hl 0 rfl) ?_
          refine lv_iload_n hx hb dX5_eatenIn_71 rfl (lv_at hl 1 rfl) ?_
          refine lv_iconst (v := 3) hx hb dX5_eatenIn_72 (by decide) ?_
          refine zt_calli (As := [.int v1, .int (3 : Int32)]) (rest := []) ⟨hx, hb, hml, hown, hts⟩ hI (zm_a l g v1 (3 : Int32) S_8 _ hw) (cwV 2 hts (lw_V q3797 q3799 qs55 q113 q3800) rfl rfl rfl hdT_a ⟨Nat.le_of_ble_eq_true rfl, Nat.le_of_ble_eq_true rfl⟩) rfl hl.1 rfl (lv_room (Nat.le_of_ble_eq_true rfl)) dX5_eatenIn_73 ⟨Nat.le_refl _, Nat.le_refl _⟩ (fun r_11 S_10 H locs hw hI => ?_)
          refine lv_iload_n hx hb dX5_eatenIn_76 rfl (lv_at hl 3 rfl) ?_
          refine lv_isub hx hb dX5_eatenIn_77 ?_
          refine lv_istore (lv' := [(4, .int (r_11 - r_7)), (0, .ref g.2.1), (1, .int v1), (2, .int v2), (3, .int r_7)]) hx hb dX5_eatenIn_78 hl (by decide) rfl (fun ls hl => ?_)
          refine lv_aload_n hx hb dX5_eatenIn_80 rfl (lv_at hl 1 rfl) ?_
          refine lv_bipush (v := 9) hx hb dX5_eatenIn_81 (by decide) ?_
          refine lv_iconst (v := 0) hx hb dX5_eatenIn_83 (by decide) ?_
          refine zt_callv (As := [.int (9 : Int32), .int (0 : Int32)]) (rest := []) ⟨hx, hb, hml, hown, hts⟩ hI (zm_copies l g (9 : Int32) (0 : Int32) S_10 _ hw) (cwV 2 hts (lw_V q3704 q3706 qs40 q113 q3707) rfl rfl rfl hdT_copies ⟨Nat.le_of_ble_eq_true rfl, Nat.le_of_ble_eq_true rfl⟩) rfl hl.1 rfl (lv_room (Nat.le_of_ble_eq_true rfl)) dX5_eatenIn_84 ⟨Nat.le_refl _, Nat.le_refl _⟩ (fun S_12 H locs hw hI => ?_)
          refine lv_iload hx hb dX5_eatenIn_87 (lv_at hl 0 rfl) ?_
          exact zt_iret hx hb hr hlk hI hw dX5_eatenIn_89
        · have hw := hw.2 hc_9
          refine lv_aload_n hx hb dX5_eatenIn_58 rfl (lv_at hl 0 rfl) ?_
          refine zt_calli (As := []) (rest := []) ⟨hx, hb, hml, hown, hts⟩ hI (zm_dayGoes l g S_8 _ hw) (cwV 0 hts (lw_V q3851 q3853 qs62 q113 q3854) rfl rfl rfl hdT_dayGoes ⟨Nat.le_of_ble_eq_true rfl, Nat.le_of_ble_eq_true rfl⟩) rfl hl.1 rfl (lv_room (Nat.le_of_ble_eq_true rfl)) dX5_eatenIn_59 ⟨Nat.le_refl _, Nat.le_refl _⟩ (fun r_14 S_13 H locs hw hI => ?_)
          refine lv_istore (lv' := [(5, .int r_14), (0, .ref g.2.1), (1, .int v1), (2, .int v2), (3, .int r_7), (4, .int x4_8)]) hx hb dX5_eatenIn_62 hl (by decide) rfl (fun ls hl => ?_)
          refine lv_iinc (v := x4_8 + (1 : Int32)) (lv' := [(4, .int (x4_8 + (1 : Int32))), (5, .int r_14), (0, .ref g.2.1), (1, .int v1), (2, .int v2), (3, .int r_7)]) hx hb dX5_eatenIn_64 hl (k := 5) rfl rfl (by decide) rfl (fun ls hl => ?_)
          refine lv_goto (tgt := 52) hx hb dX5_eatenIn_67 (by decide) ?_
          exact ih_8 _ _ H locs ls (Nat.lt_of_lt_of_le hw.2 (Nat.le_of_lt_succ hn_8)) hw.1 hI (lv_sub hl [2, 3, 4, 5, 0] rfl)
    exact hL_8 _ _ _ H locs ls (Nat.lt_succ_self _) h0_8 hI (lv_sub hl [2, 3, 4, 1, 0] rfl)
  · have hw := hw.2 hc_4
    refine lv_iconst (v := 0) hx hb dX5_eatenIn_33 (by decide) ?_
    exact zt_iret hx hb hr hlk hI hw dX5_eatenIn_34
def zw_eatenIn_22 (post : Int32 → zt_S → Prop) (v1 : Int32) (v2 : Int32) (S : zt_S) : Prop :=
  zw_eatenIn_23 post (1 : Int32) v1 v2 S
set_option maxHeartbeats 4000000 in
theorem zj_eatenIn_22 {p : Program} {l : Launch} {e : Env} {s : State} {m : MethodId} {args : Array Value} {below : List Frame} {meth : Method} {c : Code} {H : Heap} {locs : List Loc} {ls : Array Slot} (g : zt_G) (post : Int32 → zt_S → Prop) (v1 : Int32) (v2 : Int32) (S : zt_S) (hC : zt_C p s m args meth c cX5_eatenIn 6 (some .int)) (hw : zw_eatenIn_22 post v1 v2 S) (hI : zt_I g S s H locs) (hl : lv_has ls 6 [(0, .ref g.2.1), (1, .int v1), (2, .int v2)]) : W p l e ({ frames := 4, cells := 0, slots := 0, locals := 99 } : Room) s m args below meth c H locs 0 0 (MQ below (va_Qi post (zt_B g) (zt_A g)) args s 0 0 (zt_A g)) (F0 m 22 ls [.ref g.2.1]) := by
  obtain ⟨hx, hb, hml, hown, hts, hr, hlk⟩ := hC
  unfold zw_eatenIn_22 at hw
  refine lv_iconst (v := 1) hx hb dX5_eatenIn_22 (by decide) ?_
  exact zj_eatenIn_23 g post (1 : Int32) v1 v2 S ⟨hx, hb, hml, hown, hts, hr, hlk⟩ hw hI (lv_sub hl [0, 1, 2] rfl)
def zw_eatenIn (p1 : Int32) (p2 : Int32) (S : zt_S) (post : Int32 → zt_S → Prop) : Prop :=
  zw_isAisle p1 (fun (r_1 : Int32) => (r_1 = (0 : Int32) → (zw_eatenIn_22 post p1 p2 S)) ∧ (¬ r_1 = (0 : Int32) → (zw_in p2 (0 : Int32) (30 : Int32) (fun (r_15 : Int32) => (r_15 = (0 : Int32) → (zw_eatenIn_22 post p1 p2 S)) ∧ (¬ r_15 = (0 : Int32) → (zw_eatenIn_23 post (0 : Int32) p1 p2 S))))))
set_option maxHeartbeats 4000000 in
theorem zm_eatenIn (l : Launch) (g : zt_G) (p1 : Int32) (p2 : Int32) (S : zt_S) (post : Int32 → zt_S → Prop) (hw : zw_eatenIn p1 p2 S post) : Met l yX5_eatenIn (ws_ yX5_eatenIn cX5_eatenIn 6 (some .int)) ({ frames := 4, cells := 0, slots := 0, locals := 99 } : Room) (va_Pc (.ref g.2.1 :: [.int p1, .int p2]) (zt_B g S)) (va_Qi post (zt_B g) (zt_A g)) 0 0 (zt_A g) := by
  refine zt_met (by decide) rfl (Nat.le_of_ble_eq_true rfl) (fun p e s m below meth c ls hC hI hl => ?_)
  generalize (Value.ref g.2.1 :: ([.int p1, .int p2] : List Value)).toArray = args at hC ⊢
  obtain ⟨hx, hb, hml, hown, hts, hr, hlk⟩ := hC
  have hl : lv_has ls 6 [(0, .ref g.2.1), (1, .int p1), (2, .int p2)] := hl
  unfold zw_eatenIn at hw
  obtain ⟨H, eH⟩ : ∃ z, z = s.heap := ⟨_, rfl⟩
  obtain ⟨locs, elo⟩ : ∃ z : List Loc, z = [] := ⟨_, rfl⟩
  rw [← eH, ← elo] at hI ⊢
  refine lv_aload_n hx hb dX5_eatenIn_0 rfl (lv_at hl 0 rfl) ?_
  refine lv_iload_n hx hb dX5_eatenIn_1 rfl (lv_at hl 1 rfl) ?_
  refine zt_callS (As := [.int p1]) (rest := [.ref g.2.1]) ⟨hx, hb, hml, hown, hts⟩ (zm_isAisle l p1 _ hw) (va_cwS 1 hts (lw_S q3732 q3733 q113 q3734) rfl rfl rfl hdT_isAisle ⟨Nat.le_of_ble_eq_true rfl, Nat.le_of_ble_eq_true rfl⟩) rfl hl.1 rfl (lv_room (Nat.le_of_ble_eq_true rfl)) dX5_eatenIn_2 ⟨Nat.le_refl _, Nat.le_refl _⟩ (fun r_1 hw => ?_)
  refine lv_if_eq (tgt := 22) hx hb dX5_eatenIn_5 (by decide) (fun hc_2 => ?_) (fun hc_2 => ?_)
  · have hw := hw.1 hc_2
    exact zj_eatenIn_22 g post p1 p2 S ⟨hx, hb, hml, hown, hts, hr, hlk⟩ hw hI (lv_sub hl [0, 1, 2] rfl)
  · have hw := hw.2 hc_2
    refine lv_iload_n hx hb dX5_eatenIn_8 rfl (lv_at hl 2 rfl) ?_
    refine lv_iconst (v := 0) hx hb dX5_eatenIn_9 (by decide) ?_
    refine lv_bipush (v := 30) hx hb dX5_eatenIn_10 (by decide) ?_
    refine zt_callS (As := [.int p2, .int (0 : Int32), .int (30 : Int32)]) (rest := [.ref g.2.1]) ⟨hx, hb, hml, hown, hts⟩ (zm_in l p2 (0 : Int32) (30 : Int32) _ hw) (va_cwS 3 hts (lw_S q3693 q3694 q113 q3695) rfl rfl rfl hdT_in ⟨Nat.le_of_ble_eq_true rfl, Nat.le_of_ble_eq_true rfl⟩) rfl hl.1 rfl (lv_room (Nat.le_of_ble_eq_true rfl)) dX5_eatenIn_12 ⟨Nat.le_refl _, Nat.le_refl _⟩ (fun r_15 hw => ?_)
    refine lv_if_eq (tgt := 22) hx hb dX5_eatenIn_15 (by decide) (fun hc_16 => ?_) (fun hc_16 => ?_)
    · have hw := hw.1 hc_16
      exact zj_eatenIn_22 g post p1 p2 S ⟨hx, hb, hml, hown, hts, hr, hlk⟩ hw hI (lv_sub hl [0, 1, 2] rfl)
    · have hw := hw.2 hc_16
      refine lv_iconst (v := 0) hx hb dX5_eatenIn_18 (by decide) ?_
      refine lv_goto (tgt := 23) hx hb dX5_eatenIn_19 (by decide) ?_
      exact zj_eatenIn_23 g post (0 : Int32) p1 p2 S ⟨hx, hb, hml, hown, hts, hr, hlk⟩ hw hI (lv_sub hl [0, 1, 2] rfl)
theorem hdT_eatenIn : yX5_eatenIn.cls = RX5 ∧ yX5_eatenIn.cls ≠ "java/lang/invoke/MethodHandle" ∧ yX5_eatenIn.cls ≠ "java/lang/invoke/VarHandle" ∧ (parseMethodDescriptor yX5_eatenIn.desc).map (fun d => d.parameters.length) = some 2 := by decide +kernel
def zw_isAhead (p1 : Int32) (p2 : Int32) (S : zt_S) (post : Int32 → zt_S → Prop) : Prop :=
  zw_reamsAt p1 (1 : Int32) S (fun (r_2 : Int32) (S_1 : zt_S) => zw_reamsAt p2 (1 : Int32) S_1 (fun (r_4 : Int32) (S_3 : zt_S) => (r_2 = r_4 → (zw_a p1 (1 : Int32) S_3 (fun (r_7 : Int32) (S_6 : zt_S) => zw_a p2 (1 : Int32) S_6 (fun (r_9 : Int32) (S_8 : zt_S) => (r_7 < r_9 → (post (1 : Int32) S_8)) ∧ (¬ r_7 < r_9 → (zw_a p1 (1 : Int32) S_8 (fun (r_12 : Int32) (S_11 : zt_S) => zw_a p2 (1 : Int32) S_11 (fun (r_14 : Int32) (S_13 : zt_S) => (¬ r_12 = r_14 → (post (0 : Int32) S_13)) ∧ (r_12 = r_14 → ((p2 ≤ p1 → (post (0 : Int32) S_13)) ∧ (¬ p2 ≤ p1 → (post (1 : Int32) S_13)))))))))))) ∧ (¬ r_2 = r_4 → ((r_2 ≤ r_4 → (post (0 : Int32) S_3)) ∧ (¬ r_2 ≤ r_4 → (post (1 : Int32) S_3))))))
set_option maxHeartbeats 4000000 in
theorem zm_isAhead (l : Launch) (g : zt_G) (p1 : Int32) (p2 : Int32) (S : zt_S) (post : Int32 → zt_S → Prop) (hw : zw_isAhead p1 p2 S post) : Met l yX5_isAhead (ws_ yX5_isAhead cX5_isAhead 5 (some .boolean)) ({ frames := 2, cells := 0, slots := 0, locals := 46 } : Room) (va_Pc (.ref g.2.1 :: [.int p1, .int p2]) (zt_B g S)) (va_Qi post (zt_B g) (zt_A g)) 0 0 (zt_A g) := by
  refine zt_met (by decide) rfl (Nat.le_of_ble_eq_true rfl) (fun p e s m below meth c ls hC hI hl => ?_)
  generalize (Value.ref g.2.1 :: ([.int p1, .int p2] : List Value)).toArray = args at hC ⊢
  obtain ⟨hx, hb, hml, hown, hts, hr, hlk⟩ := hC
  have hl : lv_has ls 5 [(0, .ref g.2.1), (1, .int p1), (2, .int p2)] := hl
  unfold zw_isAhead at hw
  obtain ⟨H, eH⟩ : ∃ z, z = s.heap := ⟨_, rfl⟩
  obtain ⟨locs, elo⟩ : ∃ z : List Loc, z = [] := ⟨_, rfl⟩
  rw [← eH, ← elo] at hI ⊢
  refine lv_aload_n hx hb dX5_isAhead_0 rfl (lv_at hl 0 rfl) ?_
  refine lv_iload_n hx hb dX5_isAhead_1 rfl (lv_at hl 1 rfl) ?_
  refine lv_iconst (v := 1) hx hb dX5_isAhead_2 (by decide) ?_
  refine zt_calli (As := [.int p1, .int (1 : Int32)]) (rest := []) ⟨hx, hb, hml, hown, hts⟩ hI (zm_reamsAt l g p1 (1 : Int32) S _ hw) (cwV 2 hts (lw_V q3843 q3845 qs61 q113 q3846) rfl rfl rfl hdT_reamsAt ⟨Nat.le_of_ble_eq_true rfl, Nat.le_of_ble_eq_true rfl⟩) rfl hl.1 rfl (lv_room (Nat.le_of_ble_eq_true rfl)) dX5_isAhead_3 ⟨Nat.le_refl _, Nat.le_refl _⟩ (fun r_2 S_1 H locs hw hI => ?_)
  refine lv_istore_n (lv' := [(3, .int r_2), (0, .ref g.2.1), (1, .int p1), (2, .int p2)]) hx hb dX5_isAhead_6 rfl hl (by decide) rfl (fun ls hl => ?_)
  refine lv_aload_n hx hb dX5_isAhead_7 rfl (lv_at hl 1 rfl) ?_
  refine lv_iload_n hx hb dX5_isAhead_8 rfl (lv_at hl 3 rfl) ?_
  refine lv_iconst (v := 1) hx hb dX5_isAhead_9 (by decide) ?_
  refine zt_calli (As := [.int p2, .int (1 : Int32)]) (rest := []) ⟨hx, hb, hml, hown, hts⟩ hI (zm_reamsAt l g p2 (1 : Int32) S_1 _ hw) (cwV 2 hts (lw_V q3843 q3845 qs61 q113 q3846) rfl rfl rfl hdT_reamsAt ⟨Nat.le_of_ble_eq_true rfl, Nat.le_of_ble_eq_true rfl⟩) rfl hl.1 rfl (lv_room (Nat.le_of_ble_eq_true rfl)) dX5_isAhead_10 ⟨Nat.le_refl _, Nat.le_refl _⟩ (fun r_4 S_3 H locs hw hI => ?_)
  refine lv_istore (lv' := [(4, .int r_4), (3, .int r_2), (0, .ref g.2.1), (1, .int p1), (2, .int p2)]) hx hb dX5_isAhead_13 hl (by decide) rfl (fun ls hl => ?_)
  refine lv_iload_n hx hb dX5_isAhead_15 rfl (lv_at hl 1 rfl) ?_
  refine lv_iload hx hb dX5_isAhead_16 (lv_at hl 0 rfl) ?_
  refine lv_icmp_eq (tgt := 33) hx hb dX5_isAhead_18 (by decide) (fun hc_5 => ?_) (fun hc_5 => ?_)
  · have hw := hw.1 hc_5
    refine lv_aload_n hx hb dX5_isAhead_33 rfl (lv_at hl 2 rfl) ?_
    refine lv_iload_n hx hb dX5_isAhead_34 rfl (lv_at hl 3 rfl) ?_
    refine lv_iconst (v := 1) hx hb dX5_isAhead_35 (by decide) ?_
    refine zt_calli (As := [.int p1, .int (1 : Int32)]) (rest := []) ⟨hx, hb, hml, hown, hts⟩ hI (zm_a l g p1 (1 : Int32) S_3 _ hw) (cwV 2 hts (lw_V q3797 q3799 qs55 q113 q3800) rfl rfl rfl hdT_a ⟨Nat.le_of_ble_eq_true rfl, Nat.le_of_ble_eq_true rfl⟩) rfl hl.1 rfl (lv_room (Nat.le_of_ble_eq_true rfl)) dX5_isAhead_36 ⟨Nat.le_refl _, Nat.le_refl _⟩ (fun r_7 S_6 H locs hw hI => ?_)
    refine lv_aload_n hx hb dX5_isAhead_39 rfl (lv_at hl 2 rfl) ?_
    refine lv_iload_n hx hb dX5_isAhead_40 rfl (lv_at hl 4 rfl) ?_
    refine lv_iconst (v := 1) hx hb dX5_isAhead_41 (by decide) ?_
    refine zt_calli (As := [.int p2, .int (1 : Int32)]) (rest := [.int r_7]) ⟨hx, hb, hml, hown, hts⟩ hI (zm_a l g p2 (1 : Int32) S_6 _ hw) (cwV 2 hts (lw_V q3797 q3799 qs55 q113 q3800) rfl rfl rfl hdT_a ⟨Nat.le_of_ble_eq_true rfl, Nat.le_of_ble_eq_true rfl⟩) rfl hl.1 rfl (lv_room (Nat.le_of_ble_eq_true rfl)) dX5_isAhead_42 ⟨Nat.le_refl _, Nat.le_refl _⟩ (fun r_9 S_8 H locs hw hI => ?_)
    refine lv_icmp_lt (tgt := 68) hx hb dX5_isAhead_45 (by decide) (fun hc_10 => ?_) (fun hc_10 => ?_)
    · have hw := hw.1 hc_10
      refine lv_iconst (v := 1) hx hb dX5_isAhead_68 (by decide) ?_
      refine lv_goto (tgt := 73) hx hb dX5_isAhead_69 (by decide) ?_
      exact zt_zret hx hb hr hlk hI rfl hw dX5_isAhead_73
    · have hw := hw.2 hc_10
      refine lv_aload_n hx hb dX5_isAhead_48 rfl (lv_at hl 2 rfl) ?_
      refine lv_iload_n hx hb dX5_isAhead_49 rfl (lv_at hl 3 rfl) ?_
      refine lv_iconst (v := 1) hx hb dX5_isAhead_50 (by decide) ?_
      refine zt_calli (As := [.int p1, .int (1 : Int32)]) (rest := []) ⟨hx, hb, hml, hown, hts⟩ hI (zm_a l g p1 (1 : Int32) S_8 _ hw) (cwV 2 hts (lw_V q3797 q3799 qs55 q113 q3800) rfl rfl rfl hdT_a ⟨Nat.le_of_ble_eq_true rfl, Nat.le_of_ble_eq_true rfl⟩) rfl hl.1 rfl (lv_room (Nat.le_of_ble_eq_true rfl)) dX5_isAhead_51 ⟨Nat.le_refl _, Nat.le_refl _⟩ (fun r_12 S_11 H locs hw hI => ?_)
      refine lv_aload_n hx hb dX5_isAhead_54 rfl (lv_at hl 2 rfl) ?_
      refine lv_iload_n hx hb dX5_isAhead_55 rfl (lv_at hl 4 rfl) ?_
      refine lv_iconst (v := 1) hx hb dX5_isAhead_56 (by decide) ?_
      refine zt_calli (As := [.int p2, .int (1 : Int32)]) (rest := [.int r_12]) ⟨hx, hb, hml, hown, hts⟩ hI (zm_a l g p2 (1 : Int32) S_11 _ hw) (cwV 2 hts (lw_V q3797 q3799 qs55 q113 q3800) rfl rfl rfl hdT_a ⟨Nat.le_of_ble_eq_true rfl, Nat.le_of_ble_eq_true rfl⟩) rfl hl.1 rfl (lv_room (Nat.le_of_ble_eq_true rfl)) dX5_isAhead_57 ⟨Nat.le_refl _, Nat.le_refl _⟩ (fun r_14 S_13 H locs hw hI => ?_)
      refine lv_icmp_ne (tgt := 72) hx hb dX5_isAhead_60 (by decide) (fun hc_15 => ?_) (fun hc_15 => ?_)
      · have hw := hw.1 hc_15
        refine lv_iconst (v := 0) hx hb dX5_isAhead_72 (by decide) ?_
        exact zt_zret hx hb hr hlk hI rfl hw dX5_isAhead_73
      · have hw := hw.2 hc_15
        refine lv_iload_n hx hb dX5_isAhead_63 rfl (lv_at hl 3 rfl) ?_
        refine lv_iload_n hx hb dX5_isAhead_64 rfl (lv_at hl 4 rfl) ?_
        refine lv_icmp_ge (tgt := 72) hx hb dX5_isAhead_65 (by decide) (fun hc_16 => ?_) (fun hc_16 => ?_)
        · have hw := hw.1 hc_16
          refine lv_iconst (v := 0) hx hb dX5_isAhead_72 (by decide) ?_
          exact zt_zret hx hb hr hlk hI rfl hw dX5_isAhead_73
        · have hw := hw.2 hc_16
          refine lv_iconst (v := 1) hx hb dX5_isAhead_68 (by decide) ?_
          refine lv_goto (tgt := 73) hx hb dX5_isAhead_69 (by decide) ?_
          exact zt_zret hx hb hr hlk hI rfl hw dX5_isAhead_73
  · have hw := hw.2 hc_5
    refine lv_iload_n hx hb dX5_isAhead_21 rfl (lv_at hl 1 rfl) ?_
    refine lv_iload hx hb dX5_isAhead_22 (lv_at hl 0 rfl) ?_
    refine lv_icmp_le (tgt := 31) hx hb dX5_isAhead_24 (by decide) (fun hc_17 => ?_) (fun hc_17 => ?_)
    · have hw := hw.1 hc_17
      refine lv_iconst (v := 0) hx hb dX5_isAhead_31 (by decide) ?_
      exact zt_zret hx hb hr hlk hI rfl hw dX5_isAhead_32
    · have hw := hw.2 hc_17
      refine lv_iconst (v := 1) hx hb dX5_isAhead_27 (by decide) ?_
      refine lv_goto (tgt := 32) hx hb dX5_isAhead_28 (by decide) ?_
      exact zt_zret hx hb hr hlk hI rfl hw dX5_isAhead_32
theorem hdT_isAhead : yX5_isAhead.cls = RX5 ∧ yX5_isAhead.cls ≠ "java/lang/invoke/MethodHandle" ∧ yX5_isAhead.cls ≠ "java/lang/invoke/VarHandle" ∧ (parseMethodDescriptor yX5_isAhead.desc).map (fun d => d.parameters.length) = some 2 := by decide +kernel
def zw_ranked (p1 : Int32) (S : zt_S) (post : Int32 → zt_S → Prop) : Prop :=
  ∃ (In_1 : Int32 → zt_S → Prop) (mu_1 : Int32 → zt_S → Nat), In_1 (0 : Int32) S ∧ ∀ (x2_1 : Int32) (S_1 : zt_S), In_1 x2_1 S_1 → (((5 : Int32) ≤ x2_1 → (∀ S_3 : zt_S, S_3 = zt_us S_1 0 0 (1 : Int32) → (post (0 : Int32) S_3))) ∧ (¬ (5 : Int32) ≤ x2_1 → (∃ (In_4 : Int32 → Int32 → zt_S → Prop) (mu_4 : Int32 → Int32 → zt_S → Nat), In_4 (0 : Int32) (0 : Int32) S_1 ∧ ∀ (x3_4 : Int32) (x4_4 : Int32) (S_4 : zt_S), In_4 x3_4 x4_4 S_4 → (((5 : Int32) ≤ x4_4 → ((¬ x3_4 = p1 → (In_1 (x2_1 + (1 : Int32)) S_4 ∧ mu_1 (x2_1 + (1 : Int32)) S_4 < mu_1 x2_1 S_1)) ∧ (x3_4 = p1 → (∀ S_7 : zt_S, S_7 = zt_us S_4 0 0 (0 : Int32) → (post x2_1 S_7))))) ∧ (¬ (5 : Int32) ≤ x4_4 → (zw_isAhead x4_4 x2_1 S_4 (fun (r_9 : Int32) (S_8 : zt_S) => (r_9 = (0 : Int32) → (In_4 (x3_4 + (0 : Int32)) (x4_4 + (1 : Int32)) S_8 ∧ mu_4 (x3_4 + (0 : Int32)) (x4_4 + (1 : Int32)) S_8 < mu_4 x3_4 x4_4 S_4)) ∧ (¬ r_9 = (0 : Int32) → (In_4 (x3_4 + (1 : Int32)) (x4_4 + (1 : Int32)) S_8 ∧ mu_4 (x3_4 + (1 : Int32)) (x4_4 + (1 : Int32)) S_8 < mu_4 x3_4 x4_4 S_4)))))))))
set_option maxHeartbeats 4000000 in
theorem zm_ranked (l : Launch) (g : zt_G) (p1 : Int32) (S : zt_S) (post : Int32 → zt_S → Prop) (hw : zw_ranked p1 S post) : Met l yX5_ranked (ws_ yX5_ranked cX5_ranked 5 (some .int)) ({ frames := 3, cells := 0, slots := 0, locals := 70 } : Room) (va_Pc (.ref g.2.1 :: [.int p1]) (zt_B g S)) (va_Qi post (zt_B g) (zt_A g)) 0 0 (zt_A g) := by
  refine zt_met (by decide) rfl (Nat.le_of_ble_eq_true rfl) (fun p e s m below meth c ls hC hI hl => ?_)
  generalize (Value.ref g.2.1 :: ([.int p1] : List Value)).toArray = args at hC ⊢
  obtain ⟨hx, hb, hml, hown, hts, hr, hlk⟩ := hC
  have hl : lv_has ls 5 [(0, .ref g.2.1), (1, .int p1)] := hl
  unfold zw_ranked at hw
  obtain ⟨H, eH⟩ : ∃ z, z = s.heap := ⟨_, rfl⟩
  obtain ⟨locs, elo⟩ : ∃ z : List Loc, z = [] := ⟨_, rfl⟩
  rw [← eH, ← elo] at hI ⊢
  refine lv_iconst (v := 0) hx hb dX5_ranked_0 (by decide) ?_
  refine lv_istore_n (lv' := [(2, .int (0 : Int32)), (0, .ref g.2.1), (1, .int p1)]) hx hb dX5_ranked_1 rfl hl (by decide) rfl (fun ls hl => ?_)
  obtain ⟨In_1, mu_1, h0_1, hw⟩ := hw
  have hL_1 : ∀ (n : Nat) (x2_1 : Int32) (S_1 : zt_S) (H : Heap) (locs : List Loc) (ls : Array Slot), mu_1 x2_1 S_1 < n → In_1 x2_1 S_1 → zt_I g S_1 s H locs → lv_has ls 5 [(0, .ref g.2.1), (1, .int p1), (2, .int x2_1)] → W p l e ({ frames := 3, cells := 0, slots := 0, locals := 70 } : Room) s m args below meth c H locs 0 0 (MQ below (va_Qi post (zt_B g) (zt_A g)) args s 0 0 (zt_A g)) (F0 m 2 ls []) := by
    intro n
    induction n with
    | zero => intro x2_1 S_1 H locs ls hn _ _ _; exact absurd hn (Nat.not_lt_zero _)
    | succ n ih_1 =>
      intro x2_1 S_1 H locs ls hn_1 hi_1 hI hl
      have hw := hw x2_1 S_1 hi_1
      refine lv_iload_n hx hb dX5_ranked_2 rfl (lv_at hl 2 rfl) ?_
      refine lv_iconst (v := 5) hx hb dX5_ranked_3 (by decide) ?_
      refine lv_icmp_ge (tgt := 60) hx hb dX5_ranked_4 (by decide) (fun hc_2 => ?_) (fun hc_2 => ?_)
      · have hw := hw.1 hc_2
        refine lv_aload_n hx hb dX5_ranked_60 rfl (lv_at hl 0 rfl) ?_
        refine lv_iconst (v := 1) hx hb dX5_ranked_61 (by decide) ?_
        refine zt_put hx hb hts hown hI 0 (v := (1 : Int32)) (ty := .int) (by decide) q3632 rfl rfl (by decide +kernel) rfl rfl rfl dX5_ranked_62 (fun H locs hI => ?_)
        obtain ⟨S_3, eS_3⟩ : ∃ z, z = zt_us S_1 0 0 (1 : Int32) := ⟨_, rfl⟩
        rw [← eS_3] at hI
        have hw := hw S_3 eS_3
        refine lv_iconst (v := 0) hx hb dX5_ranked_65 (by decide) ?_
        exact zt_iret hx hb hr hlk hI hw dX5_ranked_66
      · have hw := hw.2 hc_2
        refine lv_iconst (v := 0) hx hb dX5_ranked_7 (by decide) ?_
        refine lv_istore_n (lv' := [(3, .int (0 : Int32)), (0, .ref g.2.1), (1, .int p1), (2, .int x2_1)]) hx hb dX5_ranked_8 rfl hl (by decide) rfl (fun ls hl => ?_)
        refine lv_iconst (v := 0) hx hb dX5_ranked_9 (by decide) ?_
        refine lv_istore (lv' := [(4, .int (0 : Int32)), (3, .int (0 : Int32)), (0, .ref g.2.1), (1, .int p1), (2, .int x2_1)]) hx hb dX5_ranked_10 hl (by decide) rfl (fun ls hl => ?_)
        obtain ⟨In_4, mu_4, h0_4, hw⟩ := hw
        have hL_4 : ∀ (n : Nat) (x3_4 : Int32) (x4_4 : Int32) (S_4 : zt_S) (H : Heap) (locs : List Loc) (ls : Array Slot), mu_4 x3_4 x4_4 S_4 < n → In_4 x3_4 x4_4 S_4 → zt_I g S_4 s H locs → lv_has ls 5 [(0, .ref g.2.1), (1, .int p1), (2, .int x2_1), (3, .int x3_4), (4, .int x4_4)] → W p l e ({ frames := 3, cells := 0, slots := 0, locals := 70 } : Room) s m args below meth c H locs 0 0 (MQ below (va_Qi post (zt_B g) (zt_A g)) args s 0 0 (zt_A g)) (F0 m 12 ls []) := by
          intro n
          induction n with
          | zero => intro x3_4 x4_4 S_4 H locs ls hn _ _ _; exact absurd hn (Nat.not_lt_zero _)
          | succ n ih_4 =>
            intro x3_4 x4_4 S_4 H locs ls hn_4 hi_4 hI hl
            have hw := hw x3_4 x4_4 S_4 hi_4
            refine lv_iload hx hb dX5_ranked_12 (lv_at hl 4 rfl) ?_
            refine lv_iconst (v := 5) hx hb dX5_ranked_14 (by decide) ?_
            refine lv_icmp_ge (tgt := 42) hx hb dX5_ranked_15 (by decide) (fun hc_5 => ?_) (fun hc_5 => ?_)
            · have hw := hw.1 hc_5
              refine lv_iload_n hx hb dX5_ranked_42 rfl (lv_at hl 3 rfl) ?_
              refine lv_iload_n hx hb dX5_ranked_43 rfl (lv_at hl 1 rfl) ?_
              refine lv_icmp_ne (tgt := 54) hx hb dX5_ranked_44 (by decide) (fun hc_6 => ?_) (fun hc_6 => ?_)
              · have hw := hw.1 hc_6
                refine lv_iinc (v := x2_1 + (1 : Int32)) (lv' := [(2, .int (x2_1 + (1 : Int32))), (0, .ref g.2.1), (1, .int p1), (3, .int x3_4), (4, .int x4_4)]) hx hb dX5_ranked_54 hl (k := 2) rfl rfl (by decide) rfl (fun ls hl => ?_)
                refine lv_goto (tgt := 2) hx hb dX5_ranked_57 (by decide) ?_
                exact ih_1 _ _ H locs ls (Nat.lt_of_lt_of_le hw.2 (Nat.le_of_lt_succ hn_1)) hw.1 hI (lv_sub hl [1, 2, 0] rfl)
              · have hw := hw.2 hc_6
                refine lv_aload_n hx hb dX5_ranked_47 rfl (lv_at hl 0 rfl) ?_
                refine lv_iconst (v := 0) hx hb dX5_ranked_48 (by decide) ?_
                refine zt_put hx hb hts hown hI 0 (v := (0 : Int32)) (ty := .int) (by decide) q3632 rfl rfl (by decide +kernel) rfl rfl rfl dX5_ranked_49 (fun H locs hI => ?_)
                obtain ⟨S_7, eS_7⟩ : ∃ z, z = zt_us S_4 0 0 (0 : Int32) := ⟨_, rfl⟩
                rw [← eS_7] at hI
                have hw := hw S_7 eS_7
                refine lv_iload_n hx hb dX5_ranked_52 rfl (lv_at hl 2 rfl) ?_
                exact zt_iret hx hb hr hlk hI hw dX5_ranked_53
            · have hw := hw.2 hc_5
              refine lv_iload_n hx hb dX5_ranked_18 rfl (lv_at hl 3 rfl) ?_
              refine lv_aload_n hx hb dX5_ranked_19 rfl (lv_at hl 0 rfl) ?_
              refine lv_iload hx hb dX5_ranked_20 (lv_at hl 4 rfl) ?_
              refine lv_iload_n hx hb dX5_ranked_22 rfl (lv_at hl 2 rfl) ?_
              refine zt_calli (As := [.int x4_4, .int x2_1]) (rest := [.int x3_4]) ⟨hx, hb, hml, hown, hts⟩ hI (zm_isAhead l g x4_4 x2_1 S_4 _ hw) (cwV 2 hts (lw_V q3871 q3873 qs66 q113 q3874) rfl rfl rfl hdT_isAhead ⟨Nat.le_of_ble_eq_true rfl, Nat.le_of_ble_eq_true rfl⟩) rfl hl.1 rfl (lv_room (Nat.le_of_ble_eq_true rfl)) dX5_ranked_23 ⟨Nat.le_refl _, Nat.le_refl _⟩ (fun r_9 S_8 H locs hw hI => ?_)
              refine lv_if_eq (tgt := 33) hx hb dX5_ranked_26 (by decide) (fun hc_10 => ?_) (fun hc_10 => ?_)
              · have hw := hw.1 hc_10
                refine lv_iconst (v := 0) hx hb dX5_ranked_33 (by decide) ?_
                refine lv_iadd hx hb dX5_ranked_34 ?_
                refine lv_istore_n (lv' := [(3, .int (x3_4 + (0 : Int32))), (0, .ref g.2.1), (1, .int p1), (2, .int x2_1), (4, .int x4_4)]) hx hb dX5_ranked_35 rfl hl (by decide) rfl (fun ls hl => ?_)
                refine lv_iinc (v := x4_4 + (1 : Int32)) (lv' := [(4, .int (x4_4 + (1 : Int32))), (3, .int (x3_4 + (0 : Int32))), (0, .ref g.2.1), (1, .int p1), (2, .int x2_1)]) hx hb dX5_ranked_36 hl (k := 4) rfl rfl (by decide) rfl (fun ls hl => ?_)
                refine lv_goto (tgt := 12) hx hb dX5_ranked_39 (by decide) ?_
                exact ih_4 _ _ _ H locs ls (Nat.lt_of_lt_of_le hw.2 (Nat.le_of_lt_succ hn_4)) hw.1 hI (lv_sub hl [2, 3, 4, 1, 0] rfl)
              · have hw := hw.2 hc_10
                refine lv_iconst (v := 1) hx hb dX5_ranked_29 (by decide) ?_
                refine lv_goto (tgt := 34) hx hb dX5_ranked_30 (by decide) ?_
                refine lv_iadd hx hb dX5_ranked_34 ?_
                refine lv_istore_n (lv' := [(3, .int (x3_4 + (1 : Int32))), (0, .ref g.2.1), (1, .int p1), (2, .int x2_1), (4, .int x4_4)]) hx hb dX5_ranked_35 rfl hl (by decide) rfl (fun ls hl => ?_)
                refine lv_iinc (v := x4_4 + (1 : Int32)) (lv' := [(4, .int (x4_4 + (1 : Int32))), (3, .int (x3_4 + (1 : Int32))), (0, .ref g.2.1), (1, .int p1), (2, .int x2_1)]) hx hb dX5_ranked_36 hl (k := 4) rfl rfl (by decide) rfl (fun ls hl => ?_)
                refine lv_goto (tgt := 12) hx hb dX5_ranked_39 (by decide) ?_
                exact ih_4 _ _ _ H locs ls (Nat.lt_of_lt_of_le hw.2 (Nat.le_of_lt_succ hn_4)) hw.1 hI (lv_sub hl [2, 3, 4, 1, 0] rfl)
        exact hL_4 _ _ _ _ H locs ls (Nat.lt_succ_self _) h0_4 hI (lv_sub hl [2, 3, 4, 1, 0] rfl)
  exact hL_1 _ _ _ H locs ls (Nat.lt_succ_self _) h0_1 hI (lv_sub hl [1, 2, 0] rfl)
theorem hdT_ranked : yX5_ranked.cls = RX5 ∧ yX5_ranked.cls ≠ "java/lang/invoke/MethodHandle" ∧ yX5_ranked.cls ≠ "java/lang/invoke/VarHandle" ∧ (parseMethodDescriptor yX5_ranked.desc).map (fun d => d.parameters.length) = some 1 := by decide +kernel
def zw_order_55 (post : Int32 → zt_S → Prop) (t0 : Int32) (v1 : Int32) (v2 : Int32) (v3 : Int32) (S : zt_S) : Prop :=
  ∀ S_3 : zt_S, S_3 = zt_us S 0 0 t0 → ((S_3 0 0 = (0 : Int32) → (zw_begins S_3 (fun (S_5 : zt_S) => vp_in (7 : Int32) 3810 ∧ (vp_in (((280 : Int32) + ((4 : Int32) * (S_5 1 (7 : Int32).toNatClampNeg))) + (0 : Int32)) 3810 ∧ ∀ S_6 : zt_S, S_6 = zt_us S_5 1 (((280 : Int32) + ((4 : Int32) * (S_5 1 (7 : Int32).toNatClampNeg))) + (0 : Int32)).toNatClampNeg v1 → (vp_in (((280 : Int32) + ((4 : Int32) * (S_5 1 (7 : Int32).toNatClampNeg))) + (1 : Int32)) 3810 ∧ ∀ S_7 : zt_S, S_7 = zt_us S_6 1 (((280 : Int32) + ((4 : Int32) * (S_5 1 (7 : Int32).toNatClampNeg))) + (1 : Int32)).toNatClampNeg v2 → (vp_in (((280 : Int32) + ((4 : Int32) * (S_5 1 (7 : Int32).toNatClampNeg))) + (2 : Int32)) 3810 ∧ ∀ S_8 : zt_S, S_8 = zt_us S_7 1 (((280 : Int32) + ((4 : Int32) * (S_5 1 (7 : Int32).toNatClampNeg))) + (2 : Int32)).toNatClampNeg v3 → (vp_in (((280 : Int32) + ((4 : Int32) * (S_5 1 (7 : Int32).toNatClampNeg))) + (3 : Int32)) 3810 ∧ ∀ S_9 : zt_S, S_9 = zt_us S_8 1 (((280 : Int32) + ((4 : Int32) * (S_5 1 (7 : Int32).toNatClampNeg))) + (3 : Int32)).toNatClampNeg (0 : Int32) → (vp_in (7 : Int32) 3810 ∧ (vp_in (7 : Int32) 3810 ∧ ∀ S_10 : zt_S, S_10 = zt_us S_9 1 (7 : Int32).toNatClampNeg ((S_9 1 (7 : Int32).toNatClampNeg) + (1 : Int32)) → (zw_keeps S_10 (fun (S_11 : zt_S) => post (S_5 1 (7 : Int32).toNatClampNeg) S_11))))))))))) ∧ (¬ S_3 0 0 = (0 : Int32) → (post (0 : Int32) S_3)))
set_option maxHeartbeats 4000000 in
theorem zj_order_55 {p : Program} {l : Launch} {e : Env} {s : State} {m : MethodId} {args : Array Value} {below : List Frame} {meth : Method} {c : Code} {H : Heap} {locs : List Loc} {ls : Array Slot} (g : zt_G) (post : Int32 → zt_S → Prop) (t0 : Int32) (v1 : Int32) (v2 : Int32) (v3 : Int32) (S : zt_S) (hC : zt_C p s m args meth c cX5_order 5 (some .int)) (hw : zw_order_55 post t0 v1 v2 v3 S) (hI : zt_I g S s H locs) (hl : lv_has ls 5 [(0, .ref g.2.1), (1, .int v1), (2, .int v2), (3, .int v3)]) : W p l e ({ frames := 2, cells := 0, slots := 0, locals := 44 } : Room) s m args below meth c H locs 0 0 (MQ below (va_Qi post (zt_B g) (zt_A g)) args s 0 0 (zt_A g)) (F0 m 55 ls [.int t0, .ref g.2.1]) := by
  obtain ⟨hx, hb, hml, hown, hts, hr, hlk⟩ := hC
  unfold zw_order_55 at hw
  refine zt_put hx hb hts hown hI 0 (v := t0) (ty := .int) (by decide) q3632 rfl rfl (by decide +kernel) rfl rfl rfl dX5_order_55 (fun H locs hI => ?_)
  obtain ⟨S_3, eS_3⟩ : ∃ z, z = zt_us S 0 0 t0 := ⟨_, rfl⟩
  rw [← eS_3] at hI
  have hw := hw S_3 eS_3
  refine lv_aload_n hx hb dX5_order_58 rfl (lv_at hl 0 rfl) ?_
  refine zt_get hx hb hts hown hI 0 (v := .int (S_3 0 0)) (by decide) q3632 rfl rfl dX5_order_59 ?_
  refine lv_if_eq (tgt := 67) hx hb dX5_order_62 (by decide) (fun hc_4 => ?_) (fun hc_4 => ?_)
  · have hw := hw.1 hc_4
    refine lv_aload_n hx hb dX5_order_67 rfl (lv_at hl 0 rfl) ?_
    refine zt_callv (As := []) (rest := []) ⟨hx, hb, hml, hown, hts⟩ hI (zm_begins l g S_3 _ hw) (cwV 0 hts (lw_V q3700 q3702 qs39 q113 q3703) rfl rfl rfl hdT_begins ⟨Nat.le_of_ble_eq_true rfl, Nat.le_of_ble_eq_true rfl⟩) rfl hl.1 rfl (lv_room (Nat.le_of_ble_eq_true rfl)) dX5_order_68 ⟨Nat.le_refl _, Nat.le_refl _⟩ (fun S_5 H locs hw hI => ?_)
    refine lv_aload_n hx hb dX5_order_71 rfl (lv_at hl 0 rfl) ?_
    refine zt_get hx hb hts hown hI 1 (v := .ref g.2.2.1) (by decide) q3633 rfl rfl dX5_order_72 ?_
    refine lv_bipush (v := 7) hx hb dX5_order_75 (by decide) ?_
    refine zt_ld1 hx hb hI hw.1 dX5_order_77 ?_
    have hw := hw.2
    refine lv_istore (lv' := [(4, .int (S_5 1 (7 : Int32).toNatClampNeg)), (0, .ref g.2.1), (1, .int v1), (2, .int v2), (3, .int v3)]) hx hb dX5_order_78 hl (by decide) rfl (fun ls hl => ?_)
    refine lv_aload_n hx hb dX5_order_80 rfl (lv_at hl 1 rfl) ?_
    refine zt_get hx hb hts hown hI 1 (v := .ref g.2.2.1) (by decide) q3633 rfl rfl dX5_order_81 ?_
    refine lv_sipush (v := 280) hx hb dX5_order_84 (by decide) ?_
    refine lv_iconst (v := 4) hx hb dX5_order_87 (by decide) ?_
    refine lv_iload hx hb dX5_order_88 (lv_at hl 0 rfl) ?_
    refine lv_imul hx hb dX5_order_90 ?_
    refine lv_iadd hx hb dX5_order_91 ?_
    refine lv_iconst (v := 0) hx hb dX5_order_92 (by decide) ?_
    refine lv_iadd hx hb dX5_order_93 ?_
    refine lv_iload_n hx hb dX5_order_94 rfl (lv_at hl 2 rfl) ?_
    refine zt_st1 hx hb hI hw.1 dX5_order_95 (fun H locs hI => ?_)
    obtain ⟨S_6, eS_6⟩ : ∃ z, z = zt_us S_5 1 (((280 : Int32) + ((4 : Int32) * (S_5 1 (7 : Int32).toNatClampNeg))) + (0 : Int32)).toNatClampNeg v1 := ⟨_, rfl⟩
    rw [← eS_6] at hI
    have hw := hw.2 S_6 eS_6
    refine lv_aload_n hx hb dX5_order_96 rfl (lv_at hl 1 rfl) ?_
    refine zt_get hx hb hts hown hI 1 (v := .ref g.2.2.1) (by decide) q3633 rfl rfl dX5_order_97 ?_
    refine lv_sipush (v := 280) hx hb dX5_order_100 (by decide) ?_
    refine lv_iconst (v := 4) hx hb dX5_order_103 (by decide) ?_
    refine lv_iload hx hb dX5_order_104 (lv_at hl 0 rfl) ?_
    refine lv_imul hx hb dX5_order_106 ?_
    refine lv_iadd hx hb dX5_order_107 ?_
    refine lv_iconst (v := 1) hx hb dX5_order_108 (by decide) ?_
    refine lv_iadd hx hb dX5_order_109 ?_
    refine lv_iload_n hx hb dX5_order_110 rfl (lv_at hl 3 rfl) ?_
    refine zt_st1 hx hb hI hw.1 dX5_order_111 (fun H locs hI => ?_)
    obtain ⟨S_7, eS_7⟩ : ∃ z, z = zt_us S_6 1 (((280 : Int32) + ((4 : Int32) * (S_5 1 (7 : Int32).toNatClampNeg))) + (1 : Int32)).toNatClampNeg v2 := ⟨_, rfl⟩
    rw [← eS_7] at hI
    have hw := hw.2 S_7 eS_7
    refine lv_aload_n hx hb dX5_order_112 rfl (lv_at hl 1 rfl) ?_
    refine zt_get hx hb hts hown hI 1 (v := .ref g.2.2.1) (by decide) q3633 rfl rfl dX5_order_113 ?_
    refine lv_sipush (v := 280) hx hb dX5_order_116 (by decide) ?_
    refine lv_iconst (v := 4) hx hb dX5_order_119 (by decide) ?_
    refine lv_iload hx hb dX5_order_120 (lv_at hl 0 rfl) ?_
    refine lv_imul hx hb dX5_order_122 ?_
    refine lv_iadd hx hb dX5_order_123 ?_
    refine lv_iconst (v := 2) hx hb dX5_order_124 (by decide) ?_
    refine lv_iadd hx hb dX5_order_125 ?_
    refine lv_iload_n hx hb dX5_order_126 rfl (lv_at hl 4 rfl) ?_
    refine zt_st1 hx hb hI hw.1 dX5_order_127 (fun H locs hI => ?_)
    obtain ⟨S_8, eS_8⟩ : ∃ z, z = zt_us S_7 1 (((280 : Int32) + ((4 : Int32) * (S_5 1 (7 : Int32).toNatClampNeg))) + (2 : Int32)).toNatClampNeg v3 := ⟨_, rfl⟩
    rw [← eS_8] at hI
    have hw := hw.2 S_8 eS_8
    refine lv_aload_n hx hb dX5_order_128 rfl (lv_at hl 1 rfl) ?_
    refine zt_get hx hb hts hown hI 1 (v := .ref g.2.2.1) (by decide) q3633 rfl rfl dX5_order_129 ?_
    refine lv_sipush (v := 280) hx hb dX5_order_132 (by decide) ?_
    refine lv_iconst (v := 4) hx hb dX5_order_135 (by decide) ?_
    refine lv_iload hx hb dX5_order_136 (lv_at hl 0 rfl) ?_
    refine lv_imul hx hb dX5_order_138 ?_
    refine lv_iadd hx hb dX5_order_139 ?_
    refine lv_iconst (v := 3) hx hb dX5_order_140 (by decide) ?_
    refine lv_iadd hx hb dX5_order_141 ?_
    refine lv_iconst (v := 0) hx hb dX5_order_142 (by decide) ?_
    refine zt_st1 hx hb hI hw.1 dX5_order_143 (fun H locs hI => ?_)
    obtain ⟨S_9, eS_9⟩ : ∃ z, z = zt_us S_8 1 (((280 : Int32) + ((4 : Int32) * (S_5 1 (7 : Int32).toNatClampNeg))) + (3 : Int32)).toNatClampNeg (0 : Int32) := ⟨_, rfl⟩
    rw [← eS_9] at hI
    have hw := hw.2 S_9 eS_9
    refine lv_aload_n hx hb dX5_order_144 rfl (lv_at hl 1 rfl) ?_
    refine zt_get hx hb hts hown hI 1 (v := .ref g.2.2.1) (by decide) q3633 rfl rfl dX5_order_145 ?_
    refine lv_bipush (v := 7) hx hb dX5_order_148 (by decide) ?_
    refine lv_dup2_11 hx hb dX5_order_150 rfl rfl ?_
    refine zt_ld1 hx hb hI hw.1 dX5_order_151 ?_
    have hw := hw.2
    refine lv_iconst (v := 1) hx hb dX5_order_152 (by decide) ?_
    refine lv_iadd hx hb dX5_order_153 ?_
    refine zt_st1 hx hb hI hw.1 dX5_order_154 (fun H locs hI => ?_)
    obtain ⟨S_10, eS_10⟩ : ∃ z, z = zt_us S_9 1 (7 : Int32).toNatClampNeg ((S_9 1 (7 : Int32).toNatClampNeg) + (1 : Int32)) := ⟨_, rfl⟩
    rw [← eS_10] at hI
    have hw := hw.2 S_10 eS_10
    refine lv_aload_n hx hb dX5_order_155 rfl (lv_at hl 1 rfl) ?_
    refine zt_callv (As := []) (rest := []) ⟨hx, hb, hml, hown, hts⟩ hI (zm_keeps l g S_10 _ hw) (cwV 0 hts (lw_V q3716 q3718 qs43 q113 q3719) rfl rfl rfl hdT_keeps ⟨Nat.le_of_ble_eq_true rfl, Nat.le_of_ble_eq_true rfl⟩) rfl hl.1 rfl (lv_room (Nat.le_of_ble_eq_true rfl)) dX5_order_156 ⟨Nat.le_refl _, Nat.le_refl _⟩ (fun S_11 H locs hw hI => ?_)
    refine lv_iload hx hb dX5_order_159 (lv_at hl 0 rfl) ?_
    exact zt_iret hx hb hr hlk hI hw dX5_order_161
  · have hw := hw.2 hc_4
    refine lv_iconst (v := 0) hx hb dX5_order_65 (by decide) ?_
    exact zt_iret hx hb hr hlk hI hw dX5_order_66
def zw_order_19 (post : Int32 → zt_S → Prop) (v1 : Int32) (v2 : Int32) (v3 : Int32) (S : zt_S) : Prop :=
  zw_order_55 post (1 : Int32) v1 v2 v3 S
set_option maxHeartbeats 4000000 in
theorem zj_order_19 {p : Program} {l : Launch} {e : Env} {s : State} {m : MethodId} {args : Array Value} {below : List Frame} {meth : Method} {c : Code} {H : Heap} {locs : List Loc} {ls : Array Slot} (g : zt_G) (post : Int32 → zt_S → Prop) (v1 : Int32) (v2 : Int32) (v3 : Int32) (S : zt_S) (hC : zt_C p s m args meth c cX5_order 5 (some .int)) (hw : zw_order_19 post v1 v2 v3 S) (hI : zt_I g S s H locs) (hl : lv_has ls 5 [(0, .ref g.2.1), (1, .int v1), (2, .int v2), (3, .int v3)]) : W p l e ({ frames := 2, cells := 0, slots := 0, locals := 44 } : Room) s m args below meth c H locs 0 0 (MQ below (va_Qi post (zt_B g) (zt_A g)) args s 0 0 (zt_A g)) (F0 m 19 ls [.ref g.2.1]) := by
  obtain ⟨hx, hb, hml, hown, hts, hr, hlk⟩ := hC
  unfold zw_order_19 at hw
  refine lv_iconst (v := 1) hx hb dX5_order_19 (by decide) ?_
  refine lv_goto (tgt := 55) hx hb dX5_order_20 (by decide) ?_
  exact zj_order_55 g post (1 : Int32) v1 v2 v3 S ⟨hx, hb, hml, hown, hts, hr, hlk⟩ hw hI (lv_sub hl [0, 1, 2, 3] rfl)
def zw_order_41 (post : Int32 → zt_S → Prop) (t0 : Int32) (v1 : Int32) (v2 : Int32) (v3 : Int32) (S : zt_S) : Prop :=
  zw_refuses t0 (1 : Int32) (20 : Int32) S (fun (r_16 : Int32) (S_15 : zt_S) => (r_16 = (0 : Int32) → (zw_order_55 post (0 : Int32) v1 v2 v3 S_15)) ∧ (¬ r_16 = (0 : Int32) → (zw_order_55 post (2 : Int32) v1 v2 v3 S_15)))
set_option maxHeartbeats 4000000 in
theorem zj_order_41 {p : Program} {l : Launch} {e : Env} {s : State} {m : MethodId} {args : Array Value} {below : List Frame} {meth : Method} {c : Code} {H : Heap} {locs : List Loc} {ls : Array Slot} (g : zt_G) (post : Int32 → zt_S → Prop) (t0 : Int32) (v1 : Int32) (v2 : Int32) (v3 : Int32) (S : zt_S) (hC : zt_C p s m args meth c cX5_order 5 (some .int)) (hw : zw_order_41 post t0 v1 v2 v3 S) (hI : zt_I g S s H locs) (hl : lv_has ls 5 [(0, .ref g.2.1), (1, .int v1), (2, .int v2), (3, .int v3)]) : W p l e ({ frames := 2, cells := 0, slots := 0, locals := 44 } : Room) s m args below meth c H locs 0 0 (MQ below (va_Qi post (zt_B g) (zt_A g)) args s 0 0 (zt_A g)) (F0 m 41 ls [.int t0, .ref g.2.1, .ref g.2.1]) := by
  obtain ⟨hx, hb, hml, hown, hts, hr, hlk⟩ := hC
  unfold zw_order_41 at hw
  refine lv_iconst (v := 1) hx hb dX5_order_41 (by decide) ?_
  refine lv_bipush (v := 20) hx hb dX5_order_42 (by decide) ?_
  refine zt_calli (As := [.int t0, .int (1 : Int32), .int (20 : Int32)]) (rest := [.ref g.2.1]) ⟨hx, hb, hml, hown, hts⟩ hI (zm_refuses l g t0 (1 : Int32) (20 : Int32) S _ hw) (cwV 3 hts (lw_V q3696 q3698 qs38 q113 q3699) rfl rfl rfl hdT_refuses ⟨Nat.le_of_ble_eq_true rfl, Nat.le_of_ble_eq_true rfl⟩) rfl hl.1 rfl (lv_room (Nat.le_of_ble_eq_true rfl)) dX5_order_44 ⟨Nat.le_refl _, Nat.le_refl _⟩ (fun r_16 S_15 H locs hw hI => ?_)
  refine lv_if_eq (tgt := 54) hx hb dX5_order_47 (by decide) (fun hc_17 => ?_) (fun hc_17 => ?_)
  · have hw := hw.1 hc_17
    refine lv_iconst (v := 0) hx hb dX5_order_54 (by decide) ?_
    exact zj_order_55 g post (0 : Int32) v1 v2 v3 S_15 ⟨hx, hb, hml, hown, hts, hr, hlk⟩ hw hI (lv_sub hl [0, 1, 2, 3] rfl)
  · have hw := hw.2 hc_17
    refine lv_iconst (v := 2) hx hb dX5_order_50 (by decide) ?_
    refine lv_goto (tgt := 55) hx hb dX5_order_51 (by decide) ?_
    exact zj_order_55 g post (2 : Int32) v1 v2 v3 S_15 ⟨hx, hb, hml, hown, hts, hr, hlk⟩ hw hI (lv_sub hl [0, 1, 2, 3] rfl)
def zw_order (p1 : Int32) (p2 : Int32) (p3 : Int32) (S : zt_S) (post : Int32 → zt_S → Prop) : Prop :=
  zw_isPaper p1 p2 (fun (r_1 : Int32) => (r_1 = (0 : Int32) → (zw_order_19 post p1 p2 p3 S)) ∧ (¬ r_1 = (0 : Int32) → (zw_in p3 (1 : Int32) (60 : Int32) (fun (r_12 : Int32) => (¬ r_12 = (0 : Int32) → (vp_in (7 : Int32) 3810 ∧ ((¬ S 1 (7 : Int32).toNatClampNeg = (20 : Int32) → (zw_order_41 post (0 : Int32) p1 p2 p3 S)) ∧ (S 1 (7 : Int32).toNatClampNeg = (20 : Int32) → (zw_order_41 post (1 : Int32) p1 p2 p3 S))))) ∧ (r_12 = (0 : Int32) → (zw_order_19 post p1 p2 p3 S))))))
set_option maxHeartbeats 4000000 in
theorem zm_order (l : Launch) (g : zt_G) (p1 : Int32) (p2 : Int32) (p3 : Int32) (S : zt_S) (post : Int32 → zt_S → Prop) (hw : zw_order p1 p2 p3 S post) : Met l yX5_order (ws_ yX5_order cX5_order 5 (some .int)) ({ frames := 2, cells := 0, slots := 0, locals := 44 } : Room) (va_Pc (.ref g.2.1 :: [.int p1, .int p2, .int p3]) (zt_B g S)) (va_Qi post (zt_B g) (zt_A g)) 0 0 (zt_A g) := by
  refine zt_met (by decide) rfl (Nat.le_of_ble_eq_true rfl) (fun p e s m below meth c ls hC hI hl => ?_)
  generalize (Value.ref g.2.1 :: ([.int p1, .int p2, .int p3] : List Value)).toArray = args at hC ⊢
  obtain ⟨hx, hb, hml, hown, hts, hr, hlk⟩ := hC
  have hl : lv_has ls 5 [(0, .ref g.2.1), (1, .int p1), (2, .int p2), (3, .int p3)] := hl
  unfold zw_order at hw
  obtain ⟨H, eH⟩ : ∃ z, z = s.heap := ⟨_, rfl⟩
  obtain ⟨locs, elo⟩ : ∃ z : List Loc, z = [] := ⟨_, rfl⟩
  rw [← eH, ← elo] at hI ⊢
  refine lv_aload_n hx hb dX5_order_0 rfl (lv_at hl 0 rfl) ?_
  refine lv_iload_n hx hb dX5_order_1 rfl (lv_at hl 1 rfl) ?_
  refine lv_iload_n hx hb dX5_order_2 rfl (lv_at hl 2 rfl) ?_
  refine zt_callS (As := [.int p1, .int p2]) (rest := [.ref g.2.1]) ⟨hx, hb, hml, hown, hts⟩ (zm_isPaper l p1 p2 _ hw) (va_cwS 2 hts (lw_S q3754 q3755 q113 q3756) rfl rfl rfl hdT_isPaper ⟨Nat.le_of_ble_eq_true rfl, Nat.le_of_ble_eq_true rfl⟩) rfl hl.1 rfl (lv_room (Nat.le_of_ble_eq_true rfl)) dX5_order_3 ⟨Nat.le_refl _, Nat.le_refl _⟩ (fun r_1 hw => ?_)
  refine lv_if_eq (tgt := 19) hx hb dX5_order_6 (by decide) (fun hc_2 => ?_) (fun hc_2 => ?_)
  · have hw := hw.1 hc_2
    exact zj_order_19 g post p1 p2 p3 S ⟨hx, hb, hml, hown, hts, hr, hlk⟩ hw hI (lv_sub hl [0, 1, 2, 3] rfl)
  · have hw := hw.2 hc_2
    refine lv_iload_n hx hb dX5_order_9 rfl (lv_at hl 3 rfl) ?_
    refine lv_iconst (v := 1) hx hb dX5_order_10 (by decide) ?_
    refine lv_bipush (v := 60) hx hb dX5_order_11 (by decide) ?_
    refine zt_callS (As := [.int p3, .int (1 : Int32), .int (60 : Int32)]) (rest := [.ref g.2.1]) ⟨hx, hb, hml, hown, hts⟩ (zm_in l p3 (1 : Int32) (60 : Int32) _ hw) (va_cwS 3 hts (lw_S q3693 q3694 q113 q3695) rfl rfl rfl hdT_in ⟨Nat.le_of_ble_eq_true rfl, Nat.le_of_ble_eq_true rfl⟩) rfl hl.1 rfl (lv_room (Nat.le_of_ble_eq_true rfl)) dX5_order_13 ⟨Nat.le_refl _, Nat.le_refl _⟩ (fun r_12 hw => ?_)
    refine lv_if_ne (tgt := 23) hx hb dX5_order_16 (by decide) (fun hc_13 => ?_) (fun hc_13 => ?_)
    · have hw := hw.1 hc_13
      refine lv_aload_n hx hb dX5_order_23 rfl (lv_at hl 0 rfl) ?_
      refine lv_aload_n hx hb dX5_order_24 rfl (lv_at hl 0 rfl) ?_
      refine zt_get hx hb hts hown hI 1 (v := .ref g.2.2.1) (by decide) q3633 rfl rfl dX5_order_25 ?_
      refine lv_bipush (v := 7) hx hb dX5_order_28 (by decide) ?_
      refine zt_ld1 hx hb hI hw.1 dX5_order_30 ?_
      have hw := hw.2
      refine lv_bipush (v := 20) hx hb dX5_order_31 (by decide) ?_
      refine lv_icmp_ne (tgt := 40) hx hb dX5_order_33 (by decide) (fun hc_14 => ?_) (fun hc_14 => ?_)
      · have hw := hw.1 hc_14
        refine lv_iconst (v := 0) hx hb dX5_order_40 (by decide) ?_
        exact zj_order_41 g post (0 : Int32) p1 p2 p3 S ⟨hx, hb, hml, hown, hts, hr, hlk⟩ hw hI (lv_sub hl [0, 1, 2, 3] rfl)
      · have hw := hw.2 hc_14
        refine lv_iconst (v := 1) hx hb dX5_order_36 (by decide) ?_
        refine lv_goto (tgt := 41) hx hb dX5_order_37 (by decide) ?_
        exact zj_order_41 g post (1 : Int32) p1 p2 p3 S ⟨hx, hb, hml, hown, hts, hr, hlk⟩ hw hI (lv_sub hl [0, 1, 2, 3] rfl)
    · have hw := hw.2 hc_13
      exact zj_order_19 g post p1 p2 p3 S ⟨hx, hb, hml, hown, hts, hr, hlk⟩ hw hI (lv_sub hl [0, 1, 2, 3] rfl)
theorem hdT_order : yX5_order.cls = RX5 ∧ yX5_order.cls ≠ "java/lang/invoke/MethodHandle" ∧ yX5_order.cls ≠ "java/lang/invoke/VarHandle" ∧ (parseMethodDescriptor yX5_order.desc).map (fun d => d.parameters.length) = some 3 := by decide +kernel
def zw_isOrder (p1 : Int32) (S : zt_S) (post : Int32 → zt_S → Prop) : Prop :=
  vp_in (7 : Int32) 3810 ∧ (zw_in p1 (0 : Int32) ((S 1 (7 : Int32).toNatClampNeg) - (1 : Int32)) (fun (r_1 : Int32) => zt_nar .boolean r_1 ∧ post r_1 S))
set_option maxHeartbeats 4000000 in
theorem zm_isOrder (l : Launch) (g : zt_G) (p1 : Int32) (S : zt_S) (post : Int32 → zt_S → Prop) (hw : zw_isOrder p1 S post) : Met l yX5_isOrder (ws_ yX5_isOrder cX5_isOrder 2 (some .boolean)) ({ frames := 1, cells := 0, slots := 0, locals := 22 } : Room) (va_Pc (.ref g.2.1 :: [.int p1]) (zt_B g S)) (va_Qi post (zt_B g) (zt_A g)) 0 0 (zt_A g) := by
  refine zt_met (by decide) rfl (Nat.le_of_ble_eq_true rfl) (fun p e s m below meth c ls hC hI hl => ?_)
  generalize (Value.ref g.2.1 :: ([.int p1] : List Value)).toArray = args at hC ⊢
  obtain ⟨hx, hb, hml, hown, hts, hr, hlk⟩ := hC
  have hl : lv_has ls 2 [(0, .ref g.2.1), (1, .int p1)] := hl
  unfold zw_isOrder at hw
  obtain ⟨H, eH⟩ : ∃ z, z = s.heap := ⟨_, rfl⟩
  obtain ⟨locs, elo⟩ : ∃ z : List Loc, z = [] := ⟨_, rfl⟩
  rw [← eH, ← elo] at hI ⊢
  refine lv_iload_n hx hb dX5_isOrder_0 rfl (lv_at hl 1 rfl) ?_
  refine lv_iconst (v := 0) hx hb dX5_isOrder_1 (by decide) ?_
  refine lv_aload_n hx hb dX5_isOrder_2 rfl (lv_at hl 0 rfl) ?_
  refine zt_get hx hb hts hown hI 1 (v := .ref g.2.2.1) (by decide) q3633 rfl rfl dX5_isOrder_3 ?_
  refine lv_bipush (v := 7) hx hb dX5_isOrder_6 (by decide) ?_
  refine zt_ld1 hx hb hI hw.1 dX5_isOrder_8 ?_
  have hw := hw.2
  refine lv_iconst (v := 1) hx hb dX5_isOrder_9 (by decide) ?_
  refine lv_isub hx hb dX5_isOrder_10 ?_
  refine zt_callS (As := [.int p1, .int (0 : Int32), .int ((S 1 (7 : Int32).toNatClampNeg) - (1 : Int32))]) (rest := []) ⟨hx, hb, hml, hown, hts⟩ (zm_in l p1 (0 : Int32) ((S 1 (7 : Int32).toNatClampNeg) - (1 : Int32)) _ hw) (va_cwS 3 hts (lw_S q3693 q3694 q113 q3695) rfl rfl rfl hdT_in ⟨Nat.le_of_ble_eq_true rfl, Nat.le_of_ble_eq_true rfl⟩) rfl hl.1 rfl (lv_room (Nat.le_of_ble_eq_true rfl)) dX5_isOrder_11 ⟨Nat.le_refl _, Nat.le_refl _⟩ (fun r_1 hw => ?_)
  exact zt_zret hx hb hr hlk hI hw.1 hw.2 dX5_isOrder_14
theorem hdT_isOrder : yX5_isOrder.cls = RX5 ∧ yX5_isOrder.cls ≠ "java/lang/invoke/MethodHandle" ∧ yX5_isOrder.cls ≠ "java/lang/invoke/VarHandle" ∧ (parseMethodDescriptor yX5_isOrder.desc).map (fun d => d.parameters.length) = some 1 := by decide +kernel
def zw_o (p1 : Int32) (p2 : Int32) (S : zt_S) (post : Int32 → zt_S → Prop) : Prop :=
  vp_in (((280 : Int32) + ((4 : Int32) * p1)) + p2) 3810 ∧ (post (S 1 (((280 : Int32) + ((4 : Int32) * p1)) + p2).toNatClampNeg) S)
set_option maxHeartbeats 4000000 in
theorem zm_o (l : Launch) (g : zt_G) (p1 : Int32) (p2 : Int32) (S : zt_S) (post : Int32 → zt_S → Prop) (hw : zw_o p1 p2 S post) : Met l yX5_o (ws_ yX5_o cX5_o 3 (some .int)) ({ frames := 0, cells := 0, slots := 0, locals := 0 } : Room) (va_Pc (.ref g.2.1 :: [.int p1, .int p2]) (zt_B g S)) (va_Qi post (zt_B g) (zt_A g)) 0 0 (zt_A g) := by
  refine zt_met (by decide) rfl (Nat.le_of_ble_eq_true rfl) (fun p e s m below meth c ls hC hI hl => ?_)
  generalize (Value.ref g.2.1 :: ([.int p1, .int p2] : List Value)).toArray = args at hC ⊢
  obtain ⟨hx, hb, hml, hown, hts, hr, hlk⟩ := hC
  have hl : lv_has ls 3 [(0, .ref g.2.1), (1, .int p1), (2, .int p2)] := hl
  unfold zw_o at hw
  obtain ⟨H, eH⟩ : ∃ z, z = s.heap := ⟨_, rfl⟩
  obtain ⟨locs, elo⟩ : ∃ z : List Loc, z = [] := ⟨_, rfl⟩
  rw [← eH, ← elo] at hI ⊢
  refine lv_aload_n hx hb dX5_o_0 rfl (lv_at hl 0 rfl) ?_
  refine zt_get hx hb hts hown hI 1 (v := .ref g.2.2.1) (by decide) q3633 rfl rfl dX5_o_1 ?_
  refine lv_sipush (v := 280) hx hb dX5_o_4 (by decide) ?_
  refine lv_iconst (v := 4) hx hb dX5_o_7 (by decide) ?_
  refine lv_iload_n hx hb dX5_o_8 rfl (lv_at hl 1 rfl) ?_
  refine lv_imul hx hb dX5_o_9 ?_
  refine lv_iadd hx hb dX5_o_10 ?_
  refine lv_iload_n hx hb dX5_o_11 rfl (lv_at hl 2 rfl) ?_
  refine lv_iadd hx hb dX5_o_12 ?_
  refine zt_ld1 hx hb hI hw.1 dX5_o_13 ?_
  have hw := hw.2
  exact zt_iret hx hb hr hlk hI hw dX5_o_14
theorem hdT_o : yX5_o.cls = RX5 ∧ yX5_o.cls ≠ "java/lang/invoke/MethodHandle" ∧ yX5_o.cls ≠ "java/lang/invoke/VarHandle" ∧ (parseMethodDescriptor yX5_o.desc).map (fun d => d.parameters.length) = some 2 := by decide +kernel
def zw_doesNotWait_15 (post : Int32 → zt_S → Prop) (t0 : Int32) (v1 : Int32) (S : zt_S) : Prop :=
  zw_o v1 (3 : Int32) S (fun (r_5 : Int32) (S_4 : zt_S) => zw_refuses t0 (5 : Int32) r_5 S_4 (fun (r_7 : Int32) (S_6 : zt_S) => zt_nar .boolean r_7 ∧ post r_7 S_6))
set_option maxHeartbeats 4000000 in
theorem zj_doesNotWait_15 {p : Program} {l : Launch} {e : Env} {s : State} {m : MethodId} {args : Array Value} {below : List Frame} {meth : Method} {c : Code} {H : Heap} {locs : List Loc} {ls : Array Slot} (g : zt_G) (post : Int32 → zt_S → Prop) (t0 : Int32) (v1 : Int32) (S : zt_S) (hC : zt_C p s m args meth c cX5_doesNotWait 2 (some .boolean)) (hw : zw_doesNotWait_15 post t0 v1 S) (hI : zt_I g S s H locs) (hl : lv_has ls 2 [(0, .ref g.2.1), (1, .int v1)]) : W p l e ({ frames := 1, cells := 0, slots := 0, locals := 23 } : Room) s m args below meth c H locs 0 0 (MQ below (va_Qi post (zt_B g) (zt_A g)) args s 0 0 (zt_A g)) (F0 m 15 ls [.int t0, .ref g.2.1]) := by
  obtain ⟨hx, hb, hml, hown, hts, hr, hlk⟩ := hC
  unfold zw_doesNotWait_15 at hw
  refine lv_iconst (v := 5) hx hb dX5_doesNotWait_15 (by decide) ?_
  refine lv_aload_n hx hb dX5_doesNotWait_16 rfl (lv_at hl 0 rfl) ?_
  refine lv_iload_n hx hb dX5_doesNotWait_17 rfl (lv_at hl 1 rfl) ?_
  refine lv_iconst (v := 3) hx hb dX5_doesNotWait_18 (by decide) ?_
  refine zt_calli (As := [.int v1, .int (3 : Int32)]) (rest := [.int (5 : Int32), .int t0, .ref g.2.1]) ⟨hx, hb, hml, hown, hts⟩ hI (zm_o l g v1 (3 : Int32) S _ hw) (cwV 2 hts (lw_V q3895 q3897 qs70 q113 q3898) rfl rfl rfl hdT_o ⟨Nat.le_of_ble_eq_true rfl, Nat.le_of_ble_eq_true rfl⟩) rfl hl.1 rfl (lv_room (Nat.le_of_ble_eq_true rfl)) dX5_doesNotWait_19 ⟨Nat.le_refl _, Nat.le_refl _⟩ (fun r_5 S_4 H locs hw hI => ?_)
  refine zt_calli (As := [.int t0, .int (5 : Int32), .int r_5]) (rest := []) ⟨hx, hb, hml, hown, hts⟩ hI (zm_refuses l g t0 (5 : Int32) r_5 S_4 _ hw) (cwV 3 hts (lw_V q3696 q3698 qs38 q113 q3699) rfl rfl rfl hdT_refuses ⟨Nat.le_of_ble_eq_true rfl, Nat.le_of_ble_eq_true rfl⟩) rfl hl.1 rfl (lv_room (Nat.le_of_ble_eq_true rfl)) dX5_doesNotWait_22 ⟨Nat.le_refl _, Nat.le_refl _⟩ (fun r_7 S_6 H locs hw hI => ?_)
  exact zt_zret hx hb hr hlk hI hw.1 hw.2 dX5_doesNotWait_25
def zw_doesNotWait (p1 : Int32) (S : zt_S) (post : Int32 → zt_S → Prop) : Prop :=
  zw_o p1 (3 : Int32) S (fun (r_2 : Int32) (S_1 : zt_S) => (r_2 = (0 : Int32) → (zw_doesNotWait_15 post (0 : Int32) p1 S_1)) ∧ (¬ r_2 = (0 : Int32) → (zw_doesNotWait_15 post (1 : Int32) p1 S_1)))
set_option maxHeartbeats 4000000 in
theorem zm_doesNotWait (l : Launch) (g : zt_G) (p1 : Int32) (S : zt_S) (post : Int32 → zt_S → Prop) (hw : zw_doesNotWait p1 S post) : Met l yX5_doesNotWait (ws_ yX5_doesNotWait cX5_doesNotWait 2 (some .boolean)) ({ frames := 1, cells := 0, slots := 0, locals := 23 } : Room) (va_Pc (.ref g.2.1 :: [.int p1]) (zt_B g S)) (va_Qi post (zt_B g) (zt_A g)) 0 0 (zt_A g) := by
  refine zt_met (by decide) rfl (Nat.le_of_ble_eq_true rfl) (fun p e s m below meth c ls hC hI hl => ?_)
  generalize (Value.ref g.2.1 :: ([.int p1] : List Value)).toArray = args at hC ⊢
  obtain ⟨hx, hb, hml, hown, hts, hr, hlk⟩ := hC
  have hl : lv_has ls 2 [(0, .ref g.2.1), (1, .int p1)] := hl
  unfold zw_doesNotWait at hw
  obtain ⟨H, eH⟩ : ∃ z, z = s.heap := ⟨_, rfl⟩
  obtain ⟨locs, elo⟩ : ∃ z : List Loc, z = [] := ⟨_, rfl⟩
  rw [← eH, ← elo] at hI ⊢
  refine lv_aload_n hx hb dX5_doesNotWait_0 rfl (lv_at hl 0 rfl) ?_
  refine lv_aload_n hx hb dX5_doesNotWait_1 rfl (lv_at hl 0 rfl) ?_
  refine lv_iload_n hx hb dX5_doesNotWait_2 rfl (lv_at hl 1 rfl) ?_
  refine lv_iconst (v := 3) hx hb dX5_doesNotWait_3 (by decide) ?_
  refine zt_calli (As := [.int p1, .int (3 : Int32)]) (rest := [.ref g.2.1]) ⟨hx, hb, hml, hown, hts⟩ hI (zm_o l g p1 (3 : Int32) S _ hw) (cwV 2 hts (lw_V q3895 q3897 qs70 q113 q3898) rfl rfl rfl hdT_o ⟨Nat.le_of_ble_eq_true rfl, Nat.le_of_ble_eq_true rfl⟩) rfl hl.1 rfl (lv_room (Nat.le_of_ble_eq_true rfl)) dX5_doesNotWait_4 ⟨Nat.le_refl _, Nat.le_refl _⟩ (fun r_2 S_1 H locs hw hI => ?_)
  refine lv_if_eq (tgt := 14) hx hb dX5_doesNotWait_7 (by decide) (fun hc_3 => ?_) (fun hc_3 => ?_)
  · have hw := hw.1 hc_3
    refine lv_iconst (v := 0) hx hb dX5_doesNotWait_14 (by decide) ?_
    exact zj_doesNotWait_15 g post (0 : Int32) p1 S_1 ⟨hx, hb, hml, hown, hts, hr, hlk⟩ hw hI (lv_sub hl [0, 1] rfl)
  · have hw := hw.2 hc_3
    refine lv_iconst (v := 1) hx hb dX5_doesNotWait_10 (by decide) ?_
    refine lv_goto (tgt := 15) hx hb dX5_doesNotWait_11 (by decide) ?_
    exact zj_doesNotWait_15 g post (1 : Int32) p1 S_1 ⟨hx, hb, hml, hown, hts, hr, hlk⟩ hw hI (lv_sub hl [0, 1] rfl)
theorem hdT_doesNotWait : yX5_doesNotWait.cls = RX5 ∧ yX5_doesNotWait.cls ≠ "java/lang/invoke/MethodHandle" ∧ yX5_doesNotWait.cls ≠ "java/lang/invoke/VarHandle" ∧ (parseMethodDescriptor yX5_doesNotWait.desc).map (fun d => d.parameters.length) = some 1 := by decide +kernel
def zw_c (p1 : Int32) (p2 : Int32) (S : zt_S) (post : Int32 → zt_S → Prop) : Prop :=
  vp_in (((360 : Int32) + ((3 : Int32) * p1)) + p2) 3810 ∧ (post (S 1 (((360 : Int32) + ((3 : Int32) * p1)) + p2).toNatClampNeg) S)
set_option maxHeartbeats 4000000 in
theorem zm_c (l : Launch) (g : zt_G) (p1 : Int32) (p2 : Int32) (S : zt_S) (post : Int32 → zt_S → Prop) (hw : zw_c p1 p2 S post) : Met l yX5_c (ws_ yX5_c cX5_c 3 (some .int)) ({ frames := 0, cells := 0, slots := 0, locals := 0 } : Room) (va_Pc (.ref g.2.1 :: [.int p1, .int p2]) (zt_B g S)) (va_Qi post (zt_B g) (zt_A g)) 0 0 (zt_A g) := by
  refine zt_met (by decide) rfl (Nat.le_of_ble_eq_true rfl) (fun p e s m below meth c ls hC hI hl => ?_)
  generalize (Value.ref g.2.1 :: ([.int p1, .int p2] : List Value)).toArray = args at hC ⊢
  obtain ⟨hx, hb, hml, hown, hts, hr, hlk⟩ := hC
  have hl : lv_has ls 3 [(0, .ref g.2.1), (1, .int p1), (2, .int p2)] := hl
  unfold zw_c at hw
  obtain ⟨H, eH⟩ : ∃ z, z = s.heap := ⟨_, rfl⟩
  obtain ⟨locs, elo⟩ : ∃ z : List Loc, z = [] := ⟨_, rfl⟩
  rw [← eH, ← elo] at hI ⊢
  refine lv_aload_n hx hb dX5_c_0 rfl (lv_at hl 0 rfl) ?_
  refine zt_get hx hb hts hown hI 1 (v := .ref g.2.2.1) (by decide) q3633 rfl rfl dX5_c_1 ?_
  refine lv_sipush (v := 360) hx hb dX5_c_4 (by decide) ?_
  refine lv_iconst (v := 3) hx hb dX5_c_7 (by decide) ?_
  refine lv_iload_n hx hb dX5_c_8 rfl (lv_at hl 1 rfl) ?_
  refine lv_imul hx hb dX5_c_9 ?_
  refine lv_iadd hx hb dX5_c_10 ?_
  refine lv_iload_n hx hb dX5_c_11 rfl (lv_at hl 2 rfl) ?_
  refine lv_iadd hx hb dX5_c_12 ?_
  refine zt_ld1 hx hb hI hw.1 dX5_c_13 ?_
  have hw := hw.2
  exact zt_iret hx hb hr hlk hI hw dX5_c_14
theorem hdT_c : yX5_c.cls = RX5 ∧ yX5_c.cls ≠ "java/lang/invoke/MethodHandle" ∧ yX5_c.cls ≠ "java/lang/invoke/VarHandle" ∧ (parseMethodDescriptor yX5_c.desc).map (fun d => d.parameters.length) = some 2 := by decide +kernel
def zw_cartWith (p1 : Int32) (S : zt_S) (post : Int32 → zt_S → Prop) : Prop :=
  ∃ (In_1 : Int32 → zt_S → Prop) (mu_1 : Int32 → zt_S → Nat), In_1 (0 : Int32) S ∧ ∀ (x2_1 : Int32) (S_1 : zt_S), In_1 x2_1 S_1 → (vp_in (8 : Int32) 3810 ∧ ((S_1 1 (8 : Int32).toNatClampNeg ≤ x2_1 → (post (-1 : Int32) S_1)) ∧ (¬ S_1 1 (8 : Int32).toNatClampNeg ≤ x2_1 → (zw_c x2_1 (2 : Int32) S_1 (fun (r_4 : Int32) (S_3 : zt_S) => (¬ r_4 = p1 → (In_1 (x2_1 + (1 : Int32)) S_3 ∧ mu_1 (x2_1 + (1 : Int32)) S_3 < mu_1 x2_1 S_1)) ∧ (r_4 = p1 → (post x2_1 S_3)))))))
set_option maxHeartbeats 4000000 in
theorem zm_cartWith (l : Launch) (g : zt_G) (p1 : Int32) (S : zt_S) (post : Int32 → zt_S → Prop) (hw : zw_cartWith p1 S post) : Met l yX5_cartWith (ws_ yX5_cartWith cX5_cartWith 3 (some .int)) ({ frames := 1, cells := 0, slots := 0, locals := 22 } : Room) (va_Pc (.ref g.2.1 :: [.int p1]) (zt_B g S)) (va_Qi post (zt_B g) (zt_A g)) 0 0 (zt_A g) := by
  refine zt_met (by decide) rfl (Nat.le_of_ble_eq_true rfl) (fun p e s m below meth c ls hC hI hl => ?_)
  generalize (Value.ref g.2.1 :: ([.int p1] : List Value)).toArray = args at hC ⊢
  obtain ⟨hx, hb, hml, hown, hts, hr, hlk⟩ := hC
  have hl : lv_has ls 3 [(0, .ref g.2.1), (1, .int p1)] := hl
  unfold zw_cartWith at hw
  obtain ⟨H, eH⟩ : ∃ z, z = s.heap := ⟨_, rfl⟩
  obtain ⟨locs, elo⟩ : ∃ z : List Loc, z = [] := ⟨_, rfl⟩
  rw [← eH, ← elo] at hI ⊢
  refine lv_iconst (v := 0) hx hb dX5_cartWith_0 (by decide) ?_
  refine lv_istore_n (lv' := [(2, .int (0 : Int32)), (0, .ref g.2.1), (1, .int p1)]) hx hb dX5_cartWith_1 rfl hl (by decide) rfl (fun ls hl => ?_)
  obtain ⟨In_1, mu_1, h0_1, hw⟩ := hw
  have hL_1 : ∀ (n : Nat) (x2_1 : Int32) (S_1 : zt_S) (H : Heap) (locs : List Loc) (ls : Array Slot), mu_1 x2_1 S_1 < n → In_1 x2_1 S_1 → zt_I g S_1 s H locs → lv_has ls 3 [(0, .ref g.2.1), (1, .int p1), (2, .int x2_1)] → W p l e ({ frames := 1, cells := 0, slots := 0, locals := 22 } : Room) s m args below meth c H locs 0 0 (MQ below (va_Qi post (zt_B g) (zt_A g)) args s 0 0 (zt_A g)) (F0 m 2 ls []) := by
    intro n
    induction n with
    | zero => intro x2_1 S_1 H locs ls hn _ _ _; exact absurd hn (Nat.not_lt_zero _)
    | succ n ih_1 =>
      intro x2_1 S_1 H locs ls hn_1 hi_1 hI hl
      have hw := hw x2_1 S_1 hi_1
      refine lv_iload_n hx hb dX5_cartWith_2 rfl (lv_at hl 2 rfl) ?_
      refine lv_aload_n hx hb dX5_cartWith_3 rfl (lv_at hl 0 rfl) ?_
      refine zt_get hx hb hts hown hI 1 (v := .ref g.2.2.1) (by decide) q3633 rfl rfl dX5_cartWith_4 ?_
      refine lv_bipush (v := 8) hx hb dX5_cartWith_7 (by decide) ?_
      refine zt_ld1 hx hb hI hw.1 dX5_cartWith_9 ?_
      have hw := hw.2
      refine lv_icmp_ge (tgt := 31) hx hb dX5_cartWith_10 (by decide) (fun hc_2 => ?_) (fun hc_2 => ?_)
      · have hw := hw.1 hc_2
        refine lv_iconst (v := -1) hx hb dX5_cartWith_31 (by decide) ?_
        exact zt_iret hx hb hr hlk hI hw dX5_cartWith_32
      · have hw := hw.2 hc_2
        refine lv_aload_n hx hb dX5_cartWith_13 rfl (lv_at hl 0 rfl) ?_
        refine lv_iload_n hx hb dX5_cartWith_14 rfl (lv_at hl 2 rfl) ?_
        refine lv_iconst (v := 2) hx hb dX5_cartWith_15 (by decide) ?_
        refine zt_calli (As := [.int x2_1, .int (2 : Int32)]) (rest := []) ⟨hx, hb, hml, hown, hts⟩ hI (zm_c l g x2_1 (2 : Int32) S_1 _ hw) (cwV 2 hts (lw_V q3903 q3905 qs72 q113 q3906) rfl rfl rfl hdT_c ⟨Nat.le_of_ble_eq_true rfl, Nat.le_of_ble_eq_true rfl⟩) rfl hl.1 rfl (lv_room (Nat.le_of_ble_eq_true rfl)) dX5_cartWith_16 ⟨Nat.le_refl _, Nat.le_refl _⟩ (fun r_4 S_3 H locs hw hI => ?_)
        refine lv_iload_n hx hb dX5_cartWith_19 rfl (lv_at hl 1 rfl) ?_
        refine lv_icmp_ne (tgt := 25) hx hb dX5_cartWith_20 (by decide) (fun hc_5 => ?_) (fun hc_5 => ?_)
        · have hw := hw.1 hc_5
          refine lv_iinc (v := x2_1 + (1 : Int32)) (lv' := [(2, .int (x2_1 + (1 : Int32))), (0, .ref g.2.1), (1, .int p1)]) hx hb dX5_cartWith_25 hl (k := 2) rfl rfl (by decide) rfl (fun ls hl => ?_)
          refine lv_goto (tgt := 2) hx hb dX5_cartWith_28 (by decide) ?_
          exact ih_1 _ _ H locs ls (Nat.lt_of_lt_of_le hw.2 (Nat.le_of_lt_succ hn_1)) hw.1 hI (lv_sub hl [1, 2, 0] rfl)
        · have hw := hw.2 hc_5
          refine lv_iload_n hx hb dX5_cartWith_23 rfl (lv_at hl 2 rfl) ?_
          exact zt_iret hx hb hr hlk hI hw dX5_cartWith_24
  exact hL_1 _ _ _ H locs ls (Nat.lt_succ_self _) h0_1 hI (lv_sub hl [1, 2, 0] rfl)
theorem hdT_cartWith : yX5_cartWith.cls = RX5 ∧ yX5_cartWith.cls ≠ "java/lang/invoke/MethodHandle" ∧ yX5_cartWith.cls ≠ "java/lang/invoke/VarHandle" ∧ (parseMethodDescriptor yX5_cartWith.desc).map (fun d => d.parameters.length) = some 1 := by decide +kernel
def zw_setCart (p1 : Int32) (p2 : Int32) (p3 : Int32) (S : zt_S) (post : zt_S → Prop) : Prop :=
  vp_in (((360 : Int32) + ((3 : Int32) * p1)) + p2) 3810 ∧ ∀ S_1 : zt_S, S_1 = zt_us S 1 (((360 : Int32) + ((3 : Int32) * p1)) + p2).toNatClampNeg p3 → (post S_1)
set_option maxHeartbeats 4000000 in
theorem zm_setCart (l : Launch) (g : zt_G) (p1 : Int32) (p2 : Int32) (p3 : Int32) (S : zt_S) (post : zt_S → Prop) (hw : zw_setCart p1 p2 p3 S post) : Met l yX5_setCart (ws_ yX5_setCart cX5_setCart 4 none) ({ frames := 0, cells := 0, slots := 0, locals := 0 } : Room) (va_Pc (.ref g.2.1 :: [.int p1, .int p2, .int p3]) (zt_B g S)) (va_Qv post (zt_B g) (zt_A g)) 0 0 (zt_A g) := by
  refine zt_met (by decide) rfl (Nat.le_of_ble_eq_true rfl) (fun p e s m below meth c ls hC hI hl => ?_)
  generalize (Value.ref g.2.1 :: ([.int p1, .int p2, .int p3] : List Value)).toArray = args at hC ⊢
  obtain ⟨hx, hb, hml, hown, hts, hr, hlk⟩ := hC
  have hl : lv_has ls 4 [(0, .ref g.2.1), (1, .int p1), (2, .int p2), (3, .int p3)] := hl
  unfold zw_setCart at hw
  obtain ⟨H, eH⟩ : ∃ z, z = s.heap := ⟨_, rfl⟩
  obtain ⟨locs, elo⟩ : ∃ z : List Loc, z = [] := ⟨_, rfl⟩
  rw [← eH, ← elo] at hI ⊢
  refine lv_aload_n hx hb dX5_setCart_0 rfl (lv_at hl 0 rfl) ?_
  refine zt_get hx hb hts hown hI 1 (v := .ref g.2.2.1) (by decide) q3633 rfl rfl dX5_setCart_1 ?_
  refine lv_sipush (v := 360) hx hb dX5_setCart_4 (by decide) ?_
  refine lv_iconst (v := 3) hx hb dX5_setCart_7 (by decide) ?_
  refine lv_iload_n hx hb dX5_setCart_8 rfl (lv_at hl 1 rfl) ?_
  refine lv_imul hx hb dX5_setCart_9 ?_
  refine lv_iadd hx hb dX5_setCart_10 ?_
  refine lv_iload_n hx hb dX5_setCart_11 rfl (lv_at hl 2 rfl) ?_
  refine lv_iadd hx hb dX5_setCart_12 ?_
  refine lv_iload_n hx hb dX5_setCart_13 rfl (lv_at hl 3 rfl) ?_
  refine zt_st1 hx hb hI hw.1 dX5_setCart_14 (fun H locs hI => ?_)
  obtain ⟨S_1, eS_1⟩ : ∃ z, z = zt_us S 1 (((360 : Int32) + ((3 : Int32) * p1)) + p2).toNatClampNeg p3 := ⟨_, rfl⟩
  rw [← eS_1] at hI
  have hw := hw.2 S_1 eS_1
  exact zt_vret hx hb hr hlk hI hw dX5_setCart_15
theorem hdT_setCart : yX5_setCart.cls = RX5 ∧ yX5_setCart.cls ≠ "java/lang/invoke/MethodHandle" ∧ yX5_setCart.cls ≠ "java/lang/invoke/VarHandle" ∧ (parseMethodDescriptor yX5_setCart.desc).map (fun d => d.parameters.length) = some 3 := by decide +kernel
def zw_empties (p1 : Int32) (S : zt_S) (post : zt_S → Prop) : Prop :=
  zw_setCart p1 (1 : Int32) (0 : Int32) S (fun (S_1 : zt_S) => zw_setCart p1 (2 : Int32) (-1 : Int32) S_1 (fun (S_2 : zt_S) => post S_2))
set_option maxHeartbeats 4000000 in
theorem zm_empties (l : Launch) (g : zt_G) (p1 : Int32) (S : zt_S) (post : zt_S → Prop) (hw : zw_empties p1 S post) : Met l yX5_empties (ws_ yX5_empties cX5_empties 2 none) ({ frames := 1, cells := 0, slots := 0, locals := 23 } : Room) (va_Pc (.ref g.2.1 :: [.int p1]) (zt_B g S)) (va_Qv post (zt_B g) (zt_A g)) 0 0 (zt_A g) := by
  refine zt_met (by decide) rfl (Nat.le_of_ble_eq_true rfl) (fun p e s m below meth c ls hC hI hl => ?_)
  generalize (Value.ref g.2.1 :: ([.int p1] : List Value)).toArray = args at hC ⊢
  obtain ⟨hx, hb, hml, hown, hts, hr, hlk⟩ := hC
  have hl : lv_has ls 2 [(0, .ref g.2.1), (1, .int p1)] := hl
  unfold zw_empties at hw
  obtain ⟨H, eH⟩ : ∃ z, z = s.heap := ⟨_, rfl⟩
  obtain ⟨locs, elo⟩ : ∃ z : List Loc, z = [] := ⟨_, rfl⟩
  rw [← eH, ← elo] at hI ⊢
  refine lv_aload_n hx hb dX5_empties_0 rfl (lv_at hl 0 rfl) ?_
  refine lv_iload_n hx hb dX5_empties_1 rfl (lv_at hl 1 rfl) ?_
  refine lv_iconst (v := 1) hx hb dX5_empties_2 (by decide) ?_
  refine lv_iconst (v := 0) hx hb dX5_empties_3 (by decide) ?_
  refine zt_callv (As := [.int p1, .int (1 : Int32), .int (0 : Int32)]) (rest := []) ⟨hx, hb, hml, hown, hts⟩ hI (zm_setCart l g p1 (1 : Int32) (0 : Int32) S _ hw) (cwV 3 hts (lw_V q3911 q3913 qs74 q113 q3914) rfl rfl rfl hdT_setCart ⟨Nat.le_of_ble_eq_true rfl, Nat.le_of_ble_eq_true rfl⟩) rfl hl.1 rfl (lv_room (Nat.le_of_ble_eq_true rfl)) dX5_empties_4 ⟨Nat.le_refl _, Nat.le_refl _⟩ (fun S_1 H locs hw hI => ?_)
  refine lv_aload_n hx hb dX5_empties_7 rfl (lv_at hl 0 rfl) ?_
  refine lv_iload_n hx hb dX5_empties_8 rfl (lv_at hl 1 rfl) ?_
  refine lv_iconst (v := 2) hx hb dX5_empties_9 (by decide) ?_
  refine lv_iconst (v := -1) hx hb dX5_empties_10 (by decide) ?_
  refine zt_callv (As := [.int p1, .int (2 : Int32), .int (-1 : Int32)]) (rest := []) ⟨hx, hb, hml, hown, hts⟩ hI (zm_setCart l g p1 (2 : Int32) (-1 : Int32) S_1 _ hw) (cwV 3 hts (lw_V q3911 q3913 qs74 q113 q3914) rfl rfl rfl hdT_setCart ⟨Nat.le_of_ble_eq_true rfl, Nat.le_of_ble_eq_true rfl⟩) rfl hl.1 rfl (lv_room (Nat.le_of_ble_eq_true rfl)) dX5_empties_11 ⟨Nat.le_refl _, Nat.le_refl _⟩ (fun S_2 H locs hw hI => ?_)
  exact zt_vret hx hb hr hlk hI hw dX5_empties_14
theorem hdT_empties : yX5_empties.cls = RX5 ∧ yX5_empties.cls ≠ "java/lang/invoke/MethodHandle" ∧ yX5_empties.cls ≠ "java/lang/invoke/VarHandle" ∧ (parseMethodDescriptor yX5_empties.desc).map (fun d => d.parameters.length) = some 1 := by decide +kernel
def zw_cancels_42 (post : Int32 → zt_S → Prop) (t0 : Int32) (v1 : Int32) (v2 : Int32) (S : zt_S) : Prop :=
  ∀ S_12 : zt_S, S_12 = zt_us S 0 4 t0 → (vp_in (2 : Int32) 3810 ∧ (vp_in (2 : Int32) 3810 ∧ ∀ S_13 : zt_S, S_13 = zt_us S_12 1 (2 : Int32).toNatClampNeg ((S_12 1 (2 : Int32).toNatClampNeg) + (S_12 0 4)) → (vp_in (((280 : Int32) + ((4 : Int32) * v1)) + (3 : Int32)) 3810 ∧ ∀ S_14 : zt_S, S_14 = zt_us S_13 1 (((280 : Int32) + ((4 : Int32) * v1)) + (3 : Int32)).toNatClampNeg (2 : Int32) → ((v2 = (-1 : Int32) → (post (0 : Int32) S_14)) ∧ (¬ v2 = (-1 : Int32) → (zw_empties v2 S_14 (fun (S_16 : zt_S) => post (0 : Int32) S_16)))))))
set_option maxHeartbeats 4000000 in
theorem zj_cancels_42 {p : Program} {l : Launch} {e : Env} {s : State} {m : MethodId} {args : Array Value} {below : List Frame} {meth : Method} {c : Code} {H : Heap} {locs : List Loc} {ls : Array Slot} (g : zt_G) (post : Int32 → zt_S → Prop) (t0 : Int32) (v1 : Int32) (v2 : Int32) (S : zt_S) (hC : zt_C p s m args meth c cX5_cancels 3 (some .int)) (hw : zw_cancels_42 post t0 v1 v2 S) (hI : zt_I g S s H locs) (hl : lv_has ls 3 [(0, .ref g.2.1), (1, .int v1), (2, .int v2)]) : W p l e ({ frames := 2, cells := 0, slots := 0, locals := 44 } : Room) s m args below meth c H locs 0 0 (MQ below (va_Qi post (zt_B g) (zt_A g)) args s 0 0 (zt_A g)) (F0 m 42 ls [.int t0, .ref g.2.1]) := by
  obtain ⟨hx, hb, hml, hown, hts, hr, hlk⟩ := hC
  unfold zw_cancels_42 at hw
  refine zt_put hx hb hts hown hI 4 (v := t0) (ty := .int) (by decide) q3636 rfl rfl (by decide +kernel) rfl rfl rfl dX5_cancels_42 (fun H locs hI => ?_)
  obtain ⟨S_12, eS_12⟩ : ∃ z, z = zt_us S 0 4 t0 := ⟨_, rfl⟩
  rw [← eS_12] at hI
  have hw := hw S_12 eS_12
  refine lv_aload_n hx hb dX5_cancels_45 rfl (lv_at hl 0 rfl) ?_
  refine zt_get hx hb hts hown hI 1 (v := .ref g.2.2.1) (by decide) q3633 rfl rfl dX5_cancels_46 ?_
  refine lv_iconst (v := 2) hx hb dX5_cancels_49 (by decide) ?_
  refine lv_dup2_11 hx hb dX5_cancels_50 rfl rfl ?_
  refine zt_ld1 hx hb hI hw.1 dX5_cancels_51 ?_
  have hw := hw.2
  refine lv_aload_n hx hb dX5_cancels_52 rfl (lv_at hl 0 rfl) ?_
  refine zt_get hx hb hts hown hI 4 (v := .int (S_12 0 4)) (by decide) q3636 rfl rfl dX5_cancels_53 ?_
  refine lv_iadd hx hb dX5_cancels_56 ?_
  refine zt_st1 hx hb hI hw.1 dX5_cancels_57 (fun H locs hI => ?_)
  obtain ⟨S_13, eS_13⟩ : ∃ z, z = zt_us S_12 1 (2 : Int32).toNatClampNeg ((S_12 1 (2 : Int32).toNatClampNeg) + (S_12 0 4)) := ⟨_, rfl⟩
  rw [← eS_13] at hI
  have hw := hw.2 S_13 eS_13
  refine lv_aload_n hx hb dX5_cancels_58 rfl (lv_at hl 0 rfl) ?_
  refine zt_get hx hb hts hown hI 1 (v := .ref g.2.2.1) (by decide) q3633 rfl rfl dX5_cancels_59 ?_
  refine lv_sipush (v := 280) hx hb dX5_cancels_62 (by decide) ?_
  refine lv_iconst (v := 4) hx hb dX5_cancels_65 (by decide) ?_
  refine lv_iload_n hx hb dX5_cancels_66 rfl (lv_at hl 1 rfl) ?_
  refine lv_imul hx hb dX5_cancels_67 ?_
  refine lv_iadd hx hb dX5_cancels_68 ?_
  refine lv_iconst (v := 3) hx hb dX5_cancels_69 (by decide) ?_
  refine lv_iadd hx hb dX5_cancels_70 ?_
  refine lv_iconst (v := 2) hx hb dX5_cancels_71 (by decide) ?_
  refine zt_st1 hx hb hI hw.1 dX5_cancels_72 (fun H locs hI => ?_)
  obtain ⟨S_14, eS_14⟩ : ∃ z, z = zt_us S_13 1 (((280 : Int32) + ((4 : Int32) * v1)) + (3 : Int32)).toNatClampNeg (2 : Int32) := ⟨_, rfl⟩
  rw [← eS_14] at hI
  have hw := hw.2 S_14 eS_14
  refine lv_iload_n hx hb dX5_cancels_73 rfl (lv_at hl 2 rfl) ?_
  refine lv_iconst (v := -1) hx hb dX5_cancels_74 (by decide) ?_
  refine lv_icmp_eq (tgt := 83) hx hb dX5_cancels_75 (by decide) (fun hc_15 => ?_) (fun hc_15 => ?_)
  · have hw := hw.1 hc_15
    refine lv_iconst (v := 0) hx hb dX5_cancels_83 (by decide) ?_
    exact zt_iret hx hb hr hlk hI hw dX5_cancels_84
  · have hw := hw.2 hc_15
    refine lv_aload_n hx hb dX5_cancels_78 rfl (lv_at hl 0 rfl) ?_
    refine lv_iload_n hx hb dX5_cancels_79 rfl (lv_at hl 2 rfl) ?_
    refine zt_callv (As := [.int v2]) (rest := []) ⟨hx, hb, hml, hown, hts⟩ hI (zm_empties l g v2 S_14 _ hw) (cwV 1 hts (lw_V q3907 q3909 qs73 q113 q3910) rfl rfl rfl hdT_empties ⟨Nat.le_of_ble_eq_true rfl, Nat.le_of_ble_eq_true rfl⟩) rfl hl.1 rfl (lv_room (Nat.le_of_ble_eq_true rfl)) dX5_cancels_80 ⟨Nat.le_refl _, Nat.le_refl _⟩ (fun S_16 H locs hw hI => ?_)
    refine lv_iconst (v := 0) hx hb dX5_cancels_83 (by decide) ?_
    exact zt_iret hx hb hr hlk hI hw dX5_cancels_84
def zw_cancels (p1 : Int32) (S : zt_S) (post : Int32 → zt_S → Prop) : Prop :=
  zw_isOrder p1 S (fun (r_2 : Int32) (S_1 : zt_S) => (¬ r_2 = (0 : Int32) → (zw_doesNotWait p1 S_1 (fun (r_5 : Int32) (S_4 : zt_S) => (r_5 = (0 : Int32) → (zw_cartWith p1 S_4 (fun (r_8 : Int32) (S_7 : zt_S) => (¬ r_8 = (-1 : Int32) → (zw_c r_8 (1 : Int32) S_7 (fun (r_11 : Int32) (S_10 : zt_S) => zw_cancels_42 post r_11 p1 r_8 S_10))) ∧ (r_8 = (-1 : Int32) → (zw_cancels_42 post (0 : Int32) p1 r_8 S_7))))) ∧ (¬ r_5 = (0 : Int32) → (post (3 : Int32) S_4))))) ∧ (r_2 = (0 : Int32) → (post (1 : Int32) S_1)))
set_option maxHeartbeats 4000000 in
theorem zm_cancels (l : Launch) (g : zt_G) (p1 : Int32) (S : zt_S) (post : Int32 → zt_S → Prop) (hw : zw_cancels p1 S post) : Met l yX5_cancels (ws_ yX5_cancels cX5_cancels 3 (some .int)) ({ frames := 2, cells := 0, slots := 0, locals := 44 } : Room) (va_Pc (.ref g.2.1 :: [.int p1]) (zt_B g S)) (va_Qi post (zt_B g) (zt_A g)) 0 0 (zt_A g) := by
  refine zt_met (by decide) rfl (Nat.le_of_ble_eq_true rfl) (fun p e s m below meth c ls hC hI hl => ?_)
  generalize (Value.ref g.2.1 :: ([.int p1] : List Value)).toArray = args at hC ⊢
  obtain ⟨hx, hb, hml, hown, hts, hr, hlk⟩ := hC
  have hl : lv_has ls 3 [(0, .ref g.2.1), (1, .int p1)] := hl
  unfold zw_cancels at hw
  obtain ⟨H, eH⟩ : ∃ z, z = s.heap := ⟨_, rfl⟩
  obtain ⟨locs, elo⟩ : ∃ z : List Loc, z = [] := ⟨_, rfl⟩
  rw [← eH, ← elo] at hI ⊢
  refine lv_aload_n hx hb dX5_cancels_0 rfl (lv_at hl 0 rfl) ?_
  refine lv_iload_n hx hb dX5_cancels_1 rfl (lv_at hl 1 rfl) ?_
  refine zt_calli (As := [.int p1]) (rest := []) ⟨hx, hb, hml, hown, hts⟩ hI (zm_isOrder l g p1 S _ hw) (cwV 1 hts (lw_V q3887 q3889 qs68 q113 q3890) rfl rfl rfl hdT_isOrder ⟨Nat.le_of_ble_eq_true rfl, Nat.le_of_ble_eq_true rfl⟩) rfl hl.1 rfl (lv_room (Nat.le_of_ble_eq_true rfl)) dX5_cancels_2 ⟨Nat.le_refl _, Nat.le_refl _⟩ (fun r_2 S_1 H locs hw hI => ?_)
  refine lv_if_ne (tgt := 10) hx hb dX5_cancels_5 (by decide) (fun hc_3 => ?_) (fun hc_3 => ?_)
  · have hw := hw.1 hc_3
    refine lv_aload_n hx hb dX5_cancels_10 rfl (lv_at hl 0 rfl) ?_
    refine lv_iload_n hx hb dX5_cancels_11 rfl (lv_at hl 1 rfl) ?_
    refine zt_calli (As := [.int p1]) (rest := []) ⟨hx, hb, hml, hown, hts⟩ hI (zm_doesNotWait l g p1 S_1 _ hw) (cwV 1 hts (lw_V q3891 q3893 qs69 q113 q3894) rfl rfl rfl hdT_doesNotWait ⟨Nat.le_of_ble_eq_true rfl, Nat.le_of_ble_eq_true rfl⟩) rfl hl.1 rfl (lv_room (Nat.le_of_ble_eq_true rfl)) dX5_cancels_12 ⟨Nat.le_refl _, Nat.le_refl _⟩ (fun r_5 S_4 H locs hw hI => ?_)
    refine lv_if_eq (tgt := 20) hx hb dX5_cancels_15 (by decide) (fun hc_6 => ?_) (fun hc_6 => ?_)
    · have hw := hw.1 hc_6
      refine lv_aload_n hx hb dX5_cancels_20 rfl (lv_at hl 0 rfl) ?_
      refine lv_iload_n hx hb dX5_cancels_21 rfl (lv_at hl 1 rfl) ?_
      refine zt_calli (As := [.int p1]) (rest := []) ⟨hx, hb, hml, hown, hts⟩ hI (zm_cartWith l g p1 S_4 _ hw) (cwV 1 hts (lw_V q3899 q3901 qs71 q113 q3902) rfl rfl rfl hdT_cartWith ⟨Nat.le_of_ble_eq_true rfl, Nat.le_of_ble_eq_true rfl⟩) rfl hl.1 rfl (lv_room (Nat.le_of_ble_eq_true rfl)) dX5_cancels_22 ⟨Nat.le_refl _, Nat.le_refl _⟩ (fun r_8 S_7 H locs hw hI => ?_)
      refine lv_istore_n (lv' := [(2, .int r_8), (0, .ref g.2.1), (1, .int p1)]) hx hb dX5_cancels_25 rfl hl (by decide) rfl (fun ls hl => ?_)
      refine lv_aload_n hx hb dX5_cancels_26 rfl (lv_at hl 1 rfl) ?_
      refine lv_iload_n hx hb dX5_cancels_27 rfl (lv_at hl 0 rfl) ?_
      refine lv_iconst (v := -1) hx hb dX5_cancels_28 (by decide) ?_
      refine lv_icmp_ne (tgt := 36) hx hb dX5_cancels_29 (by decide) (fun hc_9 => ?_) (fun hc_9 => ?_)
      · have hw := hw.1 hc_9
        refine lv_aload_n hx hb dX5_cancels_36 rfl (lv_at hl 1 rfl) ?_
        refine lv_iload_n hx hb dX5_cancels_37 rfl (lv_at hl 0 rfl) ?_
        refine lv_iconst (v := 1) hx hb dX5_cancels_38 (by decide) ?_
        refine zt_calli (As := [.int r_8, .int (1 : Int32)]) (rest := [.ref g.2.1]) ⟨hx, hb, hml, hown, hts⟩ hI (zm_c l g r_8 (1 : Int32) S_7 _ hw) (cwV 2 hts (lw_V q3903 q3905 qs72 q113 q3906) rfl rfl rfl hdT_c ⟨Nat.le_of_ble_eq_true rfl, Nat.le_of_ble_eq_true rfl⟩) rfl hl.1 rfl (lv_room (Nat.le_of_ble_eq_true rfl)) dX5_cancels_39 ⟨Nat.le_refl _, Nat.le_refl _⟩ (fun r_11 S_10 H locs hw hI => ?_)
        exact zj_cancels_42 g post r_11 p1 r_8 S_10 ⟨hx, hb, hml, hown, hts, hr, hlk⟩ hw hI (lv_sub hl [1, 2, 0] rfl)
      · have hw := hw.2 hc_9
        refine lv_iconst (v := 0) hx hb dX5_cancels_32 (by decide) ?_
        refine lv_goto (tgt := 42) hx hb dX5_cancels_33 (by decide) ?_
        exact zj_cancels_42 g post (0 : Int32) p1 r_8 S_7 ⟨hx, hb, hml, hown, hts, hr, hlk⟩ hw hI (lv_sub hl [1, 2, 0] rfl)
    · have hw := hw.2 hc_6
      refine lv_iconst (v := 3) hx hb dX5_cancels_18 (by decide) ?_
      exact zt_iret hx hb hr hlk hI hw dX5_cancels_19
  · have hw := hw.2 hc_3
    refine lv_iconst (v := 1) hx hb dX5_cancels_8 (by decide) ?_
    exact zt_iret hx hb hr hlk hI hw dX5_cancels_9
theorem hdT_cancels : yX5_cancels.cls = RX5 ∧ yX5_cancels.cls ≠ "java/lang/invoke/MethodHandle" ∧ yX5_cancels.cls ≠ "java/lang/invoke/VarHandle" ∧ (parseMethodDescriptor yX5_cancels.desc).map (fun d => d.parameters.length) = some 1 := by decide +kernel
def zw_cancel (p1 : Int32) (S : zt_S) (post : Int32 → zt_S → Prop) : Prop :=
  zw_begins S (fun (S_1 : zt_S) => zw_cancels p1 S_1 (fun (r_3 : Int32) (S_2 : zt_S) => zw_ends r_3 (1 : Int32) (0 : Int32) (2 : Int32) S_2 (fun (r_5 : Int32) (S_4 : zt_S) => post r_5 S_4)))
set_option maxHeartbeats 4000000 in
theorem zm_cancel (l : Launch) (g : zt_G) (p1 : Int32) (S : zt_S) (post : Int32 → zt_S → Prop) (hw : zw_cancel p1 S post) : Met l yX5_cancel (ws_ yX5_cancel cX5_cancel 2 (some .int)) ({ frames := 3, cells := 0, slots := 0, locals := 68 } : Room) (va_Pc (.ref g.2.1 :: [.int p1]) (zt_B g S)) (va_Qi post (zt_B g) (zt_A g)) 0 0 (zt_A g) := by
  refine zt_met (by decide) rfl (Nat.le_of_ble_eq_true rfl) (fun p e s m below meth c ls hC hI hl => ?_)
  generalize (Value.ref g.2.1 :: ([.int p1] : List Value)).toArray = args at hC ⊢
  obtain ⟨hx, hb, hml, hown, hts, hr, hlk⟩ := hC
  have hl : lv_has ls 2 [(0, .ref g.2.1), (1, .int p1)] := hl
  unfold zw_cancel at hw
  obtain ⟨H, eH⟩ : ∃ z, z = s.heap := ⟨_, rfl⟩
  obtain ⟨locs, elo⟩ : ∃ z : List Loc, z = [] := ⟨_, rfl⟩
  rw [← eH, ← elo] at hI ⊢
  refine lv_aload_n hx hb dX5_cancel_0 rfl (lv_at hl 0 rfl) ?_
  refine zt_callv (As := []) (rest := []) ⟨hx, hb, hml, hown, hts⟩ hI (zm_begins l g S _ hw) (cwV 0 hts (lw_V q3700 q3702 qs39 q113 q3703) rfl rfl rfl hdT_begins ⟨Nat.le_of_ble_eq_true rfl, Nat.le_of_ble_eq_true rfl⟩) rfl hl.1 rfl (lv_room (Nat.le_of_ble_eq_true rfl)) dX5_cancel_1 ⟨Nat.le_refl _, Nat.le_refl _⟩ (fun S_1 H locs hw hI => ?_)
  refine lv_aload_n hx hb dX5_cancel_4 rfl (lv_at hl 0 rfl) ?_
  refine lv_aload_n hx hb dX5_cancel_5 rfl (lv_at hl 0 rfl) ?_
  refine lv_iload_n hx hb dX5_cancel_6 rfl (lv_at hl 1 rfl) ?_
  refine zt_calli (As := [.int p1]) (rest := [.ref g.2.1]) ⟨hx, hb, hml, hown, hts⟩ hI (zm_cancels l g p1 S_1 _ hw) (cwV 1 hts (lw_V q3883 q3885 qs67 q113 q3886) rfl rfl rfl hdT_cancels ⟨Nat.le_of_ble_eq_true rfl, Nat.le_of_ble_eq_true rfl⟩) rfl hl.1 rfl (lv_room (Nat.le_of_ble_eq_true rfl)) dX5_cancel_7 ⟨Nat.le_refl _, Nat.le_refl _⟩ (fun r_3 S_2 H locs hw hI => ?_)
  refine lv_iconst (v := 1) hx hb dX5_cancel_10 (by decide) ?_
  refine lv_iconst (v := 0) hx hb dX5_cancel_11 (by decide) ?_
  refine lv_iconst (v := 2) hx hb dX5_cancel_12 (by decide) ?_
  refine zt_calli (As := [.int r_3, .int (1 : Int32), .int (0 : Int32), .int (2 : Int32)]) (rest := []) ⟨hx, hb, hml, hown, hts⟩ hI (zm_ends l g r_3 (1 : Int32) (0 : Int32) (2 : Int32) S_2 _ hw) (cwV 4 hts (lw_V q3735 q3737 qs46 q113 q3738) rfl rfl rfl hdT_ends ⟨Nat.le_of_ble_eq_true rfl, Nat.le_of_ble_eq_true rfl⟩) rfl hl.1 rfl (lv_room (Nat.le_of_ble_eq_true rfl)) dX5_cancel_13 ⟨Nat.le_refl _, Nat.le_refl _⟩ (fun r_5 S_4 H locs hw hI => ?_)
  exact zt_iret hx hb hr hlk hI hw dX5_cancel_16
theorem hdT_cancel : yX5_cancel.cls = RX5 ∧ yX5_cancel.cls ≠ "java/lang/invoke/MethodHandle" ∧ yX5_cancel.cls ≠ "java/lang/invoke/VarHandle" ∧ (parseMethodDescriptor yX5_cancel.desc).map (fun d => d.parameters.length) = some 1 := by decide +kernel
def zw_cart_46 (post : Int32 → zt_S → Prop) (t0 : Int32) (v1 : Int32) (S : zt_S) : Prop :=
  ∀ S_7 : zt_S, S_7 = zt_us S 0 0 t0 → ((S_7 0 0 = (0 : Int32) → (zw_begins S_7 (fun (S_9 : zt_S) => vp_in (8 : Int32) 3810 ∧ (zw_setCart (S_9 1 (8 : Int32).toNatClampNeg) (0 : Int32) v1 S_9 (fun (S_10 : zt_S) => zw_empties (S_9 1 (8 : Int32).toNatClampNeg) S_10 (fun (S_11 : zt_S) => vp_in (8 : Int32) 3810 ∧ (vp_in (8 : Int32) 3810 ∧ ∀ S_12 : zt_S, S_12 = zt_us S_11 1 (8 : Int32).toNatClampNeg ((S_11 1 (8 : Int32).toNatClampNeg) + (1 : Int32)) → (zw_keeps S_12 (fun (S_13 : zt_S) => post (S_9 1 (8 : Int32).toNatClampNeg) S_13))))))))) ∧ (¬ S_7 0 0 = (0 : Int32) → (post (0 : Int32) S_7)))
set_option maxHeartbeats 4000000 in
theorem zj_cart_46 {p : Program} {l : Launch} {e : Env} {s : State} {m : MethodId} {args : Array Value} {below : List Frame} {meth : Method} {c : Code} {H : Heap} {locs : List Loc} {ls : Array Slot} (g : zt_G) (post : Int32 → zt_S → Prop) (t0 : Int32) (v1 : Int32) (S : zt_S) (hC : zt_C p s m args meth c cX5_cart 3 (some .int)) (hw : zw_cart_46 post t0 v1 S) (hI : zt_I g S s H locs) (hl : lv_has ls 3 [(0, .ref g.2.1), (1, .int v1)]) : W p l e ({ frames := 2, cells := 0, slots := 0, locals := 44 } : Room) s m args below meth c H locs 0 0 (MQ below (va_Qi post (zt_B g) (zt_A g)) args s 0 0 (zt_A g)) (F0 m 46 ls [.int t0, .ref g.2.1]) := by
  obtain ⟨hx, hb, hml, hown, hts, hr, hlk⟩ := hC
  unfold zw_cart_46 at hw
  refine zt_put hx hb hts hown hI 0 (v := t0) (ty := .int) (by decide) q3632 rfl rfl (by decide +kernel) rfl rfl rfl dX5_cart_46 (fun H locs hI => ?_)
  obtain ⟨S_7, eS_7⟩ : ∃ z, z = zt_us S 0 0 t0 := ⟨_, rfl⟩
  rw [← eS_7] at hI
  have hw := hw S_7 eS_7
  refine lv_aload_n hx hb dX5_cart_49 rfl (lv_at hl 0 rfl) ?_
  refine zt_get hx hb hts hown hI 0 (v := .int (S_7 0 0)) (by decide) q3632 rfl rfl dX5_cart_50 ?_
  refine lv_if_eq (tgt := 58) hx hb dX5_cart_53 (by decide) (fun hc_8 => ?_) (fun hc_8 => ?_)
  · have hw := hw.1 hc_8
    refine lv_aload_n hx hb dX5_cart_58 rfl (lv_at hl 0 rfl) ?_
    refine zt_callv (As := []) (rest := []) ⟨hx, hb, hml, hown, hts⟩ hI (zm_begins l g S_7 _ hw) (cwV 0 hts (lw_V q3700 q3702 qs39 q113 q3703) rfl rfl rfl hdT_begins ⟨Nat.le_of_ble_eq_true rfl, Nat.le_of_ble_eq_true rfl⟩) rfl hl.1 rfl (lv_room (Nat.le_of_ble_eq_true rfl)) dX5_cart_59 ⟨Nat.le_refl _, Nat.le_refl _⟩ (fun S_9 H locs hw hI => ?_)
    refine lv_aload_n hx hb dX5_cart_62 rfl (lv_at hl 0 rfl) ?_
    refine zt_get hx hb hts hown hI 1 (v := .ref g.2.2.1) (by decide) q3633 rfl rfl dX5_cart_63 ?_
    refine lv_bipush (v := 8) hx hb dX5_cart_66 (by decide) ?_
    refine zt_ld1 hx hb hI hw.1 dX5_cart_68 ?_
    have hw := hw.2
    refine lv_istore_n (lv' := [(2, .int (S_9 1 (8 : Int32).toNatClampNeg)), (0, .ref g.2.1), (1, .int v1)]) hx hb dX5_cart_69 rfl hl (by decide) rfl (fun ls hl => ?_)
    refine lv_aload_n hx hb dX5_cart_70 rfl (lv_at hl 1 rfl) ?_
    refine lv_iload_n hx hb dX5_cart_71 rfl (lv_at hl 0 rfl) ?_
    refine lv_iconst (v := 0) hx hb dX5_cart_72 (by decide) ?_
    refine lv_iload_n hx hb dX5_cart_73 rfl (lv_at hl 2 rfl) ?_
    refine zt_callv (As := [.int (S_9 1 (8 : Int32).toNatClampNeg), .int (0 : Int32), .int v1]) (rest := []) ⟨hx, hb, hml, hown, hts⟩ hI (zm_setCart l g (S_9 1 (8 : Int32).toNatClampNeg) (0 : Int32) v1 S_9 _ hw) (cwV 3 hts (lw_V q3911 q3913 qs74 q113 q3914) rfl rfl rfl hdT_setCart ⟨Nat.le_of_ble_eq_true rfl, Nat.le_of_ble_eq_true rfl⟩) rfl hl.1 rfl (lv_room (Nat.le_of_ble_eq_true rfl)) dX5_cart_74 ⟨Nat.le_refl _, Nat.le_refl _⟩ (fun S_10 H locs hw hI => ?_)
    refine lv_aload_n hx hb dX5_cart_77 rfl (lv_at hl 1 rfl) ?_
    refine lv_iload_n hx hb dX5_cart_78 rfl (lv_at hl 0 rfl) ?_
    refine zt_callv (As := [.int (S_9 1 (8 : Int32).toNatClampNeg)]) (rest := []) ⟨hx, hb, hml, hown, hts⟩ hI (zm_empties l g (S_9 1 (8 : Int32).toNatClampNeg) S_10 _ hw) (cwV 1 hts (lw_V q3907 q3909 qs73 q113 q3910) rfl rfl rfl hdT_empties ⟨Nat.le_of_ble_eq_true rfl, Nat.le_of_ble_eq_true rfl⟩) rfl hl.1 rfl (lv_room (Nat.le_of_ble_eq_true rfl)) dX5_cart_79 ⟨Nat.le_refl _, Nat.le_refl _⟩ (fun S_11 H locs hw hI => ?_)
    refine lv_aload_n hx hb dX5_cart_82 rfl (lv_at hl 1 rfl) ?_
    refine zt_get hx hb hts hown hI 1 (v := .ref g.2.2.1) (by decide) q3633 rfl rfl dX5_cart_83 ?_
    refine lv_bipush (v := 8) hx hb dX5_cart_86 (by decide) ?_
    refine lv_dup2_11 hx hb dX5_cart_88 rfl rfl ?_
    refine zt_ld1 hx hb hI hw.1 dX5_cart_89 ?_
    have hw := hw.2
    refine lv_iconst (v := 1) hx hb dX5_cart_90 (by decide) ?_
    refine lv_iadd hx hb dX5_cart_91 ?_
    refine zt_st1 hx hb hI hw.1 dX5_cart_92 (fun H locs hI => ?_)
    obtain ⟨S_12, eS_12⟩ : ∃ z, z = zt_us S_11 1 (8 : Int32).toNatClampNeg ((S_11 1 (8 : Int32).toNatClampNeg) + (1 : Int32)) := ⟨_, rfl⟩
    rw [← eS_12] at hI
    have hw := hw.2 S_12 eS_12
    refine lv_aload_n hx hb dX5_cart_93 rfl (lv_at hl 1 rfl) ?_
    refine zt_callv (As := []) (rest := []) ⟨hx, hb, hml, hown, hts⟩ hI (zm_keeps l g S_12 _ hw) (cwV 0 hts (lw_V q3716 q3718 qs43 q113 q3719) rfl rfl rfl hdT_keeps ⟨Nat.le_of_ble_eq_true rfl, Nat.le_of_ble_eq_true rfl⟩) rfl hl.1 rfl (lv_room (Nat.le_of_ble_eq_true rfl)) dX5_cart_94 ⟨Nat.le_refl _, Nat.le_refl _⟩ (fun S_13 H locs hw hI => ?_)
    refine lv_iload_n hx hb dX5_cart_97 rfl (lv_at hl 0 rfl) ?_
    exact zt_iret hx hb hr hlk hI hw dX5_cart_98
  · have hw := hw.2 hc_8
    refine lv_iconst (v := 0) hx hb dX5_cart_56 (by decide) ?_
    exact zt_iret hx hb hr hlk hI hw dX5_cart_57
def zw_cart_33 (post : Int32 → zt_S → Prop) (t0 : Int32) (v1 : Int32) (S : zt_S) : Prop :=
  zw_refuses t0 (1 : Int32) (3 : Int32) S (fun (r_5 : Int32) (S_4 : zt_S) => (r_5 = (0 : Int32) → (zw_cart_46 post (0 : Int32) v1 S_4)) ∧ (¬ r_5 = (0 : Int32) → (zw_cart_46 post (2 : Int32) v1 S_4)))
set_option maxHeartbeats 4000000 in
theorem zj_cart_33 {p : Program} {l : Launch} {e : Env} {s : State} {m : MethodId} {args : Array Value} {below : List Frame} {meth : Method} {c : Code} {H : Heap} {locs : List Loc} {ls : Array Slot} (g : zt_G) (post : Int32 → zt_S → Prop) (t0 : Int32) (v1 : Int32) (S : zt_S) (hC : zt_C p s m args meth c cX5_cart 3 (some .int)) (hw : zw_cart_33 post t0 v1 S) (hI : zt_I g S s H locs) (hl : lv_has ls 3 [(0, .ref g.2.1), (1, .int v1)]) : W p l e ({ frames := 2, cells := 0, slots := 0, locals := 44 } : Room) s m args below meth c H locs 0 0 (MQ below (va_Qi post (zt_B g) (zt_A g)) args s 0 0 (zt_A g)) (F0 m 33 ls [.int t0, .ref g.2.1, .ref g.2.1]) := by
  obtain ⟨hx, hb, hml, hown, hts, hr, hlk⟩ := hC
  unfold zw_cart_33 at hw
  refine lv_iconst (v := 1) hx hb dX5_cart_33 (by decide) ?_
  refine lv_iconst (v := 3) hx hb dX5_cart_34 (by decide) ?_
  refine zt_calli (As := [.int t0, .int (1 : Int32), .int (3 : Int32)]) (rest := [.ref g.2.1]) ⟨hx, hb, hml, hown, hts⟩ hI (zm_refuses l g t0 (1 : Int32) (3 : Int32) S _ hw) (cwV 3 hts (lw_V q3696 q3698 qs38 q113 q3699) rfl rfl rfl hdT_refuses ⟨Nat.le_of_ble_eq_true rfl, Nat.le_of_ble_eq_true rfl⟩) rfl hl.1 rfl (lv_room (Nat.le_of_ble_eq_true rfl)) dX5_cart_35 ⟨Nat.le_refl _, Nat.le_refl _⟩ (fun r_5 S_4 H locs hw hI => ?_)
  refine lv_if_eq (tgt := 45) hx hb dX5_cart_38 (by decide) (fun hc_6 => ?_) (fun hc_6 => ?_)
  · have hw := hw.1 hc_6
    refine lv_iconst (v := 0) hx hb dX5_cart_45 (by decide) ?_
    exact zj_cart_46 g post (0 : Int32) v1 S_4 ⟨hx, hb, hml, hown, hts, hr, hlk⟩ hw hI (lv_sub hl [0, 1] rfl)
  · have hw := hw.2 hc_6
    refine lv_iconst (v := 2) hx hb dX5_cart_41 (by decide) ?_
    refine lv_goto (tgt := 46) hx hb dX5_cart_42 (by decide) ?_
    exact zj_cart_46 g post (2 : Int32) v1 S_4 ⟨hx, hb, hml, hown, hts, hr, hlk⟩ hw hI (lv_sub hl [0, 1] rfl)
def zw_cart (p1 : Int32) (S : zt_S) (post : Int32 → zt_S → Prop) : Prop :=
  zw_in p1 (10 : Int32) (60 : Int32) (fun (r_1 : Int32) => (¬ r_1 = (0 : Int32) → (vp_in (8 : Int32) 3810 ∧ ((¬ S 1 (8 : Int32).toNatClampNeg = (3 : Int32) → (zw_cart_33 post (0 : Int32) p1 S)) ∧ (S 1 (8 : Int32).toNatClampNeg = (3 : Int32) → (zw_cart_33 post (1 : Int32) p1 S))))) ∧ (r_1 = (0 : Int32) → (zw_cart_46 post (1 : Int32) p1 S)))
set_option maxHeartbeats 4000000 in
theorem zm_cart (l : Launch) (g : zt_G) (p1 : Int32) (S : zt_S) (post : Int32 → zt_S → Prop) (hw : zw_cart p1 S post) : Met l yX5_cart (ws_ yX5_cart cX5_cart 3 (some .int)) ({ frames := 2, cells := 0, slots := 0, locals := 44 } : Room) (va_Pc (.ref g.2.1 :: [.int p1]) (zt_B g S)) (va_Qi post (zt_B g) (zt_A g)) 0 0 (zt_A g) := by
  refine zt_met (by decide) rfl (Nat.le_of_ble_eq_true rfl) (fun p e s m below meth c ls hC hI hl => ?_)
  generalize (Value.ref g.2.1 :: ([.int p1] : List Value)).toArray = args at hC ⊢
  obtain ⟨hx, hb, hml, hown, hts, hr, hlk⟩ := hC
  have hl : lv_has ls 3 [(0, .ref g.2.1), (1, .int p1)] := hl
  unfold zw_cart at hw
  obtain ⟨H, eH⟩ : ∃ z, z = s.heap := ⟨_, rfl⟩
  obtain ⟨locs, elo⟩ : ∃ z : List Loc, z = [] := ⟨_, rfl⟩
  rw [← eH, ← elo] at hI ⊢
  refine lv_aload_n hx hb dX5_cart_0 rfl (lv_at hl 0 rfl) ?_
  refine lv_iload_n hx hb dX5_cart_1 rfl (lv_at hl 1 rfl) ?_
  refine lv_bipush (v := 10) hx hb dX5_cart_2 (by decide) ?_
  refine lv_bipush (v := 60) hx hb dX5_cart_4 (by decide) ?_
  refine zt_callS (As := [.int p1, .int (10 : Int32), .int (60 : Int32)]) (rest := [.ref g.2.1]) ⟨hx, hb, hml, hown, hts⟩ (zm_in l p1 (10 : Int32) (60 : Int32) _ hw) (va_cwS 3 hts (lw_S q3693 q3694 q113 q3695) rfl rfl rfl hdT_in ⟨Nat.le_of_ble_eq_true rfl, Nat.le_of_ble_eq_true rfl⟩) rfl hl.1 rfl (lv_room (Nat.le_of_ble_eq_true rfl)) dX5_cart_6 ⟨Nat.le_refl _, Nat.le_refl _⟩ (fun r_1 hw => ?_)
  refine lv_if_ne (tgt := 16) hx hb dX5_cart_9 (by decide) (fun hc_2 => ?_) (fun hc_2 => ?_)
  · have hw := hw.1 hc_2
    refine lv_aload_n hx hb dX5_cart_16 rfl (lv_at hl 0 rfl) ?_
    refine lv_aload_n hx hb dX5_cart_17 rfl (lv_at hl 0 rfl) ?_
    refine zt_get hx hb hts hown hI 1 (v := .ref g.2.2.1) (by decide) q3633 rfl rfl dX5_cart_18 ?_
    refine lv_bipush (v := 8) hx hb dX5_cart_21 (by decide) ?_
    refine zt_ld1 hx hb hI hw.1 dX5_cart_23 ?_
    have hw := hw.2
    refine lv_iconst (v := 3) hx hb dX5_cart_24 (by decide) ?_
    refine lv_icmp_ne (tgt := 32) hx hb dX5_cart_25 (by decide) (fun hc_3 => ?_) (fun hc_3 => ?_)
    · have hw := hw.1 hc_3
      refine lv_iconst (v := 0) hx hb dX5_cart_32 (by decide) ?_
      exact zj_cart_33 g post (0 : Int32) p1 S ⟨hx, hb, hml, hown, hts, hr, hlk⟩ hw hI (lv_sub hl [0, 1] rfl)
    · have hw := hw.2 hc_3
      refine lv_iconst (v := 1) hx hb dX5_cart_28 (by decide) ?_
      refine lv_goto (tgt := 33) hx hb dX5_cart_29 (by decide) ?_
      exact zj_cart_33 g post (1 : Int32) p1 S ⟨hx, hb, hml, hown, hts, hr, hlk⟩ hw hI (lv_sub hl [0, 1] rfl)
  · have hw := hw.2 hc_2
    refine lv_iconst (v := 1) hx hb dX5_cart_12 (by decide) ?_
    refine lv_goto (tgt := 46) hx hb dX5_cart_13 (by decide) ?_
    exact zj_cart_46 g post (1 : Int32) p1 S ⟨hx, hb, hml, hown, hts, hr, hlk⟩ hw hI (lv_sub hl [0, 1] rfl)
theorem hdT_cart : yX5_cart.cls = RX5 ∧ yX5_cart.cls ≠ "java/lang/invoke/MethodHandle" ∧ yX5_cart.cls ≠ "java/lang/invoke/VarHandle" ∧ (parseMethodDescriptor yX5_cart.desc).map (fun d => d.parameters.length) = some 1 := by decide +kernel
def zw_isCart (p1 : Int32) (S : zt_S) (post : Int32 → zt_S → Prop) : Prop :=
  vp_in (8 : Int32) 3810 ∧ (zw_in p1 (0 : Int32) ((S 1 (8 : Int32).toNatClampNeg) - (1 : Int32)) (fun (r_1 : Int32) => zt_nar .boolean r_1 ∧ post r_1 S))
set_option maxHeartbeats 4000000 in
theorem zm_isCart (l : Launch) (g : zt_G) (p1 : Int32) (S : zt_S) (post : Int32 → zt_S → Prop) (hw : zw_isCart p1 S post) : Met l yX5_isCart (ws_ yX5_isCart cX5_isCart 2 (some .boolean)) ({ frames := 1, cells := 0, slots := 0, locals := 22 } : Room) (va_Pc (.ref g.2.1 :: [.int p1]) (zt_B g S)) (va_Qi post (zt_B g) (zt_A g)) 0 0 (zt_A g) := by
  refine zt_met (by decide) rfl (Nat.le_of_ble_eq_true rfl) (fun p e s m below meth c ls hC hI hl => ?_)
  generalize (Value.ref g.2.1 :: ([.int p1] : List Value)).toArray = args at hC ⊢
  obtain ⟨hx, hb, hml, hown, hts, hr, hlk⟩ := hC
  have hl : lv_has ls 2 [(0, .ref g.2.1), (1, .int p1)] := hl
  unfold zw_isCart at hw
  obtain ⟨H, eH⟩ : ∃ z, z = s.heap := ⟨_, rfl⟩
  obtain ⟨locs, elo⟩ : ∃ z : List Loc, z = [] := ⟨_, rfl⟩
  rw [← eH, ← elo] at hI ⊢
  refine lv_iload_n hx hb dX5_isCart_0 rfl (lv_at hl 1 rfl) ?_
  refine lv_iconst (v := 0) hx hb dX5_isCart_1 (by decide) ?_
  refine lv_aload_n hx hb dX5_isCart_2 rfl (lv_at hl 0 rfl) ?_
  refine zt_get hx hb hts hown hI 1 (v := .ref g.2.2.1) (by decide) q3633 rfl rfl dX5_isCart_3 ?_
  refine lv_bipush (v := 8) hx hb dX5_isCart_6 (by decide) ?_
  refine zt_ld1 hx hb hI hw.1 dX5_isCart_8 ?_
  have hw := hw.2
  refine lv_iconst (v := 1) hx hb dX5_isCart_9 (by decide) ?_
  refine lv_isub hx hb dX5_isCart_10 ?_
  refine zt_callS (As := [.int p1, .int (0 : Int32), .int ((S 1 (8 : Int32).toNatClampNeg) - (1 : Int32))]) (rest := []) ⟨hx, hb, hml, hown, hts⟩ (zm_in l p1 (0 : Int32) ((S 1 (8 : Int32).toNatClampNeg) - (1 : Int32)) _ hw) (va_cwS 3 hts (lw_S q3693 q3694 q113 q3695) rfl rfl rfl hdT_in ⟨Nat.le_of_ble_eq_true rfl, Nat.le_of_ble_eq_true rfl⟩) rfl hl.1 rfl (lv_room (Nat.le_of_ble_eq_true rfl)) dX5_isCart_11 ⟨Nat.le_refl _, Nat.le_refl _⟩ (fun r_1 hw => ?_)
  exact zt_zret hx hb hr hlk hI hw.1 hw.2 dX5_isCart_14
theorem hdT_isCart : yX5_isCart.cls = RX5 ∧ yX5_isCart.cls ≠ "java/lang/invoke/MethodHandle" ∧ yX5_isCart.cls ≠ "java/lang/invoke/VarHandle" ∧ (parseMethodDescriptor yX5_isCart.desc).map (fun d => d.parameters.length) = some 1 := by decide +kernel
def zw_lacks (p1 : Int32) (S : zt_S) (post : Int32 → zt_S → Prop) : Prop :=
  zw_cartWith p1 S (fun (r_2 : Int32) (S_1 : zt_S) => zw_o p1 (2 : Int32) S_1 (fun (r_4 : Int32) (S_3 : zt_S) => (¬ r_2 = (-1 : Int32) → (zw_c r_2 (1 : Int32) S_3 (fun (r_7 : Int32) (S_6 : zt_S) => post (r_4 - r_7) S_6))) ∧ (r_2 = (-1 : Int32) → (post (r_4 - (0 : Int32)) S_3))))
set_option maxHeartbeats 4000000 in
theorem zm_lacks (l : Launch) (g : zt_G) (p1 : Int32) (S : zt_S) (post : Int32 → zt_S → Prop) (hw : zw_lacks p1 S post) : Met l yX5_lacks (ws_ yX5_lacks cX5_lacks 3 (some .int)) ({ frames := 2, cells := 0, slots := 0, locals := 44 } : Room) (va_Pc (.ref g.2.1 :: [.int p1]) (zt_B g S)) (va_Qi post (zt_B g) (zt_A g)) 0 0 (zt_A g) := by
  refine zt_met (by decide) rfl (Nat.le_of_ble_eq_true rfl) (fun p e s m below meth c ls hC hI hl => ?_)
  generalize (Value.ref g.2.1 :: ([.int p1] : List Value)).toArray = args at hC ⊢
  obtain ⟨hx, hb, hml, hown, hts, hr, hlk⟩ := hC
  have hl : lv_has ls 3 [(0, .ref g.2.1), (1, .int p1)] := hl
  unfold zw_lacks at hw
  obtain ⟨H, eH⟩ : ∃ z, z = s.heap := ⟨_, rfl⟩
  obtain ⟨locs, elo⟩ : ∃ z : List Loc, z = [] := ⟨_, rfl⟩
  rw [← eH, ← elo] at hI ⊢
  refine lv_aload_n hx hb dX5_lacks_0 rfl (lv_at hl 0 rfl) ?_
  refine lv_iload_n hx hb dX5_lacks_1 rfl (lv_at hl 1 rfl) ?_
  refine zt_calli (As := [.int p1]) (rest := []) ⟨hx, hb, hml, hown, hts⟩ hI (zm_cartWith l g p1 S _ hw) (cwV 1 hts (lw_V q3899 q3901 qs71 q113 q3902) rfl rfl rfl hdT_cartWith ⟨Nat.le_of_ble_eq_true rfl, Nat.le_of_ble_eq_true rfl⟩) rfl hl.1 rfl (lv_room (Nat.le_of_ble_eq_true rfl)) dX5_lacks_2 ⟨Nat.le_refl _, Nat.le_refl _⟩ (fun r_2 S_1 H locs hw hI => ?_)
  refine lv_istore_n (lv' := [(2, .int r_2), (0, .ref g.2.1), (1, .int p1)]) hx hb dX5_lacks_5 rfl hl (by decide) rfl (fun ls hl => ?_)
  refine lv_aload_n hx hb dX5_lacks_6 rfl (lv_at hl 1 rfl) ?_
  refine lv_iload_n hx hb dX5_lacks_7 rfl (lv_at hl 2 rfl) ?_
  refine lv_iconst (v := 2) hx hb dX5_lacks_8 (by decide) ?_
  refine zt_calli (As := [.int p1, .int (2 : Int32)]) (rest := []) ⟨hx, hb, hml, hown, hts⟩ hI (zm_o l g p1 (2 : Int32) S_1 _ hw) (cwV 2 hts (lw_V q3895 q3897 qs70 q113 q3898) rfl rfl rfl hdT_o ⟨Nat.le_of_ble_eq_true rfl, Nat.le_of_ble_eq_true rfl⟩) rfl hl.1 rfl (lv_room (Nat.le_of_ble_eq_true rfl)) dX5_lacks_9 ⟨Nat.le_refl _, Nat.le_refl _⟩ (fun r_4 S_3 H locs hw hI => ?_)
  refine lv_iload_n hx hb dX5_lacks_12 rfl (lv_at hl 0 rfl) ?_
  refine lv_iconst (v := -1) hx hb dX5_lacks_13 (by decide) ?_
  refine lv_icmp_ne (tgt := 21) hx hb dX5_lacks_14 (by decide) (fun hc_5 => ?_) (fun hc_5 => ?_)
  · have hw := hw.1 hc_5
    refine lv_aload_n hx hb dX5_lacks_21 rfl (lv_at hl 1 rfl) ?_
    refine lv_iload_n hx hb dX5_lacks_22 rfl (lv_at hl 0 rfl) ?_
    refine lv_iconst (v := 1) hx hb dX5_lacks_23 (by decide) ?_
    refine zt_calli (As := [.int r_2, .int (1 : Int32)]) (rest := [.int r_4]) ⟨hx, hb, hml, hown, hts⟩ hI (zm_c l g r_2 (1 : Int32) S_3 _ hw) (cwV 2 hts (lw_V q3903 q3905 qs72 q113 q3906) rfl rfl rfl hdT_c ⟨Nat.le_of_ble_eq_true rfl, Nat.le_of_ble_eq_true rfl⟩) rfl hl.1 rfl (lv_room (Nat.le_of_ble_eq_true rfl)) dX5_lacks_24 ⟨Nat.le_refl _, Nat.le_refl _⟩ (fun r_7 S_6 H locs hw hI => ?_)
    refine lv_isub hx hb dX5_lacks_27 ?_
    exact zt_iret hx hb hr hlk hI hw dX5_lacks_28
  · have hw := hw.2 hc_5
    refine lv_iconst (v := 0) hx hb dX5_lacks_17 (by decide) ?_
    refine lv_goto (tgt := 27) hx hb dX5_lacks_18 (by decide) ?_
    refine lv_isub hx hb dX5_lacks_27 ?_
    exact zt_iret hx hb hr hlk hI hw dX5_lacks_28
theorem hdT_lacks : yX5_lacks.cls = RX5 ∧ yX5_lacks.cls ≠ "java/lang/invoke/MethodHandle" ∧ yX5_lacks.cls ≠ "java/lang/invoke/VarHandle" ∧ (parseMethodDescriptor yX5_lacks.desc).map (fun d => d.parameters.length) = some 1 := by decide +kernel
def zw_quiresFor (p1 : Int32) (p2 : Int32) (p3 : Int32) (p4 : Int32) (S : zt_S) (post : Int32 → zt_S → Prop) : Prop :=
  zw_l p2 (1 : Int32) S (fun (r_2 : Int32) (S_1 : zt_S) => ∃ (In_3 : Int32 → Int32 → zt_S → Prop) (mu_3 : Int32 → Int32 → zt_S → Nat), In_3 (0 : Int32) (0 : Int32) S_1 ∧ ∀ (x6_3 : Int32) (x7_3 : Int32) (S_3 : zt_S), In_3 x6_3 x7_3 S_3 → (zw_l p2 (0 : Int32) S_3 (fun (r_5 : Int32) (S_4 : zt_S) => (r_5 ≤ x7_3 → (post x6_3 S_4)) ∧ (¬ r_5 ≤ x7_3 → ((p3 ≤ x6_3 → (post x6_3 S_4)) ∧ (¬ p3 ≤ x6_3 → (zw_topOf r_2 x7_3 S_4 (fun (r_9 : Int32) (S_8 : zt_S) => (r_9 = (-1 : Int32) → (In_3 x6_3 (x7_3 + (1 : Int32)) S_8 ∧ mu_3 x6_3 (x7_3 + (1 : Int32)) S_8 < mu_3 x6_3 x7_3 S_3)) ∧ (¬ r_9 = (-1 : Int32) → (zw_r r_9 (0 : Int32) S_8 (fun (r_12 : Int32) (S_11 : zt_S) => zw_o p1 (0 : Int32) S_11 (fun (r_14 : Int32) (S_13 : zt_S) => (¬ r_12 = r_14 → (In_3 x6_3 (x7_3 + (1 : Int32)) S_13 ∧ mu_3 x6_3 (x7_3 + (1 : Int32)) S_13 < mu_3 x6_3 x7_3 S_3)) ∧ (r_12 = r_14 → (zw_r r_9 (1 : Int32) S_13 (fun (r_17 : Int32) (S_16 : zt_S) => zw_o p1 (1 : Int32) S_16 (fun (r_19 : Int32) (S_18 : zt_S) => (¬ r_17 = r_19 → (In_3 x6_3 (x7_3 + (1 : Int32)) S_18 ∧ mu_3 x6_3 (x7_3 + (1 : Int32)) S_18 < mu_3 x6_3 x7_3 S_3)) ∧ (r_17 = r_19 → (zw_isWavy r_9 S_18 (fun (r_22 : Int32) (S_21 : zt_S) => (r_22 = (0 : Int32) → (zw_r r_9 (2 : Int32) S_21 (fun (r_25 : Int32) (S_24 : zt_S) => zw_least r_25 (p3 - x6_3) (fun (r_26 : Int32) => (p4 = (0 : Int32) → (In_3 (x6_3 + r_26) (x7_3 + (1 : Int32)) S_24 ∧ mu_3 (x6_3 + r_26) (x7_3 + (1 : Int32)) S_24 < mu_3 x6_3 x7_3 S_3)) ∧ (¬ p4 = (0 : Int32) → (zw_leave r_9 r_26 S_24 (fun (S_28 : zt_S) => In_3 (x6_3 + r_26) (x7_3 + (1 : Int32)) S_28 ∧ mu_3 (x6_3 + r_26) (x7_3 + (1 : Int32)) S_28 < mu_3 x6_3 x7_3 S_3))))))) ∧ (¬ r_22 = (0 : Int32) → (In_3 x6_3 (x7_3 + (1 : Int32)) S_21 ∧ mu_3 x6_3 (x7_3 + (1 : Int32)) S_21 < mu_3 x6_3 x7_3 S_3)))))))))))))))))))))
set_option maxHeartbeats 4000000 in
theorem zm_quiresFor (l : Launch) (g : zt_G) (p1 : Int32) (p2 : Int32) (p3 : Int32) (p4 : Int32) (S : zt_S) (post : Int32 → zt_S → Prop) (hw : zw_quiresFor p1 p2 p3 p4 S post) : Met l yX5_quiresFor (ws_ yX5_quiresFor cX5_quiresFor 10 (some .int)) ({ frames := 3, cells := 0, slots := 0, locals := 68 } : Room) (va_Pc (.ref g.2.1 :: [.int p1, .int p2, .int p3, .int p4]) (zt_B g S)) (va_Qi post (zt_B g) (zt_A g)) 0 0 (zt_A g) := by
  refine zt_met (by decide) rfl (Nat.le_of_ble_eq_true rfl) (fun p e s m below meth c ls hC hI hl => ?_)
  generalize (Value.ref g.2.1 :: ([.int p1, .int p2, .int p3, .int p4] : List Value)).toArray = args at hC ⊢
  obtain ⟨hx, hb, hml, hown, hts, hr, hlk⟩ := hC
  have hl : lv_has ls 10 [(0, .ref g.2.1), (1, .int p1), (2, .int p2), (3, .int p3), (4, .int p4)] := hl
  unfold zw_quiresFor at hw
  obtain ⟨H, eH⟩ : ∃ z, z = s.heap := ⟨_, rfl⟩
  obtain ⟨locs, elo⟩ : ∃ z : List Loc, z = [] := ⟨_, rfl⟩
  rw [← eH, ← elo] at hI ⊢
  refine lv_aload_n hx hb dX5_quiresFor_0 rfl (lv_at hl 0 rfl) ?_
  refine lv_iload_n hx hb dX5_quiresFor_1 rfl (lv_at hl 2 rfl) ?_
  refine lv_iconst (v := 1) hx hb dX5_quiresFor_2 (by decide) ?_
  refine zt_calli (As := [.int p2, .int (1 : Int32)]) (rest := []) ⟨hx, hb, hml, hown, hts⟩ hI (zm_l l g p2 (1 : Int32) S _ hw) (cwV 2 hts (lw_V q3712 q3714 qs42 q113 q3715) rfl rfl rfl hdT_l ⟨Nat.le_of_ble_eq_true rfl, Nat.le_of_ble_eq_true rfl⟩) rfl hl.1 rfl (lv_room (Nat.le_of_ble_eq_true rfl)) dX5_quiresFor_3 ⟨Nat.le_refl _, Nat.le_refl _⟩ (fun r_2 S_1 H locs hw hI => ?_)
  refine lv_istore (lv' := [(5, .int r_2), (0, .ref g.2.1), (1, .int p1), (2, .int p2), (3, .int p3), (4, .int p4)]) hx hb dX5_quiresFor_6 hl (by decide) rfl (fun ls hl => ?_)
  refine lv_iconst (v := 0) hx hb dX5_quiresFor_8 (by decide) ?_
  refine lv_istore (lv' := [(6, .int (0 : Int32)), (5, .int r_2), (0, .ref g.2.1), (1, .int p1), (2, .int p2), (3, .int p3), (4, .int p4)]) hx hb dX5_quiresFor_9 hl (by decide) rfl (fun ls hl => ?_)
  refine lv_iconst (v := 0) hx hb dX5_quiresFor_11 (by decide) ?_
  refine lv_istore (lv' := [(7, .int (0 : Int32)), (6, .int (0 : Int32)), (5, .int r_2), (0, .ref g.2.1), (1, .int p1), (2, .int p2), (3, .int p3), (4, .int p4)]) hx hb dX5_quiresFor_12 hl (by decide) rfl (fun ls hl => ?_)
  obtain ⟨In_3, mu_3, h0_3, hw⟩ := hw
  have hL_3 : ∀ (n : Nat) (x6_3 : Int32) (x7_3 : Int32) (S_3 : zt_S) (H : Heap) (locs : List Loc) (ls : Array Slot), mu_3 x6_3 x7_3 S_3 < n → In_3 x6_3 x7_3 S_3 → zt_I g S_3 s H locs → lv_has ls 10 [(0, .ref g.2.1), (1, .int p1), (2, .int p2), (3, .int p3), (4, .int p4), (5, .int r_2), (6, .int x6_3), (7, .int x7_3)] → W p l e ({ frames := 3, cells := 0, slots := 0, locals := 68 } : Room) s m args below meth c H locs 0 0 (MQ below (va_Qi post (zt_B g) (zt_A g)) args s 0 0 (zt_A g)) (F0 m 14 ls []) := by
    intro n
    induction n with
    | zero => intro x6_3 x7_3 S_3 H locs ls hn _ _ _; exact absurd hn (Nat.not_lt_zero _)
    | succ n ih_3 =>
      intro x6_3 x7_3 S_3 H locs ls hn_3 hi_3 hI hl
      have hw := hw x6_3 x7_3 S_3 hi_3
      refine lv_iload hx hb dX5_quiresFor_14 (lv_at hl 7 rfl) ?_
      refine lv_aload_n hx hb dX5_quiresFor_16 rfl (lv_at hl 0 rfl) ?_
      refine lv_iload_n hx hb dX5_quiresFor_17 rfl (lv_at hl 2 rfl) ?_
      refine lv_iconst (v := 0) hx hb dX5_quiresFor_18 (by decide) ?_
      refine zt_calli (As := [.int p2, .int (0 : Int32)]) (rest := [.int x7_3]) ⟨hx, hb, hml, hown, hts⟩ hI (zm_l l g p2 (0 : Int32) S_3 _ hw) (cwV 2 hts (lw_V q3712 q3714 qs42 q113 q3715) rfl rfl rfl hdT_l ⟨Nat.le_of_ble_eq_true rfl, Nat.le_of_ble_eq_true rfl⟩) rfl hl.1 rfl (lv_room (Nat.le_of_ble_eq_true rfl)) dX5_quiresFor_19 ⟨Nat.le_refl _, Nat.le_refl _⟩ (fun r_5 S_4 H locs hw hI => ?_)
      refine lv_icmp_ge (tgt := 133) hx hb dX5_quiresFor_22 (by decide) (fun hc_6 => ?_) (fun hc_6 => ?_)
      · have hw := hw.1 hc_6
        refine lv_iload hx hb dX5_quiresFor_133 (lv_at hl 6 rfl) ?_
        exact zt_iret hx hb hr hlk hI hw dX5_quiresFor_135
      · have hw := hw.2 hc_6
        refine lv_iload hx hb dX5_quiresFor_25 (lv_at hl 6 rfl) ?_
        refine lv_iload_n hx hb dX5_quiresFor_27 rfl (lv_at hl 3 rfl) ?_
        refine lv_icmp_ge (tgt := 133) hx hb dX5_quiresFor_28 (by decide) (fun hc_7 => ?_) (fun hc_7 => ?_)
        · have hw := hw.1 hc_7
          refine lv_iload hx hb dX5_quiresFor_133 (lv_at hl 6 rfl) ?_
          exact zt_iret hx hb hr hlk hI hw dX5_quiresFor_135
        · have hw := hw.2 hc_7
          refine lv_aload_n hx hb dX5_quiresFor_31 rfl (lv_at hl 0 rfl) ?_
          refine lv_iload hx hb dX5_quiresFor_32 (lv_at hl 5 rfl) ?_
          refine lv_iload hx hb dX5_quiresFor_34 (lv_at hl 7 rfl) ?_
          refine zt_calli (As := [.int r_2, .int x7_3]) (rest := []) ⟨hx, hb, hml, hown, hts⟩ hI (zm_topOf l g r_2 x7_3 S_4 _ hw) (cwV 2 hts (lw_V q3781 q3783 qs52 q113 q3784) rfl rfl rfl hdT_topOf ⟨Nat.le_of_ble_eq_true rfl, Nat.le_of_ble_eq_true rfl⟩) rfl hl.1 rfl (lv_room (Nat.le_of_ble_eq_true rfl)) dX5_quiresFor_36 ⟨Nat.le_refl _, Nat.le_refl _⟩ (fun r_9 S_8 H locs hw hI => ?_)
          refine lv_istore (lv' := [(8, .int r_9), (0, .ref g.2.1), (1, .int p1), (2, .int p2), (3, .int p3), (4, .int p4), (5, .int r_2), (6, .int x6_3), (7, .int x7_3)]) hx hb dX5_quiresFor_39 hl (by decide) rfl (fun ls hl => ?_)
          refine lv_iload hx hb dX5_quiresFor_41 (lv_at hl 0 rfl) ?_
          refine lv_iconst (v := -1) hx hb dX5_quiresFor_43 (by decide) ?_
          refine lv_icmp_eq (tgt := 127) hx hb dX5_quiresFor_44 (by decide) (fun hc_10 => ?_) (fun hc_10 => ?_)
          · have hw := hw.1 hc_10
            refine lv_iinc (v := x7_3 + (1 : Int32)) (lv' := [(7, .int (x7_3 + (1 : Int32))), (8, .int r_9), (0, .ref g.2.1), (1, .int p1), (2, .int p2), (3, .int p3), (4, .int p4), (5, .int r_2), (6, .int x6_3)]) hx hb dX5_quiresFor_127 hl (k := 8) rfl rfl (by decide) rfl (fun ls hl => ?_)
            refine lv_goto (tgt := 14) hx hb dX5_quiresFor_130 (by decide) ?_
            exact ih_3 _ _ _ H locs ls (Nat.lt_of_lt_of_le hw.2 (Nat.le_of_lt_succ hn_3)) hw.1 hI (lv_sub hl [2, 3, 4, 5, 6, 7, 8, 0] rfl)
          · have hw := hw.2 hc_10
            refine lv_aload_n hx hb dX5_quiresFor_47 rfl (lv_at hl 1 rfl) ?_
            refine lv_iload hx hb dX5_quiresFor_48 (lv_at hl 0 rfl) ?_
            refine lv_iconst (v := 0) hx hb dX5_quiresFor_50 (by decide) ?_
            refine zt_calli (As := [.int r_9, .int (0 : Int32)]) (rest := []) ⟨hx, hb, hml, hown, hts⟩ hI (zm_r l g r_9 (0 : Int32) S_8 _ hw) (cwV 2 hts (lw_V q3761 q3763 qs49 q113 q3764) rfl rfl rfl hdT_r ⟨Nat.le_of_ble_eq_true rfl, Nat.le_of_ble_eq_true rfl⟩) rfl hl.1 rfl (lv_room (Nat.le_of_ble_eq_true rfl)) dX5_quiresFor_51 ⟨Nat.le_refl _, Nat.le_refl _⟩ (fun r_12 S_11 H locs hw hI => ?_)
            refine lv_aload_n hx hb dX5_quiresFor_54 rfl (lv_at hl 1 rfl) ?_
            refine lv_iload_n hx hb dX5_quiresFor_55 rfl (lv_at hl 2 rfl) ?_
            refine lv_iconst (v := 0) hx hb dX5_quiresFor_56 (by decide) ?_
            refine zt_calli (As := [.int p1, .int (0 : Int32)]) (rest := [.int r_12]) ⟨hx, hb, hml, hown, hts⟩ hI (zm_o l g p1 (0 : Int32) S_11 _ hw) (cwV 2 hts (lw_V q3895 q3897 qs70 q113 q3898) rfl rfl rfl hdT_o ⟨Nat.le_of_ble_eq_true rfl, Nat.le_of_ble_eq_true rfl⟩) rfl hl.1 rfl (lv_room (Nat.le_of_ble_eq_true rfl)) dX5_quiresFor_57 ⟨Nat.le_refl _, Nat.le_refl _⟩ (fun r_14 S_13 H locs hw hI => ?_)
            refine lv_icmp_ne (tgt := 127) hx hb dX5_quiresFor_60 (by decide) (fun hc_15 => ?_) (fun hc_15 => ?_)
            · have hw := hw.1 hc_15
              refine lv_iinc (v := x7_3 + (1 : Int32)) (lv' := [(7, .int (x7_3 + (1 : Int32))), (8, .int r_9), (0, .ref g.2.1), (1, .int p1), (2, .int p2), (3, .int p3), (4, .int p4), (5, .int r_2), (6, .int x6_3)]) hx hb dX5_quiresFor_127 hl (k := 8) rfl rfl (by decide) rfl (fun ls hl => ?_)
              refine lv_goto (tgt := 14) hx hb dX5_quiresFor_130 (by decide) ?_
              exact ih_3 _ _ _ H locs ls (Nat.lt_of_lt_of_le hw.2 (Nat.le_of_lt_succ hn_3)) hw.1 hI (lv_sub hl [2, 3, 4, 5, 6, 7, 8, 0] rfl)
            · have hw := hw.2 hc_15
              refine lv_aload_n hx hb dX5_quiresFor_63 rfl (lv_at hl 1 rfl) ?_
              refine lv_iload hx hb dX5_quiresFor_64 (lv_at hl 0 rfl) ?_
              refine lv_iconst (v := 1) hx hb dX5_quiresFor_66 (by decide) ?_
              refine zt_calli (As := [.int r_9, .int (1 : Int32)]) (rest := []) ⟨hx, hb, hml, hown, hts⟩ hI (zm_r l g r_9 (1 : Int32) S_13 _ hw) (cwV 2 hts (lw_V q3761 q3763 qs49 q113 q3764) rfl rfl rfl hdT_r ⟨Nat.le_of_ble_eq_true rfl, Nat.le_of_ble_eq_true rfl⟩) rfl hl.1 rfl (lv_room (Nat.le_of_ble_eq_true rfl)) dX5_quiresFor_67 ⟨Nat.le_refl _, Nat.le_refl _⟩ (fun r_17 S_16 H locs hw hI => ?_)
              refine lv_aload_n hx hb dX5_quiresFor_70 rfl (lv_at hl 1 rfl) ?_
              refine lv_iload_n hx hb dX5_quiresFor_71 rfl (lv_at hl 2 rfl) ?_
              refine lv_iconst (v := 1) hx hb dX5_quiresFor_72 (by decide) ?_
              refine zt_calli (As := [.int p1, .int (1 : Int32)]) (rest := [.int r_17]) ⟨hx, hb, hml, hown, hts⟩ hI (zm_o l g p1 (1 : Int32) S_16 _ hw) (cwV 2 hts (lw_V q3895 q3897 qs70 q113 q3898) rfl rfl rfl hdT_o ⟨Nat.le_of_ble_eq_true rfl, Nat.le_of_ble_eq_true rfl⟩) rfl hl.1 rfl (lv_room (Nat.le_of_ble_eq_true rfl)) dX5_quiresFor_73 ⟨Nat.le_refl _, Nat.le_refl _⟩ (fun r_19 S_18 H locs hw hI => ?_)
              refine lv_icmp_ne (tgt := 127) hx hb dX5_quiresFor_76 (by decide) (fun hc_20 => ?_) (fun hc_20 => ?_)
              · have hw := hw.1 hc_20
                refine lv_iinc (v := x7_3 + (1 : Int32)) (lv' := [(7, .int (x7_3 + (1 : Int32))), (8, .int r_9), (0, .ref g.2.1), (1, .int p1), (2, .int p2), (3, .int p3), (4, .int p4), (5, .int r_2), (6, .int x6_3)]) hx hb dX5_quiresFor_127 hl (k := 8) rfl rfl (by decide) rfl (fun ls hl => ?_)
                refine lv_goto (tgt := 14) hx hb dX5_quiresFor_130 (by decide) ?_
                exact ih_3 _ _ _ H locs ls (Nat.lt_of_lt_of_le hw.2 (Nat.le_of_lt_succ hn_3)) hw.1 hI (lv_sub hl [2, 3, 4, 5, 6, 7, 8, 0] rfl)
              · have hw := hw.2 hc_20
                refine lv_aload_n hx hb dX5_quiresFor_79 rfl (lv_at hl 1 rfl) ?_
                refine lv_iload hx hb dX5_quiresFor_80 (lv_at hl 0 rfl) ?_
                refine zt_calli (As := [.int r_9]) (rest := []) ⟨hx, hb, hml, hown, hts⟩ hI (zm_isWavy l g r_9 S_18 _ hw) (cwV 1 hts (lw_V q3793 q3795 qs54 q113 q3796) rfl rfl rfl hdT_isWavy ⟨Nat.le_of_ble_eq_true rfl, Nat.le_of_ble_eq_true rfl⟩) rfl hl.1 rfl (lv_room (Nat.le_of_ble_eq_true rfl)) dX5_quiresFor_82 ⟨Nat.le_refl _, Nat.le_refl _⟩ (fun r_22 S_21 H locs hw hI => ?_)
                refine lv_if_eq (tgt := 91) hx hb dX5_quiresFor_85 (by decide) (fun hc_23 => ?_) (fun hc_23 => ?_)
                · have hw := hw.1 hc_23
                  refine lv_aload_n hx hb dX5_quiresFor_91 rfl (lv_at hl 1 rfl) ?_
                  refine lv_iload hx hb dX5_quiresFor_92 (lv_at hl 0 rfl) ?_
                  refine lv_iconst (v := 2) hx hb dX5_quiresFor_94 (by decide) ?_
                  refine zt_calli (As := [.int r_9, .int (2 : Int32)]) (rest := []) ⟨hx, hb, hml, hown, hts⟩ hI (zm_r l g r_9 (2 : Int32) S_21 _ hw) (cwV 2 hts (lw_V q3761 q3763 qs49 q113 q3764) rfl rfl rfl hdT_r ⟨Nat.le_of_ble_eq_true rfl, Nat.le_of_ble_eq_true rfl⟩) rfl hl.1 rfl (lv_room (Nat.le_of_ble_eq_true rfl)) dX5_quiresFor_95 ⟨Nat.le_refl _, Nat.le_refl _⟩ (fun r_25 S_24 H locs hw hI => ?_)
                  refine lv_iload_n hx hb dX5_quiresFor_98 rfl (lv_at hl 4 rfl) ?_
                  refine lv_iload hx hb dX5_quiresFor_99 (lv_at hl 7 rfl) ?_
                  refine lv_isub hx hb dX5_quiresFor_101 ?_
                  refine zt_callS (As := [.int r_25, .int (p3 - x6_3)]) (rest := []) ⟨hx, hb, hml, hown, hts⟩ (zm_least l r_25 (p3 - x6_3) _ hw) (va_cwS 2 hts (lw_S q3828 q3829 q113 q3830) rfl rfl rfl hdT_least ⟨Nat.le_of_ble_eq_true rfl, Nat.le_of_ble_eq_true rfl⟩) rfl hl.1 rfl (lv_room (Nat.le_of_ble_eq_true rfl)) dX5_quiresFor_102 ⟨Nat.le_refl _, Nat.le_refl _⟩ (fun r_26 hw => ?_)
                  refine lv_istore (lv' := [(9, .int r_26), (8, .int r_9), (0, .ref g.2.1), (1, .int p1), (2, .int p2), (3, .int p3), (4, .int p4), (5, .int r_2), (6, .int x6_3), (7, .int x7_3)]) hx hb dX5_quiresFor_105 hl (by decide) rfl (fun ls hl => ?_)
                  refine lv_iload hx hb dX5_quiresFor_107 (lv_at hl 8 rfl) ?_
                  refine lv_iload hx hb dX5_quiresFor_109 (lv_at hl 0 rfl) ?_
                  refine lv_iadd hx hb dX5_quiresFor_111 ?_
                  refine lv_istore (lv' := [(6, .int (x6_3 + r_26)), (9, .int r_26), (8, .int r_9), (0, .ref g.2.1), (1, .int p1), (2, .int p2), (3, .int p3), (4, .int p4), (5, .int r_2), (7, .int x7_3)]) hx hb dX5_quiresFor_112 hl (by decide) rfl (fun ls hl => ?_)
                  refine lv_iload hx hb dX5_quiresFor_114 (lv_at hl 7 rfl) ?_
                  refine lv_if_eq (tgt := 127) hx hb dX5_quiresFor_116 (by decide) (fun hc_27 => ?_) (fun hc_27 => ?_)
                  · have hw := hw.1 hc_27
                    refine lv_iinc (v := x7_3 + (1 : Int32)) (lv' := [(7, .int (x7_3 + (1 : Int32))), (6, .int (x6_3 + r_26)), (9, .int r_26), (8, .int r_9), (0, .ref g.2.1), (1, .int p1), (2, .int p2), (3, .int p3), (4, .int p4), (5, .int r_2)]) hx hb dX5_quiresFor_127 hl (k := 9) rfl rfl (by decide) rfl (fun ls hl => ?_)
                    refine lv_goto (tgt := 14) hx hb dX5_quiresFor_130 (by decide) ?_
                    exact ih_3 _ _ _ H locs ls (Nat.lt_of_lt_of_le hw.2 (Nat.le_of_lt_succ hn_3)) hw.1 hI (lv_sub hl [4, 5, 6, 7, 8, 9, 1, 0] rfl)
                  · have hw := hw.2 hc_27
                    refine lv_aload_n hx hb dX5_quiresFor_119 rfl (lv_at hl 3 rfl) ?_
                    refine lv_iload hx hb dX5_quiresFor_120 (lv_at hl 2 rfl) ?_
                    refine lv_iload hx hb dX5_quiresFor_122 (lv_at hl 1 rfl) ?_
                    refine zt_callv (As := [.int r_9, .int r_26]) (rest := []) ⟨hx, hb, hml, hown, hts⟩ hI (zm_leave l g r_9 r_26 S_24 _ hw) (cwV 2 hts (lw_V q3859 q3861 qs64 q113 q3862) rfl rfl rfl hdT_leave ⟨Nat.le_of_ble_eq_true rfl, Nat.le_of_ble_eq_true rfl⟩) rfl hl.1 rfl (lv_room (Nat.le_of_ble_eq_true rfl)) dX5_quiresFor_124 ⟨Nat.le_refl _, Nat.le_refl _⟩ (fun S_28 H locs hw hI => ?_)
                    refine lv_iinc (v := x7_3 + (1 : Int32)) (lv' := [(7, .int (x7_3 + (1 : Int32))), (6, .int (x6_3 + r_26)), (9, .int r_26), (8, .int r_9), (0, .ref g.2.1), (1, .int p1), (2, .int p2), (3, .int p3), (4, .int p4), (5, .int r_2)]) hx hb dX5_quiresFor_127 hl (k := 9) rfl rfl (by decide) rfl (fun ls hl => ?_)
                    refine lv_goto (tgt := 14) hx hb dX5_quiresFor_130 (by decide) ?_
                    exact ih_3 _ _ _ H locs ls (Nat.lt_of_lt_of_le hw.2 (Nat.le_of_lt_succ hn_3)) hw.1 hI (lv_sub hl [4, 5, 6, 7, 8, 9, 1, 0] rfl)
                · have hw := hw.2 hc_23
                  refine lv_goto (tgt := 127) hx hb dX5_quiresFor_88 (by decide) ?_
                  refine lv_iinc (v := x7_3 + (1 : Int32)) (lv' := [(7, .int (x7_3 + (1 : Int32))), (8, .int r_9), (0, .ref g.2.1), (1, .int p1), (2, .int p2), (3, .int p3), (4, .int p4), (5, .int r_2), (6, .int x6_3)]) hx hb dX5_quiresFor_127 hl (k := 8) rfl rfl (by decide) rfl (fun ls hl => ?_)
                  refine lv_goto (tgt := 14) hx hb dX5_quiresFor_130 (by decide) ?_
                  exact ih_3 _ _ _ H locs ls (Nat.lt_of_lt_of_le hw.2 (Nat.le_of_lt_succ hn_3)) hw.1 hI (lv_sub hl [2, 3, 4, 5, 6, 7, 8, 0] rfl)
  exact hL_3 _ _ _ _ H locs ls (Nat.lt_succ_self _) h0_3 hI (lv_sub hl [3, 4, 5, 6, 7, 2, 1, 0] rfl)
theorem hdT_quiresFor : yX5_quiresFor.cls = RX5 ∧ yX5_quiresFor.cls ≠ "java/lang/invoke/MethodHandle" ∧ yX5_quiresFor.cls ≠ "java/lang/invoke/VarHandle" ∧ (parseMethodDescriptor yX5_quiresFor.desc).map (fun d => d.parameters.length) = some 4 := by decide +kernel
def zw_gathers_200 (post : Int32 → zt_S → Prop) (t0 : Int32) (v1 : Int32) (v2 : Int32) (v3 : Int32) (v7 : Int32) (S : zt_S) : Prop :=
  zw_l v3 (1 : Int32) S (fun (r_48 : Int32) (S_47 : zt_S) => zw_refuses t0 (10 : Int32) r_48 S_47 (fun (r_50 : Int32) (S_49 : zt_S) => (r_50 = (0 : Int32) → (zw_c v2 (1 : Int32) S_49 (fun (r_53 : Int32) (S_52 : zt_S) => zw_setCart v2 (1 : Int32) (r_53 + v7) S_52 (fun (S_54 : zt_S) => zw_setCart v2 (2 : Int32) v1 S_54 (fun (S_55 : zt_S) => ∀ S_56 : zt_S, S_56 = zt_us S_55 0 4 v7 → (post (0 : Int32) S_56)))))) ∧ (¬ r_50 = (0 : Int32) → (post (3 : Int32) S_49))))
set_option maxHeartbeats 4000000 in
theorem zj_gathers_200 {p : Program} {l : Launch} {e : Env} {s : State} {m : MethodId} {args : Array Value} {below : List Frame} {meth : Method} {c : Code} {H : Heap} {locs : List Loc} {ls : Array Slot} (g : zt_G) (post : Int32 → zt_S → Prop) (t0 : Int32) (v1 : Int32) (v2 : Int32) (v3 : Int32) (v7 : Int32) (S : zt_S) (hC : zt_C p s m args meth c cX5_gathers 8 (some .int)) (hw : zw_gathers_200 post t0 v1 v2 v3 v7 S) (hI : zt_I g S s H locs) (hl : lv_has ls 8 [(0, .ref g.2.1), (1, .int v1), (2, .int v2), (3, .int v3), (7, .int v7)]) : W p l e ({ frames := 4, cells := 0, slots := 0, locals := 97 } : Room) s m args below meth c H locs 0 0 (MQ below (va_Qi post (zt_B g) (zt_A g)) args s 0 0 (zt_A g)) (F0 m 200 ls [.int t0, .ref g.2.1]) := by
  obtain ⟨hx, hb, hml, hown, hts, hr, hlk⟩ := hC
  unfold zw_gathers_200 at hw
  refine lv_bipush (v := 10) hx hb dX5_gathers_200 (by decide) ?_
  refine lv_aload_n hx hb dX5_gathers_202 rfl (lv_at hl 0 rfl) ?_
  refine lv_iload_n hx hb dX5_gathers_203 rfl (lv_at hl 3 rfl) ?_
  refine lv_iconst (v := 1) hx hb dX5_gathers_204 (by decide) ?_
  refine zt_calli (As := [.int v3, .int (1 : Int32)]) (rest := [.int (10 : Int32), .int t0, .ref g.2.1]) ⟨hx, hb, hml, hown, hts⟩ hI (zm_l l g v3 (1 : Int32) S _ hw) (cwV 2 hts (lw_V q3712 q3714 qs42 q113 q3715) rfl rfl rfl hdT_l ⟨Nat.le_of_ble_eq_true rfl, Nat.le_of_ble_eq_true rfl⟩) rfl hl.1 rfl (lv_room (Nat.le_of_ble_eq_true rfl)) dX5_gathers_205 ⟨Nat.le_refl _, Nat.le_refl _⟩ (fun r_48 S_47 H locs hw hI => ?_)
  refine zt_calli (As := [.int t0, .int (10 : Int32), .int r_48]) (rest := []) ⟨hx, hb, hml, hown, hts⟩ hI (zm_refuses l g t0 (10 : Int32) r_48 S_47 _ hw) (cwV 3 hts (lw_V q3696 q3698 qs38 q113 q3699) rfl rfl rfl hdT_refuses ⟨Nat.le_of_ble_eq_true rfl, Nat.le_of_ble_eq_true rfl⟩) rfl hl.1 rfl (lv_room (Nat.le_of_ble_eq_true rfl)) dX5_gathers_208 ⟨Nat.le_refl _, Nat.le_refl _⟩ (fun r_50 S_49 H locs hw hI => ?_)
  refine lv_if_eq (tgt := 216) hx hb dX5_gathers_211 (by decide) (fun hc_51 => ?_) (fun hc_51 => ?_)
  · have hw := hw.1 hc_51
    refine lv_aload_n hx hb dX5_gathers_216 rfl (lv_at hl 0 rfl) ?_
    refine lv_iload_n hx hb dX5_gathers_217 rfl (lv_at hl 2 rfl) ?_
    refine lv_iconst (v := 1) hx hb dX5_gathers_218 (by decide) ?_
    refine lv_aload_n hx hb dX5_gathers_219 rfl (lv_at hl 0 rfl) ?_
    refine lv_iload_n hx hb dX5_gathers_220 rfl (lv_at hl 2 rfl) ?_
    refine lv_iconst (v := 1) hx hb dX5_gathers_221 (by decide) ?_
    refine zt_calli (As := [.int v2, .int (1 : Int32)]) (rest := [.int (1 : Int32), .int v2, .ref g.2.1]) ⟨hx, hb, hml, hown, hts⟩ hI (zm_c l g v2 (1 : Int32) S_49 _ hw) (cwV 2 hts (lw_V q3903 q3905 qs72 q113 q3906) rfl rfl rfl hdT_c ⟨Nat.le_of_ble_eq_true rfl, Nat.le_of_ble_eq_true rfl⟩) rfl hl.1 rfl (lv_room (Nat.le_of_ble_eq_true rfl)) dX5_gathers_222 ⟨Nat.le_refl _, Nat.le_refl _⟩ (fun r_53 S_52 H locs hw hI => ?_)
    refine lv_iload hx hb dX5_gathers_225 (lv_at hl 4 rfl) ?_
    refine lv_iadd hx hb dX5_gathers_227 ?_
    refine zt_callv (As := [.int v2, .int (1 : Int32), .int (r_53 + v7)]) (rest := []) ⟨hx, hb, hml, hown, hts⟩ hI (zm_setCart l g v2 (1 : Int32) (r_53 + v7) S_52 _ hw) (cwV 3 hts (lw_V q3911 q3913 qs74 q113 q3914) rfl rfl rfl hdT_setCart ⟨Nat.le_of_ble_eq_true rfl, Nat.le_of_ble_eq_true rfl⟩) rfl hl.1 rfl (lv_room (Nat.le_of_ble_eq_true rfl)) dX5_gathers_228 ⟨Nat.le_refl _, Nat.le_refl _⟩ (fun S_54 H locs hw hI => ?_)
    refine lv_aload_n hx hb dX5_gathers_231 rfl (lv_at hl 0 rfl) ?_
    refine lv_iload_n hx hb dX5_gathers_232 rfl (lv_at hl 2 rfl) ?_
    refine lv_iconst (v := 2) hx hb dX5_gathers_233 (by decide) ?_
    refine lv_iload_n hx hb dX5_gathers_234 rfl (lv_at hl 1 rfl) ?_
    refine zt_callv (As := [.int v2, .int (2 : Int32), .int v1]) (rest := []) ⟨hx, hb, hml, hown, hts⟩ hI (zm_setCart l g v2 (2 : Int32) v1 S_54 _ hw) (cwV 3 hts (lw_V q3911 q3913 qs74 q113 q3914) rfl rfl rfl hdT_setCart ⟨Nat.le_of_ble_eq_true rfl, Nat.le_of_ble_eq_true rfl⟩) rfl hl.1 rfl (lv_room (Nat.le_of_ble_eq_true rfl)) dX5_gathers_235 ⟨Nat.le_refl _, Nat.le_refl _⟩ (fun S_55 H locs hw hI => ?_)
    refine lv_aload_n hx hb dX5_gathers_238 rfl (lv_at hl 0 rfl) ?_
    refine lv_iload hx hb dX5_gathers_239 (lv_at hl 4 rfl) ?_
    refine zt_put hx hb hts hown hI 4 (v := v7) (ty := .int) (by decide) q3636 rfl rfl (by decide +kernel) rfl rfl rfl dX5_gathers_241 (fun H locs hI => ?_)
    obtain ⟨S_56, eS_56⟩ : ∃ z, z = zt_us S_55 0 4 v7 := ⟨_, rfl⟩
    rw [← eS_56] at hI
    have hw := hw S_56 eS_56
    refine lv_iconst (v := 0) hx hb dX5_gathers_244 (by decide) ?_
    exact zt_iret hx hb hr hlk hI hw dX5_gathers_245
  · have hw := hw.2 hc_51
    refine lv_iconst (v := 3) hx hb dX5_gathers_214 (by decide) ?_
    exact zt_iret hx hb hr hlk hI hw dX5_gathers_215
def zw_gathers_154 (post : Int32 → zt_S → Prop) (t0 : Int32) (v1 : Int32) (v2 : Int32) (v3 : Int32) (v6 : Int32) (S : zt_S) : Prop :=
  zw_c v2 (1 : Int32) S (fun (r_37 : Int32) (S_36 : zt_S) => zw_refuses t0 (9 : Int32) r_37 S_36 (fun (r_39 : Int32) (S_38 : zt_S) => (r_39 = (0 : Int32) → (zw_lacks v1 S_38 (fun (r_42 : Int32) (S_41 : zt_S) => zw_least r_42 v6 (fun (r_43 : Int32) => zw_quiresFor v1 v3 r_43 (1 : Int32) S_41 (fun (r_45 : Int32) (S_44 : zt_S) => (¬ r_45 = (0 : Int32) → (zw_gathers_200 post (0 : Int32) v1 v2 v3 r_45 S_44)) ∧ (r_45 = (0 : Int32) → (zw_gathers_200 post (1 : Int32) v1 v2 v3 r_45 S_44))))))) ∧ (¬ r_39 = (0 : Int32) → (post (3 : Int32) S_38))))
set_option maxHeartbeats 4000000 in
theorem zj_gathers_154 {p : Program} {l : Launch} {e : Env} {s : State} {m : MethodId} {args : Array Value} {below : List Frame} {meth : Method} {c : Code} {H : Heap} {locs : List Loc} {ls : Array Slot} (g : zt_G) (post : Int32 → zt_S → Prop) (t0 : Int32) (v1 : Int32) (v2 : Int32) (v3 : Int32) (v6 : Int32) (S : zt_S) (hC : zt_C p s m args meth c cX5_gathers 8 (some .int)) (hw : zw_gathers_154 post t0 v1 v2 v3 v6 S) (hI : zt_I g S s H locs) (hl : lv_has ls 8 [(0, .ref g.2.1), (1, .int v1), (2, .int v2), (3, .int v3), (6, .int v6)]) : W p l e ({ frames := 4, cells := 0, slots := 0, locals := 97 } : Room) s m args below meth c H locs 0 0 (MQ below (va_Qi post (zt_B g) (zt_A g)) args s 0 0 (zt_A g)) (F0 m 154 ls [.int t0, .ref g.2.1]) := by
  obtain ⟨hx, hb, hml, hown, hts, hr, hlk⟩ := hC
  unfold zw_gathers_154 at hw
  refine lv_bipush (v := 9) hx hb dX5_gathers_154 (by decide) ?_
  refine lv_aload_n hx hb dX5_gathers_156 rfl (lv_at hl 0 rfl) ?_
  refine lv_iload_n hx hb dX5_gathers_157 rfl (lv_at hl 2 rfl) ?_
  refine lv_iconst (v := 1) hx hb dX5_gathers_158 (by decide) ?_
  refine zt_calli (As := [.int v2, .int (1 : Int32)]) (rest := [.int (9 : Int32), .int t0, .ref g.2.1]) ⟨hx, hb, hml, hown, hts⟩ hI (zm_c l g v2 (1 : Int32) S _ hw) (cwV 2 hts (lw_V q3903 q3905 qs72 q113 q3906) rfl rfl rfl hdT_c ⟨Nat.le_of_ble_eq_true rfl, Nat.le_of_ble_eq_true rfl⟩) rfl hl.1 rfl (lv_room (Nat.le_of_ble_eq_true rfl)) dX5_gathers_159 ⟨Nat.le_refl _, Nat.le_refl _⟩ (fun r_37 S_36 H locs hw hI => ?_)
  refine zt_calli (As := [.int t0, .int (9 : Int32), .int r_37]) (rest := []) ⟨hx, hb, hml, hown, hts⟩ hI (zm_refuses l g t0 (9 : Int32) r_37 S_36 _ hw) (cwV 3 hts (lw_V q3696 q3698 qs38 q113 q3699) rfl rfl rfl hdT_refuses ⟨Nat.le_of_ble_eq_true rfl, Nat.le_of_ble_eq_true rfl⟩) rfl hl.1 rfl (lv_room (Nat.le_of_ble_eq_true rfl)) dX5_gathers_162 ⟨Nat.le_refl _, Nat.le_refl _⟩ (fun r_39 S_38 H locs hw hI => ?_)
  refine lv_if_eq (tgt := 170) hx hb dX5_gathers_165 (by decide) (fun hc_40 => ?_) (fun hc_40 => ?_)
  · have hw := hw.1 hc_40
    refine lv_aload_n hx hb dX5_gathers_170 rfl (lv_at hl 0 rfl) ?_
    refine lv_iload_n hx hb dX5_gathers_171 rfl (lv_at hl 1 rfl) ?_
    refine lv_iload_n hx hb dX5_gathers_172 rfl (lv_at hl 3 rfl) ?_
    refine lv_aload_n hx hb dX5_gathers_173 rfl (lv_at hl 0 rfl) ?_
    refine lv_iload_n hx hb dX5_gathers_174 rfl (lv_at hl 1 rfl) ?_
    refine zt_calli (As := [.int v1]) (rest := [.int v3, .int v1, .ref g.2.1]) ⟨hx, hb, hml, hown, hts⟩ hI (zm_lacks l g v1 S_38 _ hw) (cwV 1 hts (lw_V q3931 q3933 qs77 q113 q3934) rfl rfl rfl hdT_lacks ⟨Nat.le_of_ble_eq_true rfl, Nat.le_of_ble_eq_true rfl⟩) rfl hl.1 rfl (lv_room (Nat.le_of_ble_eq_true rfl)) dX5_gathers_175 ⟨Nat.le_refl _, Nat.le_refl _⟩ (fun r_42 S_41 H locs hw hI => ?_)
    refine lv_iload hx hb dX5_gathers_178 (lv_at hl 4 rfl) ?_
    refine zt_callS (As := [.int r_42, .int v6]) (rest := [.int v3, .int v1, .ref g.2.1]) ⟨hx, hb, hml, hown, hts⟩ (zm_least l r_42 v6 _ hw) (va_cwS 2 hts (lw_S q3828 q3829 q113 q3830) rfl rfl rfl hdT_least ⟨Nat.le_of_ble_eq_true rfl, Nat.le_of_ble_eq_true rfl⟩) rfl hl.1 rfl (lv_room (Nat.le_of_ble_eq_true rfl)) dX5_gathers_180 ⟨Nat.le_refl _, Nat.le_refl _⟩ (fun r_43 hw => ?_)
    refine lv_iconst (v := 1) hx hb dX5_gathers_183 (by decide) ?_
    refine zt_calli (As := [.int v1, .int v3, .int r_43, .int (1 : Int32)]) (rest := []) ⟨hx, hb, hml, hown, hts⟩ hI (zm_quiresFor l g v1 v3 r_43 (1 : Int32) S_41 _ hw) (cwV 4 hts (lw_V q3935 q3937 qs78 q113 q3938) rfl rfl rfl hdT_quiresFor ⟨Nat.le_of_ble_eq_true rfl, Nat.le_of_ble_eq_true rfl⟩) rfl hl.1 rfl (lv_room (Nat.le_of_ble_eq_true rfl)) dX5_gathers_184 ⟨Nat.le_refl _, Nat.le_refl _⟩ (fun r_45 S_44 H locs hw hI => ?_)
    refine lv_istore (lv' := [(7, .int r_45), (0, .ref g.2.1), (1, .int v1), (2, .int v2), (3, .int v3), (6, .int v6)]) hx hb dX5_gathers_187 hl (by decide) rfl (fun ls hl => ?_)
    refine lv_aload_n hx hb dX5_gathers_189 rfl (lv_at hl 1 rfl) ?_
    refine lv_iload hx hb dX5_gathers_190 (lv_at hl 0 rfl) ?_
    refine lv_if_ne (tgt := 199) hx hb dX5_gathers_192 (by decide) (fun hc_46 => ?_) (fun hc_46 => ?_)
    · have hw := hw.1 hc_46
      refine lv_iconst (v := 0) hx hb dX5_gathers_199 (by decide) ?_
      exact zj_gathers_200 g post (0 : Int32) v1 v2 v3 r_45 S_44 ⟨hx, hb, hml, hown, hts, hr, hlk⟩ hw hI (lv_sub hl [1, 2, 3, 4, 0] rfl)
    · have hw := hw.2 hc_46
      refine lv_iconst (v := 1) hx hb dX5_gathers_195 (by decide) ?_
      refine lv_goto (tgt := 200) hx hb dX5_gathers_196 (by decide) ?_
      exact zj_gathers_200 g post (1 : Int32) v1 v2 v3 r_45 S_44 ⟨hx, hb, hml, hown, hts, hr, hlk⟩ hw hI (lv_sub hl [1, 2, 3, 4, 0] rfl)
  · have hw := hw.2 hc_40
    refine lv_iconst (v := 3) hx hb dX5_gathers_168 (by decide) ?_
    exact zt_iret hx hb hr hlk hI hw dX5_gathers_169
def zw_gathers_134 (post : Int32 → zt_S → Prop) (t0 : Int32) (v1 : Int32) (v2 : Int32) (v3 : Int32) (v6 : Int32) (S : zt_S) : Prop :=
  zw_refuses t0 (8 : Int32) v1 S (fun (r_33 : Int32) (S_32 : zt_S) => (¬ r_33 = (0 : Int32) → (post (3 : Int32) S_32)) ∧ (r_33 = (0 : Int32) → ((¬ v6 = (0 : Int32) → (zw_gathers_154 post (0 : Int32) v1 v2 v3 v6 S_32)) ∧ (v6 = (0 : Int32) → (zw_gathers_154 post (1 : Int32) v1 v2 v3 v6 S_32)))))
set_option maxHeartbeats 4000000 in
theorem zj_gathers_134 {p : Program} {l : Launch} {e : Env} {s : State} {m : MethodId} {args : Array Value} {below : List Frame} {meth : Method} {c : Code} {H : Heap} {locs : List Loc} {ls : Array Slot} (g : zt_G) (post : Int32 → zt_S → Prop) (t0 : Int32) (v1 : Int32) (v2 : Int32) (v3 : Int32) (v6 : Int32) (S : zt_S) (hC : zt_C p s m args meth c cX5_gathers 8 (some .int)) (hw : zw_gathers_134 post t0 v1 v2 v3 v6 S) (hI : zt_I g S s H locs) (hl : lv_has ls 8 [(0, .ref g.2.1), (1, .int v1), (2, .int v2), (3, .int v3), (6, .int v6)]) : W p l e ({ frames := 4, cells := 0, slots := 0, locals := 97 } : Room) s m args below meth c H locs 0 0 (MQ below (va_Qi post (zt_B g) (zt_A g)) args s 0 0 (zt_A g)) (F0 m 134 ls [.int t0, .ref g.2.1]) := by
  obtain ⟨hx, hb, hml, hown, hts, hr, hlk⟩ := hC
  unfold zw_gathers_134 at hw
  refine lv_bipush (v := 8) hx hb dX5_gathers_134 (by decide) ?_
  refine lv_iload_n hx hb dX5_gathers_136 rfl (lv_at hl 1 rfl) ?_
  refine zt_calli (As := [.int t0, .int (8 : Int32), .int v1]) (rest := []) ⟨hx, hb, hml, hown, hts⟩ hI (zm_refuses l g t0 (8 : Int32) v1 S _ hw) (cwV 3 hts (lw_V q3696 q3698 qs38 q113 q3699) rfl rfl rfl hdT_refuses ⟨Nat.le_of_ble_eq_true rfl, Nat.le_of_ble_eq_true rfl⟩) rfl hl.1 rfl (lv_room (Nat.le_of_ble_eq_true rfl)) dX5_gathers_137 ⟨Nat.le_refl _, Nat.le_refl _⟩ (fun r_33 S_32 H locs hw hI => ?_)
  refine lv_if_ne (tgt := 168) hx hb dX5_gathers_140 (by decide) (fun hc_34 => ?_) (fun hc_34 => ?_)
  · have hw := hw.1 hc_34
    refine lv_iconst (v := 3) hx hb dX5_gathers_168 (by decide) ?_
    exact zt_iret hx hb hr hlk hI hw dX5_gathers_169
  · have hw := hw.2 hc_34
    refine lv_aload_n hx hb dX5_gathers_143 rfl (lv_at hl 0 rfl) ?_
    refine lv_iload hx hb dX5_gathers_144 (lv_at hl 4 rfl) ?_
    refine lv_if_ne (tgt := 153) hx hb dX5_gathers_146 (by decide) (fun hc_35 => ?_) (fun hc_35 => ?_)
    · have hw := hw.1 hc_35
      refine lv_iconst (v := 0) hx hb dX5_gathers_153 (by decide) ?_
      exact zj_gathers_154 g post (0 : Int32) v1 v2 v3 v6 S_32 ⟨hx, hb, hml, hown, hts, hr, hlk⟩ hw hI (lv_sub hl [0, 1, 2, 3, 4] rfl)
    · have hw := hw.2 hc_35
      refine lv_iconst (v := 1) hx hb dX5_gathers_149 (by decide) ?_
      refine lv_goto (tgt := 154) hx hb dX5_gathers_150 (by decide) ?_
      exact zj_gathers_154 g post (1 : Int32) v1 v2 v3 v6 S_32 ⟨hx, hb, hml, hown, hts, hr, hlk⟩ hw hI (lv_sub hl [0, 1, 2, 3, 4] rfl)
def zw_gathers_110 (post : Int32 → zt_S → Prop) (t0 : Int32) (v1 : Int32) (v2 : Int32) (v3 : Int32) (v5 : Int32) (v6 : Int32) (S : zt_S) : Prop :=
  zw_refuses t0 (7 : Int32) v5 S (fun (r_27 : Int32) (S_26 : zt_S) => (¬ r_27 = (0 : Int32) → (post (3 : Int32) S_26)) ∧ (r_27 = (0 : Int32) → (zw_lacks v1 S_26 (fun (r_30 : Int32) (S_29 : zt_S) => (¬ r_30 = (0 : Int32) → (zw_gathers_134 post (0 : Int32) v1 v2 v3 v6 S_29)) ∧ (r_30 = (0 : Int32) → (zw_gathers_134 post (1 : Int32) v1 v2 v3 v6 S_29))))))
set_option maxHeartbeats 4000000 in
theorem zj_gathers_110 {p : Program} {l : Launch} {e : Env} {s : State} {m : MethodId} {args : Array Value} {below : List Frame} {meth : Method} {c : Code} {H : Heap} {locs : List Loc} {ls : Array Slot} (g : zt_G) (post : Int32 → zt_S → Prop) (t0 : Int32) (v1 : Int32) (v2 : Int32) (v3 : Int32) (v5 : Int32) (v6 : Int32) (S : zt_S) (hC : zt_C p s m args meth c cX5_gathers 8 (some .int)) (hw : zw_gathers_110 post t0 v1 v2 v3 v5 v6 S) (hI : zt_I g S s H locs) (hl : lv_has ls 8 [(0, .ref g.2.1), (1, .int v1), (2, .int v2), (3, .int v3), (5, .int v5), (6, .int v6)]) : W p l e ({ frames := 4, cells := 0, slots := 0, locals := 97 } : Room) s m args below meth c H locs 0 0 (MQ below (va_Qi post (zt_B g) (zt_A g)) args s 0 0 (zt_A g)) (F0 m 110 ls [.int t0, .ref g.2.1]) := by
  obtain ⟨hx, hb, hml, hown, hts, hr, hlk⟩ := hC
  unfold zw_gathers_110 at hw
  refine lv_bipush (v := 7) hx hb dX5_gathers_110 (by decide) ?_
  refine lv_iload hx hb dX5_gathers_112 (lv_at hl 4 rfl) ?_
  refine zt_calli (As := [.int t0, .int (7 : Int32), .int v5]) (rest := []) ⟨hx, hb, hml, hown, hts⟩ hI (zm_refuses l g t0 (7 : Int32) v5 S _ hw) (cwV 3 hts (lw_V q3696 q3698 qs38 q113 q3699) rfl rfl rfl hdT_refuses ⟨Nat.le_of_ble_eq_true rfl, Nat.le_of_ble_eq_true rfl⟩) rfl hl.1 rfl (lv_room (Nat.le_of_ble_eq_true rfl)) dX5_gathers_114 ⟨Nat.le_refl _, Nat.le_refl _⟩ (fun r_27 S_26 H locs hw hI => ?_)
  refine lv_if_ne (tgt := 168) hx hb dX5_gathers_117 (by decide) (fun hc_28 => ?_) (fun hc_28 => ?_)
  · have hw := hw.1 hc_28
    refine lv_iconst (v := 3) hx hb dX5_gathers_168 (by decide) ?_
    exact zt_iret hx hb hr hlk hI hw dX5_gathers_169
  · have hw := hw.2 hc_28
    refine lv_aload_n hx hb dX5_gathers_120 rfl (lv_at hl 0 rfl) ?_
    refine lv_aload_n hx hb dX5_gathers_121 rfl (lv_at hl 0 rfl) ?_
    refine lv_iload_n hx hb dX5_gathers_122 rfl (lv_at hl 1 rfl) ?_
    refine zt_calli (As := [.int v1]) (rest := [.ref g.2.1]) ⟨hx, hb, hml, hown, hts⟩ hI (zm_lacks l g v1 S_26 _ hw) (cwV 1 hts (lw_V q3931 q3933 qs77 q113 q3934) rfl rfl rfl hdT_lacks ⟨Nat.le_of_ble_eq_true rfl, Nat.le_of_ble_eq_true rfl⟩) rfl hl.1 rfl (lv_room (Nat.le_of_ble_eq_true rfl)) dX5_gathers_123 ⟨Nat.le_refl _, Nat.le_refl _⟩ (fun r_30 S_29 H locs hw hI => ?_)
    refine lv_if_ne (tgt := 133) hx hb dX5_gathers_126 (by decide) (fun hc_31 => ?_) (fun hc_31 => ?_)
    · have hw := hw.1 hc_31
      refine lv_iconst (v := 0) hx hb dX5_gathers_133 (by decide) ?_
      exact zj_gathers_134 g post (0 : Int32) v1 v2 v3 v6 S_29 ⟨hx, hb, hml, hown, hts, hr, hlk⟩ hw hI (lv_sub hl [0, 1, 2, 3, 5] rfl)
    · have hw := hw.2 hc_31
      refine lv_iconst (v := 1) hx hb dX5_gathers_129 (by decide) ?_
      refine lv_goto (tgt := 134) hx hb dX5_gathers_130 (by decide) ?_
      exact zj_gathers_134 g post (1 : Int32) v1 v2 v3 v6 S_29 ⟨hx, hb, hml, hown, hts, hr, hlk⟩ hw hI (lv_sub hl [0, 1, 2, 3, 5] rfl)
def zw_gathers_109 (post : Int32 → zt_S → Prop) (v1 : Int32) (v2 : Int32) (v3 : Int32) (v5 : Int32) (v6 : Int32) (S : zt_S) : Prop :=
  zw_gathers_110 post (0 : Int32) v1 v2 v3 v5 v6 S
set_option maxHeartbeats 4000000 in
theorem zj_gathers_109 {p : Program} {l : Launch} {e : Env} {s : State} {m : MethodId} {args : Array Value} {below : List Frame} {meth : Method} {c : Code} {H : Heap} {locs : List Loc} {ls : Array Slot} (g : zt_G) (post : Int32 → zt_S → Prop) (v1 : Int32) (v2 : Int32) (v3 : Int32) (v5 : Int32) (v6 : Int32) (S : zt_S) (hC : zt_C p s m args meth c cX5_gathers 8 (some .int)) (hw : zw_gathers_109 post v1 v2 v3 v5 v6 S) (hI : zt_I g S s H locs) (hl : lv_has ls 8 [(0, .ref g.2.1), (1, .int v1), (2, .int v2), (3, .int v3), (5, .int v5), (6, .int v6)]) : W p l e ({ frames := 4, cells := 0, slots := 0, locals := 97 } : Room) s m args below meth c H locs 0 0 (MQ below (va_Qi post (zt_B g) (zt_A g)) args s 0 0 (zt_A g)) (F0 m 109 ls [.ref g.2.1]) := by
  obtain ⟨hx, hb, hml, hown, hts, hr, hlk⟩ := hC
  unfold zw_gathers_109 at hw
  refine lv_iconst (v := 0) hx hb dX5_gathers_109 (by decide) ?_
  exact zj_gathers_110 g post (0 : Int32) v1 v2 v3 v5 v6 S ⟨hx, hb, hml, hown, hts, hr, hlk⟩ hw hI (lv_sub hl [0, 1, 2, 3, 4, 5] rfl)
def zw_gathers_82 (post : Int32 → zt_S → Prop) (t0 : Int32) (v1 : Int32) (v2 : Int32) (v3 : Int32) (v4 : Int32) (v5 : Int32) (v6 : Int32) (S : zt_S) : Prop :=
  zw_refuses t0 (6 : Int32) v4 S (fun (r_23 : Int32) (S_22 : zt_S) => (¬ r_23 = (0 : Int32) → (post (3 : Int32) S_22)) ∧ (r_23 = (0 : Int32) → ((v5 = (-1 : Int32) → (zw_gathers_109 post v1 v2 v3 v5 v6 S_22)) ∧ (¬ v5 = (-1 : Int32) → ((v5 = v2 → (zw_gathers_109 post v1 v2 v3 v5 v6 S_22)) ∧ (¬ v5 = v2 → (zw_gathers_110 post (1 : Int32) v1 v2 v3 v5 v6 S_22)))))))
set_option maxHeartbeats 4000000 in
theorem zj_gathers_82 {p : Program} {l : Launch} {e : Env} {s : State} {m : MethodId} {args : Array Value} {below : List Frame} {meth : Method} {c : Code} {H : Heap} {locs : List Loc} {ls : Array Slot} (g : zt_G) (post : Int32 → zt_S → Prop) (t0 : Int32) (v1 : Int32) (v2 : Int32) (v3 : Int32) (v4 : Int32) (v5 : Int32) (v6 : Int32) (S : zt_S) (hC : zt_C p s m args meth c cX5_gathers 8 (some .int)) (hw : zw_gathers_82 post t0 v1 v2 v3 v4 v5 v6 S) (hI : zt_I g S s H locs) (hl : lv_has ls 8 [(0, .ref g.2.1), (1, .int v1), (2, .int v2), (3, .int v3), (4, .int v4), (5, .int v5), (6, .int v6)]) : W p l e ({ frames := 4, cells := 0, slots := 0, locals := 97 } : Room) s m args below meth c H locs 0 0 (MQ below (va_Qi post (zt_B g) (zt_A g)) args s 0 0 (zt_A g)) (F0 m 82 ls [.int t0, .ref g.2.1]) := by
  obtain ⟨hx, hb, hml, hown, hts, hr, hlk⟩ := hC
  unfold zw_gathers_82 at hw
  refine lv_bipush (v := 6) hx hb dX5_gathers_82 (by decide) ?_
  refine lv_iload hx hb dX5_gathers_84 (lv_at hl 4 rfl) ?_
  refine zt_calli (As := [.int t0, .int (6 : Int32), .int v4]) (rest := []) ⟨hx, hb, hml, hown, hts⟩ hI (zm_refuses l g t0 (6 : Int32) v4 S _ hw) (cwV 3 hts (lw_V q3696 q3698 qs38 q113 q3699) rfl rfl rfl hdT_refuses ⟨Nat.le_of_ble_eq_true rfl, Nat.le_of_ble_eq_true rfl⟩) rfl hl.1 rfl (lv_room (Nat.le_of_ble_eq_true rfl)) dX5_gathers_86 ⟨Nat.le_refl _, Nat.le_refl _⟩ (fun r_23 S_22 H locs hw hI => ?_)
  refine lv_if_ne (tgt := 168) hx hb dX5_gathers_89 (by decide) (fun hc_24 => ?_) (fun hc_24 => ?_)
  · have hw := hw.1 hc_24
    refine lv_iconst (v := 3) hx hb dX5_gathers_168 (by decide) ?_
    exact zt_iret hx hb hr hlk hI hw dX5_gathers_169
  · have hw := hw.2 hc_24
    refine lv_aload_n hx hb dX5_gathers_92 rfl (lv_at hl 0 rfl) ?_
    refine lv_iload hx hb dX5_gathers_93 (lv_at hl 5 rfl) ?_
    refine lv_iconst (v := -1) hx hb dX5_gathers_95 (by decide) ?_
    refine lv_icmp_eq (tgt := 109) hx hb dX5_gathers_96 (by decide) (fun hc_25 => ?_) (fun hc_25 => ?_)
    · have hw := hw.1 hc_25
      exact zj_gathers_109 g post v1 v2 v3 v5 v6 S_22 ⟨hx, hb, hml, hown, hts, hr, hlk⟩ hw hI (lv_sub hl [0, 1, 2, 3, 5, 6] rfl)
    · have hw := hw.2 hc_25
      refine lv_iload hx hb dX5_gathers_99 (lv_at hl 5 rfl) ?_
      refine lv_iload_n hx hb dX5_gathers_101 rfl (lv_at hl 2 rfl) ?_
      refine lv_icmp_eq (tgt := 109) hx hb dX5_gathers_102 (by decide) (fun hc_57 => ?_) (fun hc_57 => ?_)
      · have hw := hw.1 hc_57
        exact zj_gathers_109 g post v1 v2 v3 v5 v6 S_22 ⟨hx, hb, hml, hown, hts, hr, hlk⟩ hw hI (lv_sub hl [0, 1, 2, 3, 5, 6] rfl)
      · have hw := hw.2 hc_57
        refine lv_iconst (v := 1) hx hb dX5_gathers_105 (by decide) ?_
        refine lv_goto (tgt := 110) hx hb dX5_gathers_106 (by decide) ?_
        exact zj_gathers_110 g post (1 : Int32) v1 v2 v3 v5 v6 S_22 ⟨hx, hb, hml, hown, hts, hr, hlk⟩ hw hI (lv_sub hl [0, 1, 2, 3, 5, 6] rfl)
def zw_gathers_81 (post : Int32 → zt_S → Prop) (v1 : Int32) (v2 : Int32) (v3 : Int32) (v4 : Int32) (v5 : Int32) (v6 : Int32) (S : zt_S) : Prop :=
  zw_gathers_82 post (0 : Int32) v1 v2 v3 v4 v5 v6 S
set_option maxHeartbeats 4000000 in
theorem zj_gathers_81 {p : Program} {l : Launch} {e : Env} {s : State} {m : MethodId} {args : Array Value} {below : List Frame} {meth : Method} {c : Code} {H : Heap} {locs : List Loc} {ls : Array Slot} (g : zt_G) (post : Int32 → zt_S → Prop) (v1 : Int32) (v2 : Int32) (v3 : Int32) (v4 : Int32) (v5 : Int32) (v6 : Int32) (S : zt_S) (hC : zt_C p s m args meth c cX5_gathers 8 (some .int)) (hw : zw_gathers_81 post v1 v2 v3 v4 v5 v6 S) (hI : zt_I g S s H locs) (hl : lv_has ls 8 [(0, .ref g.2.1), (1, .int v1), (2, .int v2), (3, .int v3), (4, .int v4), (5, .int v5), (6, .int v6)]) : W p l e ({ frames := 4, cells := 0, slots := 0, locals := 97 } : Room) s m args below meth c H locs 0 0 (MQ below (va_Qi post (zt_B g) (zt_A g)) args s 0 0 (zt_A g)) (F0 m 81 ls [.ref g.2.1]) := by
  obtain ⟨hx, hb, hml, hown, hts, hr, hlk⟩ := hC
  unfold zw_gathers_81 at hw
  refine lv_iconst (v := 0) hx hb dX5_gathers_81 (by decide) ?_
  exact zj_gathers_82 g post (0 : Int32) v1 v2 v3 v4 v5 v6 S ⟨hx, hb, hml, hown, hts, hr, hlk⟩ hw hI (lv_sub hl [0, 1, 2, 3, 4, 5, 6] rfl)
def zw_gathers (p1 : Int32) (p2 : Int32) (p3 : Int32) (S : zt_S) (post : Int32 → zt_S → Prop) : Prop :=
  zw_isOrder p1 S (fun (r_2 : Int32) (S_1 : zt_S) => (r_2 = (0 : Int32) → (post (1 : Int32) S_1)) ∧ (¬ r_2 = (0 : Int32) → (zw_isCart p2 S_1 (fun (r_5 : Int32) (S_4 : zt_S) => (r_5 = (0 : Int32) → (post (1 : Int32) S_4)) ∧ (¬ r_5 = (0 : Int32) → (zw_isLadder p3 S_4 (fun (r_8 : Int32) (S_7 : zt_S) => (¬ r_8 = (0 : Int32) → (zw_c p2 (2 : Int32) S_7 (fun (r_11 : Int32) (S_10 : zt_S) => zw_cartWith p1 S_10 (fun (r_13 : Int32) (S_12 : zt_S) => zw_c p2 (0 : Int32) S_12 (fun (r_15 : Int32) (S_14 : zt_S) => zw_c p2 (1 : Int32) S_14 (fun (r_17 : Int32) (S_16 : zt_S) => zw_doesNotWait p1 S_16 (fun (r_19 : Int32) (S_18 : zt_S) => (¬ r_19 = (0 : Int32) → (post (3 : Int32) S_18)) ∧ (r_19 = (0 : Int32) → ((r_11 = (-1 : Int32) → (zw_gathers_81 post p1 p2 p3 r_11 r_13 (r_15 - r_17) S_18)) ∧ (¬ r_11 = (-1 : Int32) → ((r_11 = p1 → (zw_gathers_81 post p1 p2 p3 r_11 r_13 (r_15 - r_17) S_18)) ∧ (¬ r_11 = p1 → (zw_gathers_82 post (1 : Int32) p1 p2 p3 r_11 r_13 (r_15 - r_17) S_18))))))))))))) ∧ (r_8 = (0 : Int32) → (post (1 : Int32) S_7)))))))))
set_option maxHeartbeats 4000000 in
theorem zm_gathers (l : Launch) (g : zt_G) (p1 : Int32) (p2 : Int32) (p3 : Int32) (S : zt_S) (post : Int32 → zt_S → Prop) (hw : zw_gathers p1 p2 p3 S post) : Met l yX5_gathers (ws_ yX5_gathers cX5_gathers 8 (some .int)) ({ frames := 4, cells := 0, slots := 0, locals := 97 } : Room) (va_Pc (.ref g.2.1 :: [.int p1, .int p2, .int p3]) (zt_B g S)) (va_Qi post (zt_B g) (zt_A g)) 0 0 (zt_A g) := by
  refine zt_met (by decide) rfl (Nat.le_of_ble_eq_true rfl) (fun p e s m below meth c ls hC hI hl => ?_)
  generalize (Value.ref g.2.1 :: ([.int p1, .int p2, .int p3] : List Value)).toArray = args at hC ⊢
  obtain ⟨hx, hb, hml, hown, hts, hr, hlk⟩ := hC
  have hl : lv_has ls 8 [(0, .ref g.2.1), (1, .int p1), (2, .int p2), (3, .int p3)] := hl
  unfold zw_gathers at hw
  obtain ⟨H, eH⟩ : ∃ z, z = s.heap := ⟨_, rfl⟩
  obtain ⟨locs, elo⟩ : ∃ z : List Loc, z = [] := ⟨_, rfl⟩
  rw [← eH, ← elo] at hI ⊢
  refine lv_aload_n hx hb dX5_gathers_0 rfl (lv_at hl 0 rfl) ?_
  refine lv_iload_n hx hb dX5_gathers_1 rfl (lv_at hl 1 rfl) ?_
  refine zt_calli (As := [.int p1]) (rest := []) ⟨hx, hb, hml, hown, hts⟩ hI (zm_isOrder l g p1 S _ hw) (cwV 1 hts (lw_V q3887 q3889 qs68 q113 q3890) rfl rfl rfl hdT_isOrder ⟨Nat.le_of_ble_eq_true rfl, Nat.le_of_ble_eq_true rfl⟩) rfl hl.1 rfl (lv_room (Nat.le_of_ble_eq_true rfl)) dX5_gathers_2 ⟨Nat.le_refl _, Nat.le_refl _⟩ (fun r_2 S_1 H locs hw hI => ?_)
  refine lv_if_eq (tgt := 24) hx hb dX5_gathers_5 (by decide) (fun hc_3 => ?_) (fun hc_3 => ?_)
  · have hw := hw.1 hc_3
    refine lv_iconst (v := 1) hx hb dX5_gathers_24 (by decide) ?_
    exact zt_iret hx hb hr hlk hI hw dX5_gathers_25
  · have hw := hw.2 hc_3
    refine lv_aload_n hx hb dX5_gathers_8 rfl (lv_at hl 0 rfl) ?_
    refine lv_iload_n hx hb dX5_gathers_9 rfl (lv_at hl 2 rfl) ?_
    refine zt_calli (As := [.int p2]) (rest := []) ⟨hx, hb, hml, hown, hts⟩ hI (zm_isCart l g p2 S_1 _ hw) (cwV 1 hts (lw_V q3927 q3929 qs76 q113 q3930) rfl rfl rfl hdT_isCart ⟨Nat.le_of_ble_eq_true rfl, Nat.le_of_ble_eq_true rfl⟩) rfl hl.1 rfl (lv_room (Nat.le_of_ble_eq_true rfl)) dX5_gathers_10 ⟨Nat.le_refl _, Nat.le_refl _⟩ (fun r_5 S_4 H locs hw hI => ?_)
    refine lv_if_eq (tgt := 24) hx hb dX5_gathers_13 (by decide) (fun hc_6 => ?_) (fun hc_6 => ?_)
    · have hw := hw.1 hc_6
      refine lv_iconst (v := 1) hx hb dX5_gathers_24 (by decide) ?_
      exact zt_iret hx hb hr hlk hI hw dX5_gathers_25
    · have hw := hw.2 hc_6
      refine lv_aload_n hx hb dX5_gathers_16 rfl (lv_at hl 0 rfl) ?_
      refine lv_iload_n hx hb dX5_gathers_17 rfl (lv_at hl 3 rfl) ?_
      refine zt_calli (As := [.int p3]) (rest := []) ⟨hx, hb, hml, hown, hts⟩ hI (zm_isLadder l g p3 S_4 _ hw) (cwV 1 hts (lw_V q3728 q3730 qs45 q113 q3731) rfl rfl rfl hdT_isLadder ⟨Nat.le_of_ble_eq_true rfl, Nat.le_of_ble_eq_true rfl⟩) rfl hl.1 rfl (lv_room (Nat.le_of_ble_eq_true rfl)) dX5_gathers_18 ⟨Nat.le_refl _, Nat.le_refl _⟩ (fun r_8 S_7 H locs hw hI => ?_)
      refine lv_if_ne (tgt := 26) hx hb dX5_gathers_21 (by decide) (fun hc_9 => ?_) (fun hc_9 => ?_)
      · have hw := hw.1 hc_9
        refine lv_aload_n hx hb dX5_gathers_26 rfl (lv_at hl 0 rfl) ?_
        refine lv_iload_n hx hb dX5_gathers_27 rfl (lv_at hl 2 rfl) ?_
        refine lv_iconst (v := 2) hx hb dX5_gathers_28 (by decide) ?_
        refine zt_calli (As := [.int p2, .int (2 : Int32)]) (rest := []) ⟨hx, hb, hml, hown, hts⟩ hI (zm_c l g p2 (2 : Int32) S_7 _ hw) (cwV 2 hts (lw_V q3903 q3905 qs72 q113 q3906) rfl rfl rfl hdT_c ⟨Nat.le_of_ble_eq_true rfl, Nat.le_of_ble_eq_true rfl⟩) rfl hl.1 rfl (lv_room (Nat.le_of_ble_eq_true rfl)) dX5_gathers_29 ⟨Nat.le_refl _, Nat.le_refl _⟩ (fun r_11 S_10 H locs hw hI => ?_)
        refine lv_istore (lv' := [(4, .int r_11), (0, .ref g.2.1), (1, .int p1), (2, .int p2), (3, .int p3)]) hx hb dX5_gathers_32 hl (by decide) rfl (fun ls hl => ?_)
        refine lv_aload_n hx hb dX5_gathers_34 rfl (lv_at hl 1 rfl) ?_
        refine lv_iload_n hx hb dX5_gathers_35 rfl (lv_at hl 2 rfl) ?_
        refine zt_calli (As := [.int p1]) (rest := []) ⟨hx, hb, hml, hown, hts⟩ hI (zm_cartWith l g p1 S_10 _ hw) (cwV 1 hts (lw_V q3899 q3901 qs71 q113 q3902) rfl rfl rfl hdT_cartWith ⟨Nat.le_of_ble_eq_true rfl, Nat.le_of_ble_eq_true rfl⟩) rfl hl.1 rfl (lv_room (Nat.le_of_ble_eq_true rfl)) dX5_gathers_36 ⟨Nat.le_refl _, Nat.le_refl _⟩ (fun r_13 S_12 H locs hw hI => ?_)
        refine lv_istore (lv' := [(5, .int r_13), (4, .int r_11), (0, .ref g.2.1), (1, .int p1), (2, .int p2), (3, .int p3)]) hx hb dX5_gathers_39 hl (by decide) rfl (fun ls hl => ?_)
        refine lv_aload_n hx hb dX5_gathers_41 rfl (lv_at hl 2 rfl) ?_
        refine lv_iload_n hx hb dX5_gathers_42 rfl (lv_at hl 4 rfl) ?_
        refine lv_iconst (v := 0) hx hb dX5_gathers_43 (by decide) ?_
        refine zt_calli (As := [.int p2, .int (0 : Int32)]) (rest := []) ⟨hx, hb, hml, hown, hts⟩ hI (zm_c l g p2 (0 : Int32) S_12 _ hw) (cwV 2 hts (lw_V q3903 q3905 qs72 q113 q3906) rfl rfl rfl hdT_c ⟨Nat.le_of_ble_eq_true rfl, Nat.le_of_ble_eq_true rfl⟩) rfl hl.1 rfl (lv_room (Nat.le_of_ble_eq_true rfl)) dX5_gathers_44 ⟨Nat.le_refl _, Nat.le_refl _⟩ (fun r_15 S_14 H locs hw hI => ?_)
        refine lv_aload_n hx hb dX5_gathers_47 rfl (lv_at hl 2 rfl) ?_
        refine lv_iload_n hx hb dX5_gathers_48 rfl (lv_at hl 4 rfl) ?_
        refine lv_iconst (v := 1) hx hb dX5_gathers_49 (by decide) ?_
        refine zt_calli (As := [.int p2, .int (1 : Int32)]) (rest := [.int r_15]) ⟨hx, hb, hml, hown, hts⟩ hI (zm_c l g p2 (1 : Int32) S_14 _ hw) (cwV 2 hts (lw_V q3903 q3905 qs72 q113 q3906) rfl rfl rfl hdT_c ⟨Nat.le_of_ble_eq_true rfl, Nat.le_of_ble_eq_true rfl⟩) rfl hl.1 rfl (lv_room (Nat.le_of_ble_eq_true rfl)) dX5_gathers_50 ⟨Nat.le_refl _, Nat.le_refl _⟩ (fun r_17 S_16 H locs hw hI => ?_)
        refine lv_isub hx hb dX5_gathers_53 ?_
        refine lv_istore (lv' := [(6, .int (r_15 - r_17)), (5, .int r_13), (4, .int r_11), (0, .ref g.2.1), (1, .int p1), (2, .int p2), (3, .int p3)]) hx hb dX5_gathers_54 hl (by decide) rfl (fun ls hl => ?_)
        refine lv_aload_n hx hb dX5_gathers_56 rfl (lv_at hl 3 rfl) ?_
        refine lv_iload_n hx hb dX5_gathers_57 rfl (lv_at hl 4 rfl) ?_
        refine zt_calli (As := [.int p1]) (rest := []) ⟨hx, hb, hml, hown, hts⟩ hI (zm_doesNotWait l g p1 S_16 _ hw) (cwV 1 hts (lw_V q3891 q3893 qs69 q113 q3894) rfl rfl rfl hdT_doesNotWait ⟨Nat.le_of_ble_eq_true rfl, Nat.le_of_ble_eq_true rfl⟩) rfl hl.1 rfl (lv_room (Nat.le_of_ble_eq_true rfl)) dX5_gathers_58 ⟨Nat.le_refl _, Nat.le_refl _⟩ (fun r_19 S_18 H locs hw hI => ?_)
        refine lv_if_ne (tgt := 168) hx hb dX5_gathers_61 (by decide) (fun hc_20 => ?_) (fun hc_20 => ?_)
        · have hw := hw.1 hc_20
          refine lv_iconst (v := 3) hx hb dX5_gathers_168 (by decide) ?_
          exact zt_iret hx hb hr hlk hI hw dX5_gathers_169
        · have hw := hw.2 hc_20
          refine lv_aload_n hx hb dX5_gathers_64 rfl (lv_at hl 3 rfl) ?_
          refine lv_iload hx hb dX5_gathers_65 (lv_at hl 2 rfl) ?_
          refine lv_iconst (v := -1) hx hb dX5_gathers_67 (by decide) ?_
          refine lv_icmp_eq (tgt := 81) hx hb dX5_gathers_68 (by decide) (fun hc_21 => ?_) (fun hc_21 => ?_)
          · have hw := hw.1 hc_21
            exact zj_gathers_81 g post p1 p2 p3 r_11 r_13 (r_15 - r_17) S_18 ⟨hx, hb, hml, hown, hts, hr, hlk⟩ hw hI (lv_sub hl [3, 4, 5, 6, 2, 1, 0] rfl)
          · have hw := hw.2 hc_21
            refine lv_iload hx hb dX5_gathers_71 (lv_at hl 2 rfl) ?_
            refine lv_iload_n hx hb dX5_gathers_73 rfl (lv_at hl 4 rfl) ?_
            refine lv_icmp_eq (tgt := 81) hx hb dX5_gathers_74 (by decide) (fun hc_58 => ?_) (fun hc_58 => ?_)
            · have hw := hw.1 hc_58
              exact zj_gathers_81 g post p1 p2 p3 r_11 r_13 (r_15 - r_17) S_18 ⟨hx, hb, hml, hown, hts, hr, hlk⟩ hw hI (lv_sub hl [3, 4, 5, 6, 2, 1, 0] rfl)
            · have hw := hw.2 hc_58
              refine lv_iconst (v := 1) hx hb dX5_gathers_77 (by decide) ?_
              refine lv_goto (tgt := 82) hx hb dX5_gathers_78 (by decide) ?_
              exact zj_gathers_82 g post (1 : Int32) p1 p2 p3 r_11 r_13 (r_15 - r_17) S_18 ⟨hx, hb, hml, hown, hts, hr, hlk⟩ hw hI (lv_sub hl [3, 4, 5, 6, 2, 1, 0] rfl)
      · have hw := hw.2 hc_9
        refine lv_iconst (v := 1) hx hb dX5_gathers_24 (by decide) ?_
        exact zt_iret hx hb hr hlk hI hw dX5_gathers_25
theorem hdT_gathers : yX5_gathers.cls = RX5 ∧ yX5_gathers.cls ≠ "java/lang/invoke/MethodHandle" ∧ yX5_gathers.cls ≠ "java/lang/invoke/VarHandle" ∧ (parseMethodDescriptor yX5_gathers.desc).map (fun d => d.parameters.length) = some 3 := by decide +kernel
def zw_gather (p1 : Int32) (p2 : Int32) (p3 : Int32) (S : zt_S) (post : Int32 → zt_S → Prop) : Prop :=
  zw_begins S (fun (S_1 : zt_S) => zw_gathers p1 p2 p3 S_1 (fun (r_3 : Int32) (S_2 : zt_S) => zw_ends r_3 (1 : Int32) (0 : Int32) (2 : Int32) S_2 (fun (r_5 : Int32) (S_4 : zt_S) => post r_5 S_4)))
set_option maxHeartbeats 4000000 in
theorem zm_gather (l : Launch) (g : zt_G) (p1 : Int32) (p2 : Int32) (p3 : Int32) (S : zt_S) (post : Int32 → zt_S → Prop) (hw : zw_gather p1 p2 p3 S post) : Met l yX5_gather (ws_ yX5_gather cX5_gather 4 (some .int)) ({ frames := 5, cells := 0, slots := 0, locals := 124 } : Room) (va_Pc (.ref g.2.1 :: [.int p1, .int p2, .int p3]) (zt_B g S)) (va_Qi post (zt_B g) (zt_A g)) 0 0 (zt_A g) := by
  refine zt_met (by decide) rfl (Nat.le_of_ble_eq_true rfl) (fun p e s m below meth c ls hC hI hl => ?_)
  generalize (Value.ref g.2.1 :: ([.int p1, .int p2, .int p3] : List Value)).toArray = args at hC ⊢
  obtain ⟨hx, hb, hml, hown, hts, hr, hlk⟩ := hC
  have hl : lv_has ls 4 [(0, .ref g.2.1), (1, .int p1), (2, .int p2), (3, .int p3)] := hl
  unfold zw_gather at hw
  obtain ⟨H, eH⟩ : ∃ z, z = s.heap := ⟨_, rfl⟩
  obtain ⟨locs, elo⟩ : ∃ z : List Loc, z = [] := ⟨_, rfl⟩
  rw [← eH, ← elo] at hI ⊢
  refine lv_aload_n hx hb dX5_gather_0 rfl (lv_at hl 0 rfl) ?_
  refine zt_callv (As := []) (rest := []) ⟨hx, hb, hml, hown, hts⟩ hI (zm_begins l g S _ hw) (cwV 0 hts (lw_V q3700 q3702 qs39 q113 q3703) rfl rfl rfl hdT_begins ⟨Nat.le_of_ble_eq_true rfl, Nat.le_of_ble_eq_true rfl⟩) rfl hl.1 rfl (lv_room (Nat.le_of_ble_eq_true rfl)) dX5_gather_1 ⟨Nat.le_refl _, Nat.le_refl _⟩ (fun S_1 H locs hw hI => ?_)
  refine lv_aload_n hx hb dX5_gather_4 rfl (lv_at hl 0 rfl) ?_
  refine lv_aload_n hx hb dX5_gather_5 rfl (lv_at hl 0 rfl) ?_
  refine lv_iload_n hx hb dX5_gather_6 rfl (lv_at hl 1 rfl) ?_
  refine lv_iload_n hx hb dX5_gather_7 rfl (lv_at hl 2 rfl) ?_
  refine lv_iload_n hx hb dX5_gather_8 rfl (lv_at hl 3 rfl) ?_
  refine zt_calli (As := [.int p1, .int p2, .int p3]) (rest := [.ref g.2.1]) ⟨hx, hb, hml, hown, hts⟩ hI (zm_gathers l g p1 p2 p3 S_1 _ hw) (cwV 3 hts (lw_V q3923 q3925 qs75 q113 q3926) rfl rfl rfl hdT_gathers ⟨Nat.le_of_ble_eq_true rfl, Nat.le_of_ble_eq_true rfl⟩) rfl hl.1 rfl (lv_room (Nat.le_of_ble_eq_true rfl)) dX5_gather_9 ⟨Nat.le_refl _, Nat.le_refl _⟩ (fun r_3 S_2 H locs hw hI => ?_)
  refine lv_iconst (v := 1) hx hb dX5_gather_12 (by decide) ?_
  refine lv_iconst (v := 0) hx hb dX5_gather_13 (by decide) ?_
  refine lv_iconst (v := 2) hx hb dX5_gather_14 (by decide) ?_
  refine zt_calli (As := [.int r_3, .int (1 : Int32), .int (0 : Int32), .int (2 : Int32)]) (rest := []) ⟨hx, hb, hml, hown, hts⟩ hI (zm_ends l g r_3 (1 : Int32) (0 : Int32) (2 : Int32) S_2 _ hw) (cwV 4 hts (lw_V q3735 q3737 qs46 q113 q3738) rfl rfl rfl hdT_ends ⟨Nat.le_of_ble_eq_true rfl, Nat.le_of_ble_eq_true rfl⟩) rfl hl.1 rfl (lv_room (Nat.le_of_ble_eq_true rfl)) dX5_gather_15 ⟨Nat.le_refl _, Nat.le_refl _⟩ (fun r_5 S_4 H locs hw hI => ?_)
  exact zt_iret hx hb hr hlk hI hw dX5_gather_18
theorem hdT_gather : yX5_gather.cls = RX5 ∧ yX5_gather.cls ≠ "java/lang/invoke/MethodHandle" ∧ yX5_gather.cls ≠ "java/lang/invoke/VarHandle" ∧ (parseMethodDescriptor yX5_gather.desc).map (fun d => d.parameters.length) = some 3 := by decide +kernel
def zw_sends_51 (post : Int32 → zt_S → Prop) (t0 : Int32) (v1 : Int32) (v2 : Int32) (S : zt_S) : Prop :=
  zw_lacks v2 S (fun (r_14 : Int32) (S_13 : zt_S) => zw_refuses t0 (12 : Int32) r_14 S_13 (fun (r_16 : Int32) (S_15 : zt_S) => (r_16 = (0 : Int32) → (zw_o v2 (2 : Int32) S_15 (fun (r_19 : Int32) (S_18 : zt_S) => zw_o v2 (0 : Int32) S_18 (fun (r_21 : Int32) (S_20 : zt_S) => ∀ S_22 : zt_S, S_22 = zt_us S_20 0 4 (r_19 * (r_21 + (1 : Int32))) → (vp_in (3 : Int32) 3810 ∧ (vp_in (3 : Int32) 3810 ∧ ∀ S_23 : zt_S, S_23 = zt_us S_22 1 (3 : Int32).toNatClampNeg ((S_22 1 (3 : Int32).toNatClampNeg) + (S_22 0 4)) → (zw_o v2 (0 : Int32) S_23 (fun (r_25 : Int32) (S_24 : zt_S) => zw_o v2 (1 : Int32) S_24 (fun (r_27 : Int32) (S_26 : zt_S) => vp_in (((369 : Int32) + ((3 : Int32) * r_25)) + r_27) 3810 ∧ (zw_o v2 (2 : Int32) S_26 (fun (r_29 : Int32) (S_28 : zt_S) => vp_in (((369 : Int32) + ((3 : Int32) * r_25)) + r_27) 3810 ∧ ∀ S_30 : zt_S, S_30 = zt_us S_28 1 (((369 : Int32) + ((3 : Int32) * r_25)) + r_27).toNatClampNeg ((S_26 1 (((369 : Int32) + ((3 : Int32) * r_25)) + r_27).toNatClampNeg) + r_29) → (vp_in (((280 : Int32) + ((4 : Int32) * v2)) + (3 : Int32)) 3810 ∧ ∀ S_31 : zt_S, S_31 = zt_us S_30 1 (((280 : Int32) + ((4 : Int32) * v2)) + (3 : Int32)).toNatClampNeg (1 : Int32) → (zw_empties v1 S_31 (fun (S_32 : zt_S) => post (0 : Int32) S_32)))))))))))))) ∧ (¬ r_16 = (0 : Int32) → (post (3 : Int32) S_15))))
set_option maxHeartbeats 4000000 in
theorem zj_sends_51 {p : Program} {l : Launch} {e : Env} {s : State} {m : MethodId} {args : Array Value} {below : List Frame} {meth : Method} {c : Code} {H : Heap} {locs : List Loc} {ls : Array Slot} (g : zt_G) (post : Int32 → zt_S → Prop) (t0 : Int32) (v1 : Int32) (v2 : Int32) (S : zt_S) (hC : zt_C p s m args meth c cX5_sends 3 (some .int)) (hw : zw_sends_51 post t0 v1 v2 S) (hI : zt_I g S s H locs) (hl : lv_has ls 3 [(0, .ref g.2.1), (1, .int v1), (2, .int v2)]) : W p l e ({ frames := 3, cells := 0, slots := 0, locals := 66 } : Room) s m args below meth c H locs 0 0 (MQ below (va_Qi post (zt_B g) (zt_A g)) args s 0 0 (zt_A g)) (F0 m 51 ls [.int t0, .ref g.2.1]) := by
  obtain ⟨hx, hb, hml, hown, hts, hr, hlk⟩ := hC
  unfold zw_sends_51 at hw
  refine lv_bipush (v := 12) hx hb dX5_sends_51 (by decide) ?_
  refine lv_aload_n hx hb dX5_sends_53 rfl (lv_at hl 0 rfl) ?_
  refine lv_iload_n hx hb dX5_sends_54 rfl (lv_at hl 2 rfl) ?_
  refine zt_calli (As := [.int v2]) (rest := [.int (12 : Int32), .int t0, .ref g.2.1]) ⟨hx, hb, hml, hown, hts⟩ hI (zm_lacks l g v2 S _ hw) (cwV 1 hts (lw_V q3931 q3933 qs77 q113 q3934) rfl rfl rfl hdT_lacks ⟨Nat.le_of_ble_eq_true rfl, Nat.le_of_ble_eq_true rfl⟩) rfl hl.1 rfl (lv_room (Nat.le_of_ble_eq_true rfl)) dX5_sends_55 ⟨Nat.le_refl _, Nat.le_refl _⟩ (fun r_14 S_13 H locs hw hI => ?_)
  refine zt_calli (As := [.int t0, .int (12 : Int32), .int r_14]) (rest := []) ⟨hx, hb, hml, hown, hts⟩ hI (zm_refuses l g t0 (12 : Int32) r_14 S_13 _ hw) (cwV 3 hts (lw_V q3696 q3698 qs38 q113 q3699) rfl rfl rfl hdT_refuses ⟨Nat.le_of_ble_eq_true rfl, Nat.le_of_ble_eq_true rfl⟩) rfl hl.1 rfl (lv_room (Nat.le_of_ble_eq_true rfl)) dX5_sends_58 ⟨Nat.le_refl _, Nat.le_refl _⟩ (fun r_16 S_15 H locs hw hI => ?_)
  refine lv_if_eq (tgt := 66) hx hb dX5_sends_61 (by decide) (fun hc_17 => ?_) (fun hc_17 => ?_)
  · have hw := hw.1 hc_17
    refine lv_aload_n hx hb dX5_sends_66 rfl (lv_at hl 0 rfl) ?_
    refine lv_aload_n hx hb dX5_sends_67 rfl (lv_at hl 0 rfl) ?_
    refine lv_iload_n hx hb dX5_sends_68 rfl (lv_at hl 2 rfl) ?_
    refine lv_iconst (v := 2) hx hb dX5_sends_69 (by decide) ?_
    refine zt_calli (As := [.int v2, .int (2 : Int32)]) (rest := [.ref g.2.1]) ⟨hx, hb, hml, hown, hts⟩ hI (zm_o l g v2 (2 : Int32) S_15 _ hw) (cwV 2 hts (lw_V q3895 q3897 qs70 q113 q3898) rfl rfl rfl hdT_o ⟨Nat.le_of_ble_eq_true rfl, Nat.le_of_ble_eq_true rfl⟩) rfl hl.1 rfl (lv_room (Nat.le_of_ble_eq_true rfl)) dX5_sends_70 ⟨Nat.le_refl _, Nat.le_refl _⟩ (fun r_19 S_18 H locs hw hI => ?_)
    refine lv_aload_n hx hb dX5_sends_73 rfl (lv_at hl 0 rfl) ?_
    refine lv_iload_n hx hb dX5_sends_74 rfl (lv_at hl 2 rfl) ?_
    refine lv_iconst (v := 0) hx hb dX5_sends_75 (by decide) ?_
    refine zt_calli (As := [.int v2, .int (0 : Int32)]) (rest := [.int r_19, .ref g.2.1]) ⟨hx, hb, hml, hown, hts⟩ hI (zm_o l g v2 (0 : Int32) S_18 _ hw) (cwV 2 hts (lw_V q3895 q3897 qs70 q113 q3898) rfl rfl rfl hdT_o ⟨Nat.le_of_ble_eq_true rfl, Nat.le_of_ble_eq_true rfl⟩) rfl hl.1 rfl (lv_room (Nat.le_of_ble_eq_true rfl)) dX5_sends_76 ⟨Nat.le_refl _, Nat.le_refl _⟩ (fun r_21 S_20 H locs hw hI => ?_)
    refine lv_iconst (v := 1) hx hb dX5_sends_79 (by decide) ?_
    refine lv_iadd hx hb dX5_sends_80 ?_
    refine lv_imul hx hb dX5_sends_81 ?_
    refine zt_put hx hb hts hown hI 4 (v := r_19 * (r_21 + (1 : Int32))) (ty := .int) (by decide) q3636 rfl rfl (by decide +kernel) rfl rfl rfl dX5_sends_82 (fun H locs hI => ?_)
    obtain ⟨S_22, eS_22⟩ : ∃ z, z = zt_us S_20 0 4 (r_19 * (r_21 + (1 : Int32))) := ⟨_, rfl⟩
    rw [← eS_22] at hI
    have hw := hw S_22 eS_22
    refine lv_aload_n hx hb dX5_sends_85 rfl (lv_at hl 0 rfl) ?_
    refine zt_get hx hb hts hown hI 1 (v := .ref g.2.2.1) (by decide) q3633 rfl rfl dX5_sends_86 ?_
    refine lv_iconst (v := 3) hx hb dX5_sends_89 (by decide) ?_
    refine lv_dup2_11 hx hb dX5_sends_90 rfl rfl ?_
    refine zt_ld1 hx hb hI hw.1 dX5_sends_91 ?_
    have hw := hw.2
    refine lv_aload_n hx hb dX5_sends_92 rfl (lv_at hl 0 rfl) ?_
    refine zt_get hx hb hts hown hI 4 (v := .int (S_22 0 4)) (by decide) q3636 rfl rfl dX5_sends_93 ?_
    refine lv_iadd hx hb dX5_sends_96 ?_
    refine zt_st1 hx hb hI hw.1 dX5_sends_97 (fun H locs hI => ?_)
    obtain ⟨S_23, eS_23⟩ : ∃ z, z = zt_us S_22 1 (3 : Int32).toNatClampNeg ((S_22 1 (3 : Int32).toNatClampNeg) + (S_22 0 4)) := ⟨_, rfl⟩
    rw [← eS_23] at hI
    have hw := hw.2 S_23 eS_23
    refine lv_aload_n hx hb dX5_sends_98 rfl (lv_at hl 0 rfl) ?_
    refine zt_get hx hb hts hown hI 1 (v := .ref g.2.2.1) (by decide) q3633 rfl rfl dX5_sends_99 ?_
    refine lv_sipush (v := 369) hx hb dX5_sends_102 (by decide) ?_
    refine lv_iconst (v := 3) hx hb dX5_sends_105 (by decide) ?_
    refine lv_aload_n hx hb dX5_sends_106 rfl (lv_at hl 0 rfl) ?_
    refine lv_iload_n hx hb dX5_sends_107 rfl (lv_at hl 2 rfl) ?_
    refine lv_iconst (v := 0) hx hb dX5_sends_108 (by decide) ?_
    refine zt_calli (As := [.int v2, .int (0 : Int32)]) (rest := [.int (3 : Int32), .int (369 : Int32), .ref g.2.2.1]) ⟨hx, hb, hml, hown, hts⟩ hI (zm_o l g v2 (0 : Int32) S_23 _ hw) (cwV 2 hts (lw_V q3895 q3897 qs70 q113 q3898) rfl rfl rfl hdT_o ⟨Nat.le_of_ble_eq_true rfl, Nat.le_of_ble_eq_true rfl⟩) rfl hl.1 rfl (lv_room (Nat.le_of_ble_eq_true rfl)) dX5_sends_109 ⟨Nat.le_refl _, Nat.le_refl _⟩ (fun r_25 S_24 H locs hw hI => ?_)
    refine lv_imul hx hb dX5_sends_112 ?_
    refine lv_iadd hx hb dX5_sends_113 ?_
    refine lv_aload_n hx hb dX5_sends_114 rfl (lv_at hl 0 rfl) ?_
    refine lv_iload_n hx hb dX5_sends_115 rfl (lv_at hl 2 rfl) ?_
    refine lv_iconst (v := 1) hx hb dX5_sends_116 (by decide) ?_
    refine zt_calli (As := [.int v2, .int (1 : Int32)]) (rest := [.int ((369 : Int32) + ((3 : Int32) * r_25)), .ref g.2.2.1]) ⟨hx, hb, hml, hown, hts⟩ hI (zm_o l g v2 (1 : Int32) S_24 _ hw) (cwV 2 hts (lw_V q3895 q3897 qs70 q113 q3898) rfl rfl rfl hdT_o ⟨Nat.le_of_ble_eq_true rfl, Nat.le_of_ble_eq_true rfl⟩) rfl hl.1 rfl (lv_room (Nat.le_of_ble_eq_true rfl)) dX5_sends_117 ⟨Nat.le_refl _, Nat.le_refl _⟩ (fun r_27 S_26 H locs hw hI => ?_)
    refine lv_iadd hx hb dX5_sends_120 ?_
    refine lv_dup2_11 hx hb dX5_sends_121 rfl rfl ?_
    refine zt_ld1 hx hb hI hw.1 dX5_sends_122 ?_
    have hw := hw.2
    refine lv_aload_n hx hb dX5_sends_123 rfl (lv_at hl 0 rfl) ?_
    refine lv_iload_n hx hb dX5_sends_124 rfl (lv_at hl 2 rfl) ?_
    refine lv_iconst (v := 2) hx hb dX5_sends_125 (by decide) ?_
    refine zt_calli (As := [.int v2, .int (2 : Int32)]) (rest := [.int (S_26 1 (((369 : Int32) + ((3 : Int32) * r_25)) + r_27).toNatClampNeg), .int (((369 : Int32) + ((3 : Int32) * r_25)) + r_27), .ref g.2.2.1]) ⟨hx, hb, hml, hown, hts⟩ hI (zm_o l g v2 (2 : Int32) S_26 _ hw) (cwV 2 hts (lw_V q3895 q3897 qs70 q113 q3898) rfl rfl rfl hdT_o ⟨Nat.le_of_ble_eq_true rfl, Nat.le_of_ble_eq_true rfl⟩) rfl hl.1 rfl (lv_room (Nat.le_of_ble_eq_true rfl)) dX5_sends_126 ⟨Nat.le_refl _, Nat.le_refl _⟩ (fun r_29 S_28 H locs hw hI => ?_)
    refine lv_iadd hx hb dX5_sends_129 ?_
    refine zt_st1 hx hb hI hw.1 dX5_sends_130 (fun H locs hI => ?_)
    obtain ⟨S_30, eS_30⟩ : ∃ z, z = zt_us S_28 1 (((369 : Int32) + ((3 : Int32) * r_25)) + r_27).toNatClampNeg ((S_26 1 (((369 : Int32) + ((3 : Int32) * r_25)) + r_27).toNatClampNeg) + r_29) := ⟨_, rfl⟩
    rw [← eS_30] at hI
    have hw := hw.2 S_30 eS_30
    refine lv_aload_n hx hb dX5_sends_131 rfl (lv_at hl 0 rfl) ?_
    refine zt_get hx hb hts hown hI 1 (v := .ref g.2.2.1) (by decide) q3633 rfl rfl dX5_sends_132 ?_
    refine lv_sipush (v := 280) hx hb dX5_sends_135 (by decide) ?_
    refine lv_iconst (v := 4) hx hb dX5_sends_138 (by decide) ?_
    refine lv_iload_n hx hb dX5_sends_139 rfl (lv_at hl 2 rfl) ?_
    refine lv_imul hx hb dX5_sends_140 ?_
    refine lv_iadd hx hb dX5_sends_141 ?_
    refine lv_iconst (v := 3) hx hb dX5_sends_142 (by decide) ?_
    refine lv_iadd hx hb dX5_sends_143 ?_
    refine lv_iconst (v := 1) hx hb dX5_sends_144 (by decide) ?_
    refine zt_st1 hx hb hI hw.1 dX5_sends_145 (fun H locs hI => ?_)
    obtain ⟨S_31, eS_31⟩ : ∃ z, z = zt_us S_30 1 (((280 : Int32) + ((4 : Int32) * v2)) + (3 : Int32)).toNatClampNeg (1 : Int32) := ⟨_, rfl⟩
    rw [← eS_31] at hI
    have hw := hw.2 S_31 eS_31
    refine lv_aload_n hx hb dX5_sends_146 rfl (lv_at hl 0 rfl) ?_
    refine lv_iload_n hx hb dX5_sends_147 rfl (lv_at hl 1 rfl) ?_
    refine zt_callv (As := [.int v1]) (rest := []) ⟨hx, hb, hml, hown, hts⟩ hI (zm_empties l g v1 S_31 _ hw) (cwV 1 hts (lw_V q3907 q3909 qs73 q113 q3910) rfl rfl rfl hdT_empties ⟨Nat.le_of_ble_eq_true rfl, Nat.le_of_ble_eq_true rfl⟩) rfl hl.1 rfl (lv_room (Nat.le_of_ble_eq_true rfl)) dX5_sends_148 ⟨Nat.le_refl _, Nat.le_refl _⟩ (fun S_32 H locs hw hI => ?_)
    refine lv_iconst (v := 0) hx hb dX5_sends_151 (by decide) ?_
    exact zt_iret hx hb hr hlk hI hw dX5_sends_152
  · have hw := hw.2 hc_17
    refine lv_iconst (v := 3) hx hb dX5_sends_64 (by decide) ?_
    exact zt_iret hx hb hr hlk hI hw dX5_sends_65
def zw_sends_28 (post : Int32 → zt_S → Prop) (t0 : Int32) (v1 : Int32) (v2 : Int32) (S : zt_S) : Prop :=
  zw_refuses t0 (11 : Int32) v1 S (fun (r_8 : Int32) (S_7 : zt_S) => (¬ r_8 = (0 : Int32) → (post (3 : Int32) S_7)) ∧ (r_8 = (0 : Int32) → (zw_lacks v2 S_7 (fun (r_11 : Int32) (S_10 : zt_S) => (r_11 ≤ (0 : Int32) → (zw_sends_51 post (0 : Int32) v1 v2 S_10)) ∧ (¬ r_11 ≤ (0 : Int32) → (zw_sends_51 post (1 : Int32) v1 v2 S_10))))))
set_option maxHeartbeats 4000000 in
theorem zj_sends_28 {p : Program} {l : Launch} {e : Env} {s : State} {m : MethodId} {args : Array Value} {below : List Frame} {meth : Method} {c : Code} {H : Heap} {locs : List Loc} {ls : Array Slot} (g : zt_G) (post : Int32 → zt_S → Prop) (t0 : Int32) (v1 : Int32) (v2 : Int32) (S : zt_S) (hC : zt_C p s m args meth c cX5_sends 3 (some .int)) (hw : zw_sends_28 post t0 v1 v2 S) (hI : zt_I g S s H locs) (hl : lv_has ls 3 [(0, .ref g.2.1), (1, .int v1), (2, .int v2)]) : W p l e ({ frames := 3, cells := 0, slots := 0, locals := 66 } : Room) s m args below meth c H locs 0 0 (MQ below (va_Qi post (zt_B g) (zt_A g)) args s 0 0 (zt_A g)) (F0 m 28 ls [.int t0, .ref g.2.1]) := by
  obtain ⟨hx, hb, hml, hown, hts, hr, hlk⟩ := hC
  unfold zw_sends_28 at hw
  refine lv_bipush (v := 11) hx hb dX5_sends_28 (by decide) ?_
  refine lv_iload_n hx hb dX5_sends_30 rfl (lv_at hl 1 rfl) ?_
  refine zt_calli (As := [.int t0, .int (11 : Int32), .int v1]) (rest := []) ⟨hx, hb, hml, hown, hts⟩ hI (zm_refuses l g t0 (11 : Int32) v1 S _ hw) (cwV 3 hts (lw_V q3696 q3698 qs38 q113 q3699) rfl rfl rfl hdT_refuses ⟨Nat.le_of_ble_eq_true rfl, Nat.le_of_ble_eq_true rfl⟩) rfl hl.1 rfl (lv_room (Nat.le_of_ble_eq_true rfl)) dX5_sends_31 ⟨Nat.le_refl _, Nat.le_refl _⟩ (fun r_8 S_7 H locs hw hI => ?_)
  refine lv_if_ne (tgt := 64) hx hb dX5_sends_34 (by decide) (fun hc_9 => ?_) (fun hc_9 => ?_)
  · have hw := hw.1 hc_9
    refine lv_iconst (v := 3) hx hb dX5_sends_64 (by decide) ?_
    exact zt_iret hx hb hr hlk hI hw dX5_sends_65
  · have hw := hw.2 hc_9
    refine lv_aload_n hx hb dX5_sends_37 rfl (lv_at hl 0 rfl) ?_
    refine lv_aload_n hx hb dX5_sends_38 rfl (lv_at hl 0 rfl) ?_
    refine lv_iload_n hx hb dX5_sends_39 rfl (lv_at hl 2 rfl) ?_
    refine zt_calli (As := [.int v2]) (rest := [.ref g.2.1]) ⟨hx, hb, hml, hown, hts⟩ hI (zm_lacks l g v2 S_7 _ hw) (cwV 1 hts (lw_V q3931 q3933 qs77 q113 q3934) rfl rfl rfl hdT_lacks ⟨Nat.le_of_ble_eq_true rfl, Nat.le_of_ble_eq_true rfl⟩) rfl hl.1 rfl (lv_room (Nat.le_of_ble_eq_true rfl)) dX5_sends_40 ⟨Nat.le_refl _, Nat.le_refl _⟩ (fun r_11 S_10 H locs hw hI => ?_)
    refine lv_if_le (tgt := 50) hx hb dX5_sends_43 (by decide) (fun hc_12 => ?_) (fun hc_12 => ?_)
    · have hw := hw.1 hc_12
      refine lv_iconst (v := 0) hx hb dX5_sends_50 (by decide) ?_
      exact zj_sends_51 g post (0 : Int32) v1 v2 S_10 ⟨hx, hb, hml, hown, hts, hr, hlk⟩ hw hI (lv_sub hl [0, 1, 2] rfl)
    · have hw := hw.2 hc_12
      refine lv_iconst (v := 1) hx hb dX5_sends_46 (by decide) ?_
      refine lv_goto (tgt := 51) hx hb dX5_sends_47 (by decide) ?_
      exact zj_sends_51 g post (1 : Int32) v1 v2 S_10 ⟨hx, hb, hml, hown, hts, hr, hlk⟩ hw hI (lv_sub hl [0, 1, 2] rfl)
def zw_sends (p1 : Int32) (S : zt_S) (post : Int32 → zt_S → Prop) : Prop :=
  zw_isCart p1 S (fun (r_2 : Int32) (S_1 : zt_S) => (¬ r_2 = (0 : Int32) → (zw_c p1 (2 : Int32) S_1 (fun (r_5 : Int32) (S_4 : zt_S) => (¬ r_5 = (-1 : Int32) → (zw_sends_28 post (0 : Int32) p1 r_5 S_4)) ∧ (r_5 = (-1 : Int32) → (zw_sends_28 post (1 : Int32) p1 r_5 S_4))))) ∧ (r_2 = (0 : Int32) → (post (1 : Int32) S_1)))
set_option maxHeartbeats 4000000 in
theorem zm_sends (l : Launch) (g : zt_G) (p1 : Int32) (S : zt_S) (post : Int32 → zt_S → Prop) (hw : zw_sends p1 S post) : Met l yX5_sends (ws_ yX5_sends cX5_sends 3 (some .int)) ({ frames := 3, cells := 0, slots := 0, locals := 66 } : Room) (va_Pc (.ref g.2.1 :: [.int p1]) (zt_B g S)) (va_Qi post (zt_B g) (zt_A g)) 0 0 (zt_A g) := by
  refine zt_met (by decide) rfl (Nat.le_of_ble_eq_true rfl) (fun p e s m below meth c ls hC hI hl => ?_)
  generalize (Value.ref g.2.1 :: ([.int p1] : List Value)).toArray = args at hC ⊢
  obtain ⟨hx, hb, hml, hown, hts, hr, hlk⟩ := hC
  have hl : lv_has ls 3 [(0, .ref g.2.1), (1, .int p1)] := hl
  unfold zw_sends at hw
  obtain ⟨H, eH⟩ : ∃ z, z = s.heap := ⟨_, rfl⟩
  obtain ⟨locs, elo⟩ : ∃ z : List Loc, z = [] := ⟨_, rfl⟩
  rw [← eH, ← elo] at hI ⊢
  refine lv_aload_n hx hb dX5_sends_0 rfl (lv_at hl 0 rfl) ?_
  refine lv_iload_n hx hb dX5_sends_1 rfl (lv_at hl 1 rfl) ?_
  refine zt_calli (As := [.int p1]) (rest := []) ⟨hx, hb, hml, hown, hts⟩ hI (zm_isCart l g p1 S _ hw) (cwV 1 hts (lw_V q3927 q3929 qs76 q113 q3930) rfl rfl rfl hdT_isCart ⟨Nat.le_of_ble_eq_true rfl, Nat.le_of_ble_eq_true rfl⟩) rfl hl.1 rfl (lv_room (Nat.le_of_ble_eq_true rfl)) dX5_sends_2 ⟨Nat.le_refl _, Nat.le_refl _⟩ (fun r_2 S_1 H locs hw hI => ?_)
  refine lv_if_ne (tgt := 10) hx hb dX5_sends_5 (by decide) (fun hc_3 => ?_) (fun hc_3 => ?_)
  · have hw := hw.1 hc_3
    refine lv_aload_n hx hb dX5_sends_10 rfl (lv_at hl 0 rfl) ?_
    refine lv_iload_n hx hb dX5_sends_11 rfl (lv_at hl 1 rfl) ?_
    refine lv_iconst (v := 2) hx hb dX5_sends_12 (by decide) ?_
    refine zt_calli (As := [.int p1, .int (2 : Int32)]) (rest := []) ⟨hx, hb, hml, hown, hts⟩ hI (zm_c l g p1 (2 : Int32) S_1 _ hw) (cwV 2 hts (lw_V q3903 q3905 qs72 q113 q3906) rfl rfl rfl hdT_c ⟨Nat.le_of_ble_eq_true rfl, Nat.le_of_ble_eq_true rfl⟩) rfl hl.1 rfl (lv_room (Nat.le_of_ble_eq_true rfl)) dX5_sends_13 ⟨Nat.le_refl _, Nat.le_refl _⟩ (fun r_5 S_4 H locs hw hI => ?_)
    refine lv_istore_n (lv' := [(2, .int r_5), (0, .ref g.2.1), (1, .int p1)]) hx hb dX5_sends_16 rfl hl (by decide) rfl (fun ls hl => ?_)
    refine lv_aload_n hx hb dX5_sends_17 rfl (lv_at hl 1 rfl) ?_
    refine lv_iload_n hx hb dX5_sends_18 rfl (lv_at hl 0 rfl) ?_
    refine lv_iconst (v := -1) hx hb dX5_sends_19 (by decide) ?_
    refine lv_icmp_ne (tgt := 27) hx hb dX5_sends_20 (by decide) (fun hc_6 => ?_) (fun hc_6 => ?_)
    · have hw := hw.1 hc_6
      refine lv_iconst (v := 0) hx hb dX5_sends_27 (by decide) ?_
      exact zj_sends_28 g post (0 : Int32) p1 r_5 S_4 ⟨hx, hb, hml, hown, hts, hr, hlk⟩ hw hI (lv_sub hl [1, 2, 0] rfl)
    · have hw := hw.2 hc_6
      refine lv_iconst (v := 1) hx hb dX5_sends_23 (by decide) ?_
      refine lv_goto (tgt := 28) hx hb dX5_sends_24 (by decide) ?_
      exact zj_sends_28 g post (1 : Int32) p1 r_5 S_4 ⟨hx, hb, hml, hown, hts, hr, hlk⟩ hw hI (lv_sub hl [1, 2, 0] rfl)
  · have hw := hw.2 hc_3
    refine lv_iconst (v := 1) hx hb dX5_sends_8 (by decide) ?_
    exact zt_iret hx hb hr hlk hI hw dX5_sends_9
theorem hdT_sends : yX5_sends.cls = RX5 ∧ yX5_sends.cls ≠ "java/lang/invoke/MethodHandle" ∧ yX5_sends.cls ≠ "java/lang/invoke/VarHandle" ∧ (parseMethodDescriptor yX5_sends.desc).map (fun d => d.parameters.length) = some 1 := by decide +kernel
def zw_send (p1 : Int32) (S : zt_S) (post : Int32 → zt_S → Prop) : Prop :=
  zw_begins S (fun (S_1 : zt_S) => zw_sends p1 S_1 (fun (r_3 : Int32) (S_2 : zt_S) => zw_ends r_3 (1 : Int32) (0 : Int32) (2 : Int32) S_2 (fun (r_5 : Int32) (S_4 : zt_S) => post r_5 S_4)))
set_option maxHeartbeats 4000000 in
theorem zm_send (l : Launch) (g : zt_G) (p1 : Int32) (S : zt_S) (post : Int32 → zt_S → Prop) (hw : zw_send p1 S post) : Met l yX5_send (ws_ yX5_send cX5_send 2 (some .int)) ({ frames := 4, cells := 0, slots := 0, locals := 88 } : Room) (va_Pc (.ref g.2.1 :: [.int p1]) (zt_B g S)) (va_Qi post (zt_B g) (zt_A g)) 0 0 (zt_A g) := by
  refine zt_met (by decide) rfl (Nat.le_of_ble_eq_true rfl) (fun p e s m below meth c ls hC hI hl => ?_)
  generalize (Value.ref g.2.1 :: ([.int p1] : List Value)).toArray = args at hC ⊢
  obtain ⟨hx, hb, hml, hown, hts, hr, hlk⟩ := hC
  have hl : lv_has ls 2 [(0, .ref g.2.1), (1, .int p1)] := hl
  unfold zw_send at hw
  obtain ⟨H, eH⟩ : ∃ z, z = s.heap := ⟨_, rfl⟩
  obtain ⟨locs, elo⟩ : ∃ z : List Loc, z = [] := ⟨_, rfl⟩
  rw [← eH, ← elo] at hI ⊢
  refine lv_aload_n hx hb dX5_send_0 rfl (lv_at hl 0 rfl) ?_
  refine zt_callv (As := []) (rest := []) ⟨hx, hb, hml, hown, hts⟩ hI (zm_begins l g S _ hw) (cwV 0 hts (lw_V q3700 q3702 qs39 q113 q3703) rfl rfl rfl hdT_begins ⟨Nat.le_of_ble_eq_true rfl, Nat.le_of_ble_eq_true rfl⟩) rfl hl.1 rfl (lv_room (Nat.le_of_ble_eq_true rfl)) dX5_send_1 ⟨Nat.le_refl _, Nat.le_refl _⟩ (fun S_1 H locs hw hI => ?_)
  refine lv_aload_n hx hb dX5_send_4 rfl (lv_at hl 0 rfl) ?_
  refine lv_aload_n hx hb dX5_send_5 rfl (lv_at hl 0 rfl) ?_
  refine lv_iload_n hx hb dX5_send_6 rfl (lv_at hl 1 rfl) ?_
  refine zt_calli (As := [.int p1]) (rest := [.ref g.2.1]) ⟨hx, hb, hml, hown, hts⟩ hI (zm_sends l g p1 S_1 _ hw) (cwV 1 hts (lw_V q3943 q3945 qs79 q113 q3946) rfl rfl rfl hdT_sends ⟨Nat.le_of_ble_eq_true rfl, Nat.le_of_ble_eq_true rfl⟩) rfl hl.1 rfl (lv_room (Nat.le_of_ble_eq_true rfl)) dX5_send_7 ⟨Nat.le_refl _, Nat.le_refl _⟩ (fun r_3 S_2 H locs hw hI => ?_)
  refine lv_iconst (v := 1) hx hb dX5_send_10 (by decide) ?_
  refine lv_iconst (v := 0) hx hb dX5_send_11 (by decide) ?_
  refine lv_iconst (v := 2) hx hb dX5_send_12 (by decide) ?_
  refine zt_calli (As := [.int r_3, .int (1 : Int32), .int (0 : Int32), .int (2 : Int32)]) (rest := []) ⟨hx, hb, hml, hown, hts⟩ hI (zm_ends l g r_3 (1 : Int32) (0 : Int32) (2 : Int32) S_2 _ hw) (cwV 4 hts (lw_V q3735 q3737 qs46 q113 q3738) rfl rfl rfl hdT_ends ⟨Nat.le_of_ble_eq_true rfl, Nat.le_of_ble_eq_true rfl⟩) rfl hl.1 rfl (lv_room (Nat.le_of_ble_eq_true rfl)) dX5_send_13 ⟨Nat.le_refl _, Nat.le_refl _⟩ (fun r_5 S_4 H locs hw hI => ?_)
  exact zt_iret hx hb hr hlk hI hw dX5_send_16
theorem hdT_send : yX5_send.cls = RX5 ∧ yX5_send.cls ≠ "java/lang/invoke/MethodHandle" ∧ yX5_send.cls ≠ "java/lang/invoke/VarHandle" ∧ (parseMethodDescriptor yX5_send.desc).map (fun d => d.parameters.length) = some 1 := by decide +kernel
def zw_orderOf_27 (post : Int32 → zt_S → Prop) (t0 : Int32) (v1 : Int32) (v2 : Int32) (S : zt_S) : Prop :=
  ∀ S_6 : zt_S, S_6 = zt_us S 0 0 t0 → ((S_6 0 0 = (0 : Int32) → (zw_cartWith v1 S_6 (fun (r_9 : Int32) (S_8 : zt_S) => ((4 : Int32) ≤ v2 → ((¬ v2 = (5 : Int32) → ((¬ r_9 = (-1 : Int32) → (zw_c r_9 (1 : Int32) S_8 (fun (r_14 : Int32) (S_13 : zt_S) => post r_14 S_13))) ∧ (r_9 = (-1 : Int32) → (post (0 : Int32) S_8)))) ∧ (v2 = (5 : Int32) → (post r_9 S_8)))) ∧ (¬ (4 : Int32) ≤ v2 → (zw_o v1 v2 S_8 (fun (r_16 : Int32) (S_15 : zt_S) => post r_16 S_15)))))) ∧ (¬ S_6 0 0 = (0 : Int32) → (post (0 : Int32) S_6)))
set_option maxHeartbeats 4000000 in
theorem zj_orderOf_27 {p : Program} {l : Launch} {e : Env} {s : State} {m : MethodId} {args : Array Value} {below : List Frame} {meth : Method} {c : Code} {H : Heap} {locs : List Loc} {ls : Array Slot} (g : zt_G) (post : Int32 → zt_S → Prop) (t0 : Int32) (v1 : Int32) (v2 : Int32) (S : zt_S) (hC : zt_C p s m args meth c cX5_orderOf 4 (some .int)) (hw : zw_orderOf_27 post t0 v1 v2 S) (hI : zt_I g S s H locs) (hl : lv_has ls 4 [(0, .ref g.2.1), (1, .int v1), (2, .int v2)]) : W p l e ({ frames := 2, cells := 0, slots := 0, locals := 44 } : Room) s m args below meth c H locs 0 0 (MQ below (va_Qi post (zt_B g) (zt_A g)) args s 0 0 (zt_A g)) (F0 m 27 ls [.int t0, .ref g.2.1]) := by
  obtain ⟨hx, hb, hml, hown, hts, hr, hlk⟩ := hC
  unfold zw_orderOf_27 at hw
  refine zt_put hx hb hts hown hI 0 (v := t0) (ty := .int) (by decide) q3632 rfl rfl (by decide +kernel) rfl rfl rfl dX5_orderOf_27 (fun H locs hI => ?_)
  obtain ⟨S_6, eS_6⟩ : ∃ z, z = zt_us S 0 0 t0 := ⟨_, rfl⟩
  rw [← eS_6] at hI
  have hw := hw S_6 eS_6
  refine lv_aload_n hx hb dX5_orderOf_30 rfl (lv_at hl 0 rfl) ?_
  refine zt_get hx hb hts hown hI 0 (v := .int (S_6 0 0)) (by decide) q3632 rfl rfl dX5_orderOf_31 ?_
  refine lv_if_eq (tgt := 39) hx hb dX5_orderOf_34 (by decide) (fun hc_7 => ?_) (fun hc_7 => ?_)
  · have hw := hw.1 hc_7
    refine lv_aload_n hx hb dX5_orderOf_39 rfl (lv_at hl 0 rfl) ?_
    refine lv_iload_n hx hb dX5_orderOf_40 rfl (lv_at hl 1 rfl) ?_
    refine zt_calli (As := [.int v1]) (rest := []) ⟨hx, hb, hml, hown, hts⟩ hI (zm_cartWith l g v1 S_6 _ hw) (cwV 1 hts (lw_V q3899 q3901 qs71 q113 q3902) rfl rfl rfl hdT_cartWith ⟨Nat.le_of_ble_eq_true rfl, Nat.le_of_ble_eq_true rfl⟩) rfl hl.1 rfl (lv_room (Nat.le_of_ble_eq_true rfl)) dX5_orderOf_41 ⟨Nat.le_refl _, Nat.le_refl _⟩ (fun r_9 S_8 H locs hw hI => ?_)
    refine lv_istore_n (lv' := [(3, .int r_9), (0, .ref g.2.1), (1, .int v1), (2, .int v2)]) hx hb dX5_orderOf_44 rfl hl (by decide) rfl (fun ls hl => ?_)
    refine lv_iload_n hx hb dX5_orderOf_45 rfl (lv_at hl 3 rfl) ?_
    refine lv_iconst (v := 4) hx hb dX5_orderOf_46 (by decide) ?_
    refine lv_icmp_ge (tgt := 59) hx hb dX5_orderOf_47 (by decide) (fun hc_10 => ?_) (fun hc_10 => ?_)
    · have hw := hw.1 hc_10
      refine lv_iload_n hx hb dX5_orderOf_59 rfl (lv_at hl 3 rfl) ?_
      refine lv_iconst (v := 5) hx hb dX5_orderOf_60 (by decide) ?_
      refine lv_icmp_ne (tgt := 68) hx hb dX5_orderOf_61 (by decide) (fun hc_11 => ?_) (fun hc_11 => ?_)
      · have hw := hw.1 hc_11
        refine lv_iload_n hx hb dX5_orderOf_68 rfl (lv_at hl 0 rfl) ?_
        refine lv_iconst (v := -1) hx hb dX5_orderOf_69 (by decide) ?_
        refine lv_icmp_ne (tgt := 77) hx hb dX5_orderOf_70 (by decide) (fun hc_12 => ?_) (fun hc_12 => ?_)
        · have hw := hw.1 hc_12
          refine lv_aload_n hx hb dX5_orderOf_77 rfl (lv_at hl 1 rfl) ?_
          refine lv_iload_n hx hb dX5_orderOf_78 rfl (lv_at hl 0 rfl) ?_
          refine lv_iconst (v := 1) hx hb dX5_orderOf_79 (by decide) ?_
          refine zt_calli (As := [.int r_9, .int (1 : Int32)]) (rest := []) ⟨hx, hb, hml, hown, hts⟩ hI (zm_c l g r_9 (1 : Int32) S_8 _ hw) (cwV 2 hts (lw_V q3903 q3905 qs72 q113 q3906) rfl rfl rfl hdT_c ⟨Nat.le_of_ble_eq_true rfl, Nat.le_of_ble_eq_true rfl⟩) rfl hl.1 rfl (lv_room (Nat.le_of_ble_eq_true rfl)) dX5_orderOf_80 ⟨Nat.le_refl _, Nat.le_refl _⟩ (fun r_14 S_13 H locs hw hI => ?_)
          exact zt_iret hx hb hr hlk hI hw dX5_orderOf_83
        · have hw := hw.2 hc_12
          refine lv_iconst (v := 0) hx hb dX5_orderOf_73 (by decide) ?_
          refine lv_goto (tgt := 83) hx hb dX5_orderOf_74 (by decide) ?_
          exact zt_iret hx hb hr hlk hI hw dX5_orderOf_83
      · have hw := hw.2 hc_11
        refine lv_iload_n hx hb dX5_orderOf_64 rfl (lv_at hl 0 rfl) ?_
        refine lv_goto (tgt := 83) hx hb dX5_orderOf_65 (by decide) ?_
        exact zt_iret hx hb hr hlk hI hw dX5_orderOf_83
    · have hw := hw.2 hc_10
      refine lv_aload_n hx hb dX5_orderOf_50 rfl (lv_at hl 1 rfl) ?_
      refine lv_iload_n hx hb dX5_orderOf_51 rfl (lv_at hl 2 rfl) ?_
      refine lv_iload_n hx hb dX5_orderOf_52 rfl (lv_at hl 3 rfl) ?_
      refine zt_calli (As := [.int v1, .int v2]) (rest := []) ⟨hx, hb, hml, hown, hts⟩ hI (zm_o l g v1 v2 S_8 _ hw) (cwV 2 hts (lw_V q3895 q3897 qs70 q113 q3898) rfl rfl rfl hdT_o ⟨Nat.le_of_ble_eq_true rfl, Nat.le_of_ble_eq_true rfl⟩) rfl hl.1 rfl (lv_room (Nat.le_of_ble_eq_true rfl)) dX5_orderOf_53 ⟨Nat.le_refl _, Nat.le_refl _⟩ (fun r_16 S_15 H locs hw hI => ?_)
      refine lv_goto (tgt := 83) hx hb dX5_orderOf_56 (by decide) ?_
      exact zt_iret hx hb hr hlk hI hw dX5_orderOf_83
  · have hw := hw.2 hc_7
    refine lv_iconst (v := 0) hx hb dX5_orderOf_37 (by decide) ?_
    exact zt_iret hx hb hr hlk hI hw dX5_orderOf_38
def zw_orderOf (p1 : Int32) (p2 : Int32) (S : zt_S) (post : Int32 → zt_S → Prop) : Prop :=
  zw_isOrder p1 S (fun (r_2 : Int32) (S_1 : zt_S) => (¬ r_2 = (0 : Int32) → (zw_in p2 (0 : Int32) (5 : Int32) (fun (r_4 : Int32) => (r_4 = (0 : Int32) → (zw_orderOf_27 post (2 : Int32) p1 p2 S_1)) ∧ (¬ r_4 = (0 : Int32) → (zw_orderOf_27 post (0 : Int32) p1 p2 S_1))))) ∧ (r_2 = (0 : Int32) → (zw_orderOf_27 post (1 : Int32) p1 p2 S_1)))
set_option maxHeartbeats 4000000 in
theorem zm_orderOf (l : Launch) (g : zt_G) (p1 : Int32) (p2 : Int32) (S : zt_S) (post : Int32 → zt_S → Prop) (hw : zw_orderOf p1 p2 S post) : Met l yX5_orderOf (ws_ yX5_orderOf cX5_orderOf 4 (some .int)) ({ frames := 2, cells := 0, slots := 0, locals := 44 } : Room) (va_Pc (.ref g.2.1 :: [.int p1, .int p2]) (zt_B g S)) (va_Qi post (zt_B g) (zt_A g)) 0 0 (zt_A g) := by
  refine zt_met (by decide) rfl (Nat.le_of_ble_eq_true rfl) (fun p e s m below meth c ls hC hI hl => ?_)
  generalize (Value.ref g.2.1 :: ([.int p1, .int p2] : List Value)).toArray = args at hC ⊢
  obtain ⟨hx, hb, hml, hown, hts, hr, hlk⟩ := hC
  have hl : lv_has ls 4 [(0, .ref g.2.1), (1, .int p1), (2, .int p2)] := hl
  unfold zw_orderOf at hw
  obtain ⟨H, eH⟩ : ∃ z, z = s.heap := ⟨_, rfl⟩
  obtain ⟨locs, elo⟩ : ∃ z : List Loc, z = [] := ⟨_, rfl⟩
  rw [← eH, ← elo] at hI ⊢
  refine lv_aload_n hx hb dX5_orderOf_0 rfl (lv_at hl 0 rfl) ?_
  refine lv_aload_n hx hb dX5_orderOf_1 rfl (lv_at hl 0 rfl) ?_
  refine lv_iload_n hx hb dX5_orderOf_2 rfl (lv_at hl 1 rfl) ?_
  refine zt_calli (As := [.int p1]) (rest := [.ref g.2.1]) ⟨hx, hb, hml, hown, hts⟩ hI (zm_isOrder l g p1 S _ hw) (cwV 1 hts (lw_V q3887 q3889 qs68 q113 q3890) rfl rfl rfl hdT_isOrder ⟨Nat.le_of_ble_eq_true rfl, Nat.le_of_ble_eq_true rfl⟩) rfl hl.1 rfl (lv_room (Nat.le_of_ble_eq_true rfl)) dX5_orderOf_3 ⟨Nat.le_refl _, Nat.le_refl _⟩ (fun r_2 S_1 H locs hw hI => ?_)
  refine lv_if_ne (tgt := 13) hx hb dX5_orderOf_6 (by decide) (fun hc_3 => ?_) (fun hc_3 => ?_)
  · have hw := hw.1 hc_3
    refine lv_iload_n hx hb dX5_orderOf_13 rfl (lv_at hl 2 rfl) ?_
    refine lv_iconst (v := 0) hx hb dX5_orderOf_14 (by decide) ?_
    refine lv_iconst (v := 5) hx hb dX5_orderOf_15 (by decide) ?_
    refine zt_callS (As := [.int p2, .int (0 : Int32), .int (5 : Int32)]) (rest := [.ref g.2.1]) ⟨hx, hb, hml, hown, hts⟩ (zm_in l p2 (0 : Int32) (5 : Int32) _ hw) (va_cwS 3 hts (lw_S q3693 q3694 q113 q3695) rfl rfl rfl hdT_in ⟨Nat.le_of_ble_eq_true rfl, Nat.le_of_ble_eq_true rfl⟩) rfl hl.1 rfl (lv_room (Nat.le_of_ble_eq_true rfl)) dX5_orderOf_16 ⟨Nat.le_refl _, Nat.le_refl _⟩ (fun r_4 hw => ?_)
    refine lv_if_eq (tgt := 26) hx hb dX5_orderOf_19 (by decide) (fun hc_5 => ?_) (fun hc_5 => ?_)
    · have hw := hw.1 hc_5
      refine lv_iconst (v := 2) hx hb dX5_orderOf_26 (by decide) ?_
      exact zj_orderOf_27 g post (2 : Int32) p1 p2 S_1 ⟨hx, hb, hml, hown, hts, hr, hlk⟩ hw hI (lv_sub hl [0, 1, 2] rfl)
    · have hw := hw.2 hc_5
      refine lv_iconst (v := 0) hx hb dX5_orderOf_22 (by decide) ?_
      refine lv_goto (tgt := 27) hx hb dX5_orderOf_23 (by decide) ?_
      exact zj_orderOf_27 g post (0 : Int32) p1 p2 S_1 ⟨hx, hb, hml, hown, hts, hr, hlk⟩ hw hI (lv_sub hl [0, 1, 2] rfl)
  · have hw := hw.2 hc_3
    refine lv_iconst (v := 1) hx hb dX5_orderOf_9 (by decide) ?_
    refine lv_goto (tgt := 27) hx hb dX5_orderOf_10 (by decide) ?_
    exact zj_orderOf_27 g post (1 : Int32) p1 p2 S_1 ⟨hx, hb, hml, hown, hts, hr, hlk⟩ hw hI (lv_sub hl [0, 1, 2] rfl)
theorem hdT_orderOf : yX5_orderOf.cls = RX5 ∧ yX5_orderOf.cls ≠ "java/lang/invoke/MethodHandle" ∧ yX5_orderOf.cls ≠ "java/lang/invoke/VarHandle" ∧ (parseMethodDescriptor yX5_orderOf.desc).map (fun d => d.parameters.length) = some 2 := by decide +kernel
def zw_stockOf_65 (post : Int32 → zt_S → Prop) (hd6 : Int32 → Int32 → zt_S → Prop) (t0 : Int32) (v1 : Int32) (v2 : Int32) (v3 : Int32) (v5 : Int32) (S : zt_S) : Prop :=
  zw_r v5 (2 : Int32) S (fun (r_14 : Int32) (S_13 : zt_S) => hd6 (t0 + r_14) (v5 + (1 : Int32)) S_13)
set_option maxHeartbeats 4000000 in
theorem zj_stockOf_65 {p : Program} {l : Launch} {e : Env} {s : State} {m : MethodId} {args : Array Value} {below : List Frame} {meth : Method} {c : Code} {H : Heap} {locs : List Loc} {ls : Array Slot} (g : zt_G) (post : Int32 → zt_S → Prop) (hd6 : Int32 → Int32 → zt_S → Prop) (t0 : Int32) (v1 : Int32) (v2 : Int32) (v3 : Int32) (v5 : Int32) (S : zt_S) (hC : zt_C p s m args meth c cX5_stockOf 6 (some .int)) (hw : zw_stockOf_65 post hd6 t0 v1 v2 v3 v5 S) (hhd6 : ∀ (y0 : Int32) (y1 : Int32) (T : zt_S) (H : Heap) (locs : List Loc) (ls : Array Slot), hd6 y0 y1 T → zt_I g T s H locs → lv_has ls 6 [(0, .ref g.2.1), (1, .int v1), (2, .int v2), (3, .int v3), (4, .int y0), (5, .int y1)] → W p l e ({ frames := 2, cells := 0, slots := 0, locals := 43 } : Room) s m args below meth c H locs 0 0 (MQ below (va_Qi post (zt_B g) (zt_A g)) args s 0 0 (zt_A g)) (F0 m 6 ls [])) (hI : zt_I g S s H locs) (hl : lv_has ls 6 [(0, .ref g.2.1), (1, .int v1), (2, .int v2), (3, .int v3), (5, .int v5)]) : W p l e ({ frames := 2, cells := 0, slots := 0, locals := 43 } : Room) s m args below meth c H locs 0 0 (MQ below (va_Qi post (zt_B g) (zt_A g)) args s 0 0 (zt_A g)) (F0 m 65 ls [.int t0]) := by
  obtain ⟨hx, hb, hml, hown, hts, hr, hlk⟩ := hC
  unfold zw_stockOf_65 at hw
  refine lv_aload_n hx hb dX5_stockOf_65 rfl (lv_at hl 0 rfl) ?_
  refine lv_iload hx hb dX5_stockOf_66 (lv_at hl 4 rfl) ?_
  refine lv_iconst (v := 2) hx hb dX5_stockOf_68 (by decide) ?_
  refine zt_calli (As := [.int v5, .int (2 : Int32)]) (rest := [.int t0]) ⟨hx, hb, hml, hown, hts⟩ hI (zm_r l g v5 (2 : Int32) S _ hw) (cwV 2 hts (lw_V q3761 q3763 qs49 q113 q3764) rfl rfl rfl hdT_r ⟨Nat.le_of_ble_eq_true rfl, Nat.le_of_ble_eq_true rfl⟩) rfl hl.1 rfl (lv_room (Nat.le_of_ble_eq_true rfl)) dX5_stockOf_69 ⟨Nat.le_refl _, Nat.le_refl _⟩ (fun r_14 S_13 H locs hw hI => ?_)
  refine lv_goto (tgt := 76) hx hb dX5_stockOf_72 (by decide) ?_
  refine lv_iadd hx hb dX5_stockOf_76 ?_
  refine lv_istore (lv' := [(4, .int (t0 + r_14)), (0, .ref g.2.1), (1, .int v1), (2, .int v2), (3, .int v3), (5, .int v5)]) hx hb dX5_stockOf_77 hl (by decide) rfl (fun ls hl => ?_)
  refine lv_iinc (v := v5 + (1 : Int32)) (lv' := [(5, .int (v5 + (1 : Int32))), (4, .int (t0 + r_14)), (0, .ref g.2.1), (1, .int v1), (2, .int v2), (3, .int v3)]) hx hb dX5_stockOf_79 hl (k := 5) rfl rfl (by decide) rfl (fun ls hl => ?_)
  refine lv_goto (tgt := 6) hx hb dX5_stockOf_82 (by decide) ?_
  exact hhd6 _ _ _ H locs ls hw hI (lv_sub hl [2, 3, 4, 5, 1, 0] rfl)
def zw_stockOf (p1 : Int32) (p2 : Int32) (p3 : Int32) (S : zt_S) (post : Int32 → zt_S → Prop) : Prop :=
  ∃ (In_1 : Int32 → Int32 → zt_S → Prop) (mu_1 : Int32 → Int32 → zt_S → Nat), In_1 (0 : Int32) (0 : Int32) S ∧ ∀ (x4_1 : Int32) (x5_1 : Int32) (S_1 : zt_S), In_1 x4_1 x5_1 S_1 → (vp_in (5 : Int32) 3810 ∧ ((S_1 1 (5 : Int32).toNatClampNeg ≤ x5_1 → (post x4_1 S_1)) ∧ (¬ S_1 1 (5 : Int32).toNatClampNeg ≤ x5_1 → (zw_r x5_1 (4 : Int32) S_1 (fun (r_4 : Int32) (S_3 : zt_S) => (r_4 = (-1 : Int32) → (In_1 (x4_1 + (0 : Int32)) (x5_1 + (1 : Int32)) S_3 ∧ mu_1 (x4_1 + (0 : Int32)) (x5_1 + (1 : Int32)) S_3 < mu_1 x4_1 x5_1 S_1)) ∧ (¬ r_4 = (-1 : Int32) → (zw_r x5_1 (0 : Int32) S_3 (fun (r_7 : Int32) (S_6 : zt_S) => (¬ r_7 = p1 → (In_1 (x4_1 + (0 : Int32)) (x5_1 + (1 : Int32)) S_6 ∧ mu_1 (x4_1 + (0 : Int32)) (x5_1 + (1 : Int32)) S_6 < mu_1 x4_1 x5_1 S_1)) ∧ (r_7 = p1 → (zw_r x5_1 (1 : Int32) S_6 (fun (r_10 : Int32) (S_9 : zt_S) => (¬ r_10 = p2 → (In_1 (x4_1 + (0 : Int32)) (x5_1 + (1 : Int32)) S_9 ∧ mu_1 (x4_1 + (0 : Int32)) (x5_1 + (1 : Int32)) S_9 < mu_1 x4_1 x5_1 S_1)) ∧ (r_10 = p2 → ((p3 = (0 : Int32) → (zw_stockOf_65 post (fun (y0 : Int32) (y1 : Int32) (T : zt_S) => In_1 y0 y1 T ∧ mu_1 y0 y1 T < mu_1 x4_1 x5_1 S_1) x4_1 p1 p2 p3 x5_1 S_9)) ∧ (¬ p3 = (0 : Int32) → (zw_isWavy x5_1 S_9 (fun (r_16 : Int32) (S_15 : zt_S) => (¬ r_16 = (0 : Int32) → (In_1 (x4_1 + (0 : Int32)) (x5_1 + (1 : Int32)) S_15 ∧ mu_1 (x4_1 + (0 : Int32)) (x5_1 + (1 : Int32)) S_15 < mu_1 x4_1 x5_1 S_1)) ∧ (r_16 = (0 : Int32) → (zw_stockOf_65 post (fun (y0 : Int32) (y1 : Int32) (T : zt_S) => In_1 y0 y1 T ∧ mu_1 y0 y1 T < mu_1 x4_1 x5_1 S_1) x4_1 p1 p2 p3 x5_1 S_15))))))))))))))))))
set_option maxHeartbeats 4000000 in
theorem zm_stockOf (l : Launch) (g : zt_G) (p1 : Int32) (p2 : Int32) (p3 : Int32) (S : zt_S) (post : Int32 → zt_S → Prop) (hw : zw_stockOf p1 p2 p3 S post) : Met l yX5_stockOf (ws_ yX5_stockOf cX5_stockOf 6 (some .int)) ({ frames := 2, cells := 0, slots := 0, locals := 43 } : Room) (va_Pc (.ref g.2.1 :: [.int p1, .int p2, .int p3]) (zt_B g S)) (va_Qi post (zt_B g) (zt_A g)) 0 0 (zt_A g) := by
  refine zt_met (by decide) rfl (Nat.le_of_ble_eq_true rfl) (fun p e s m below meth c ls hC hI hl => ?_)
  generalize (Value.ref g.2.1 :: ([.int p1, .int p2, .int p3] : List Value)).toArray = args at hC ⊢
  obtain ⟨hx, hb, hml, hown, hts, hr, hlk⟩ := hC
  have hl : lv_has ls 6 [(0, .ref g.2.1), (1, .int p1), (2, .int p2), (3, .int p3)] := hl
  unfold zw_stockOf at hw
  obtain ⟨H, eH⟩ : ∃ z, z = s.heap := ⟨_, rfl⟩
  obtain ⟨locs, elo⟩ : ∃ z : List Loc, z = [] := ⟨_, rfl⟩
  rw [← eH, ← elo] at hI ⊢
  refine lv_iconst (v := 0) hx hb dX5_stockOf_0 (by decide) ?_
  refine lv_istore (lv' := [(4, .int (0 : Int32)), (0, .ref g.2.1), (1, .int p1), (2, .int p2), (3, .int p3)]) hx hb dX5_stockOf_1 hl (by decide) rfl (fun ls hl => ?_)
  refine lv_iconst (v := 0) hx hb dX5_stockOf_3 (by decide) ?_
  refine lv_istore (lv' := [(5, .int (0 : Int32)), (4, .int (0 : Int32)), (0, .ref g.2.1), (1, .int p1), (2, .int p2), (3, .int p3)]) hx hb dX5_stockOf_4 hl (by decide) rfl (fun ls hl => ?_)
  obtain ⟨In_1, mu_1, h0_1, hw⟩ := hw
  have hL_1 : ∀ (n : Nat) (x4_1 : Int32) (x5_1 : Int32) (S_1 : zt_S) (H : Heap) (locs : List Loc) (ls : Array Slot), mu_1 x4_1 x5_1 S_1 < n → In_1 x4_1 x5_1 S_1 → zt_I g S_1 s H locs → lv_has ls 6 [(0, .ref g.2.1), (1, .int p1), (2, .int p2), (3, .int p3), (4, .int x4_1), (5, .int x5_1)] → W p l e ({ frames := 2, cells := 0, slots := 0, locals := 43 } : Room) s m args below meth c H locs 0 0 (MQ below (va_Qi post (zt_B g) (zt_A g)) args s 0 0 (zt_A g)) (F0 m 6 ls []) := by
    intro n
    induction n with
    | zero => intro x4_1 x5_1 S_1 H locs ls hn _ _ _; exact absurd hn (Nat.not_lt_zero _)
    | succ n ih_1 =>
      intro x4_1 x5_1 S_1 H locs ls hn_1 hi_1 hI hl
      have hw := hw x4_1 x5_1 S_1 hi_1
      refine lv_iload hx hb dX5_stockOf_6 (lv_at hl 5 rfl) ?_
      refine lv_aload_n hx hb dX5_stockOf_8 rfl (lv_at hl 0 rfl) ?_
      refine zt_get hx hb hts hown hI 1 (v := .ref g.2.2.1) (by decide) q3633 rfl rfl dX5_stockOf_9 ?_
      refine lv_iconst (v := 5) hx hb dX5_stockOf_12 (by decide) ?_
      refine zt_ld1 hx hb hI hw.1 dX5_stockOf_13 ?_
      have hw := hw.2
      refine lv_icmp_ge (tgt := 85) hx hb dX5_stockOf_14 (by decide) (fun hc_2 => ?_) (fun hc_2 => ?_)
      · have hw := hw.1 hc_2
        refine lv_iload hx hb dX5_stockOf_85 (lv_at hl 4 rfl) ?_
        exact zt_iret hx hb hr hlk hI hw dX5_stockOf_87
      · have hw := hw.2 hc_2
        refine lv_iload hx hb dX5_stockOf_17 (lv_at hl 4 rfl) ?_
        refine lv_aload_n hx hb dX5_stockOf_19 rfl (lv_at hl 0 rfl) ?_
        refine lv_iload hx hb dX5_stockOf_20 (lv_at hl 5 rfl) ?_
        refine lv_iconst (v := 4) hx hb dX5_stockOf_22 (by decide) ?_
        refine zt_calli (As := [.int x5_1, .int (4 : Int32)]) (rest := [.int x4_1]) ⟨hx, hb, hml, hown, hts⟩ hI (zm_r l g x5_1 (4 : Int32) S_1 _ hw) (cwV 2 hts (lw_V q3761 q3763 qs49 q113 q3764) rfl rfl rfl hdT_r ⟨Nat.le_of_ble_eq_true rfl, Nat.le_of_ble_eq_true rfl⟩) rfl hl.1 rfl (lv_room (Nat.le_of_ble_eq_true rfl)) dX5_stockOf_23 ⟨Nat.le_refl _, Nat.le_refl _⟩ (fun r_4 S_3 H locs hw hI => ?_)
        refine lv_iconst (v := -1) hx hb dX5_stockOf_26 (by decide) ?_
        refine lv_icmp_eq (tgt := 75) hx hb dX5_stockOf_27 (by decide) (fun hc_5 => ?_) (fun hc_5 => ?_)
        · have hw := hw.1 hc_5
          refine lv_iconst (v := 0) hx hb dX5_stockOf_75 (by decide) ?_
          refine lv_iadd hx hb dX5_stockOf_76 ?_
          refine lv_istore (lv' := [(4, .int (x4_1 + (0 : Int32))), (0, .ref g.2.1), (1, .int p1), (2, .int p2), (3, .int p3), (5, .int x5_1)]) hx hb dX5_stockOf_77 hl (by decide) rfl (fun ls hl => ?_)
          refine lv_iinc (v := x5_1 + (1 : Int32)) (lv' := [(5, .int (x5_1 + (1 : Int32))), (4, .int (x4_1 + (0 : Int32))), (0, .ref g.2.1), (1, .int p1), (2, .int p2), (3, .int p3)]) hx hb dX5_stockOf_79 hl (k := 5) rfl rfl (by decide) rfl (fun ls hl => ?_)
          refine lv_goto (tgt := 6) hx hb dX5_stockOf_82 (by decide) ?_
          exact ih_1 _ _ _ H locs ls (Nat.lt_of_lt_of_le hw.2 (Nat.le_of_lt_succ hn_1)) hw.1 hI (lv_sub hl [2, 3, 4, 5, 1, 0] rfl)
        · have hw := hw.2 hc_5
          refine lv_aload_n hx hb dX5_stockOf_30 rfl (lv_at hl 0 rfl) ?_
          refine lv_iload hx hb dX5_stockOf_31 (lv_at hl 5 rfl) ?_
          refine lv_iconst (v := 0) hx hb dX5_stockOf_33 (by decide) ?_
          refine zt_calli (As := [.int x5_1, .int (0 : Int32)]) (rest := [.int x4_1]) ⟨hx, hb, hml, hown, hts⟩ hI (zm_r l g x5_1 (0 : Int32) S_3 _ hw) (cwV 2 hts (lw_V q3761 q3763 qs49 q113 q3764) rfl rfl rfl hdT_r ⟨Nat.le_of_ble_eq_true rfl, Nat.le_of_ble_eq_true rfl⟩) rfl hl.1 rfl (lv_room (Nat.le_of_ble_eq_true rfl)) dX5_stockOf_34 ⟨Nat.le_refl _, Nat.le_refl _⟩ (fun r_7 S_6 H locs hw hI => ?_)
          refine lv_iload_n hx hb dX5_stockOf_37 rfl (lv_at hl 1 rfl) ?_
          refine lv_icmp_ne (tgt := 75) hx hb dX5_stockOf_38 (by decide) (fun hc_8 => ?_) (fun hc_8 => ?_)
          · have hw := hw.1 hc_8
            refine lv_iconst (v := 0) hx hb dX5_stockOf_75 (by decide) ?_
            refine lv_iadd hx hb dX5_stockOf_76 ?_
            refine lv_istore (lv' := [(4, .int (x4_1 + (0 : Int32))), (0, .ref g.2.1), (1, .int p1), (2, .int p2), (3, .int p3), (5, .int x5_1)]) hx hb dX5_stockOf_77 hl (by decide) rfl (fun ls hl => ?_)
            refine lv_iinc (v := x5_1 + (1 : Int32)) (lv' := [(5, .int (x5_1 + (1 : Int32))), (4, .int (x4_1 + (0 : Int32))), (0, .ref g.2.1), (1, .int p1), (2, .int p2), (3, .int p3)]) hx hb dX5_stockOf_79 hl (k := 5) rfl rfl (by decide) rfl (fun ls hl => ?_)
            refine lv_goto (tgt := 6) hx hb dX5_stockOf_82 (by decide) ?_
            exact ih_1 _ _ _ H locs ls (Nat.lt_of_lt_of_le hw.2 (Nat.le_of_lt_succ hn_1)) hw.1 hI (lv_sub hl [2, 3, 4, 5, 1, 0] rfl)
          · have hw := hw.2 hc_8
            refine lv_aload_n hx hb dX5_stockOf_41 rfl (lv_at hl 0 rfl) ?_
            refine lv_iload hx hb dX5_stockOf_42 (lv_at hl 5 rfl) ?_
            refine lv_iconst (v := 1) hx hb dX5_stockOf_44 (by decide) ?_
            refine zt_calli (As := [.int x5_1, .int (1 : Int32)]) (rest := [.int x4_1]) ⟨hx, hb, hml, hown, hts⟩ hI (zm_r l g x5_1 (1 : Int32) S_6 _ hw) (cwV 2 hts (lw_V q3761 q3763 qs49 q113 q3764) rfl rfl rfl hdT_r ⟨Nat.le_of_ble_eq_true rfl, Nat.le_of_ble_eq_true rfl⟩) rfl hl.1 rfl (lv_room (Nat.le_of_ble_eq_true rfl)) dX5_stockOf_45 ⟨Nat.le_refl _, Nat.le_refl _⟩ (fun r_10 S_9 H locs hw hI => ?_)
            refine lv_iload_n hx hb dX5_stockOf_48 rfl (lv_at hl 2 rfl) ?_
            refine lv_icmp_ne (tgt := 75) hx hb dX5_stockOf_49 (by decide) (fun hc_11 => ?_) (fun hc_11 => ?_)
            · have hw := hw.1 hc_11
              refine lv_iconst (v := 0) hx hb dX5_stockOf_75 (by decide) ?_
              refine lv_iadd hx hb dX5_stockOf_76 ?_
              refine lv_istore (lv' := [(4, .int (x4_1 + (0 : Int32))), (0, .ref g.2.1), (1, .int p1), (2, .int p2), (3, .int p3), (5, .int x5_1)]) hx hb dX5_stockOf_77 hl (by decide) rfl (fun ls hl => ?_)
              refine lv_iinc (v := x5_1 + (1 : Int32)) (lv' := [(5, .int (x5_1 + (1 : Int32))), (4, .int (x4_1 + (0 : Int32))), (0, .ref g.2.1), (1, .int p1), (2, .int p2), (3, .int p3)]) hx hb dX5_stockOf_79 hl (k := 5) rfl rfl (by decide) rfl (fun ls hl => ?_)
              refine lv_goto (tgt := 6) hx hb dX5_stockOf_82 (by decide) ?_
              exact ih_1 _ _ _ H locs ls (Nat.lt_of_lt_of_le hw.2 (Nat.le_of_lt_succ hn_1)) hw.1 hI (lv_sub hl [2, 3, 4, 5, 1, 0] rfl)
            · have hw := hw.2 hc_11
              refine lv_iload_n hx hb dX5_stockOf_52 rfl (lv_at hl 3 rfl) ?_
              refine lv_if_eq (tgt := 65) hx hb dX5_stockOf_53 (by decide) (fun hc_12 => ?_) (fun hc_12 => ?_)
              · have hw := hw.1 hc_12
                exact zj_stockOf_65 g post (fun (y0 : Int32) (y1 : Int32) (T : zt_S) => In_1 y0 y1 T ∧ mu_1 y0 y1 T < mu_1 x4_1 x5_1 S_1) x4_1 p1 p2 p3 x5_1 S_9 ⟨hx, hb, hml, hown, hts, hr, hlk⟩ hw (fun _y0 _y1 _y2 H locs ls hw hI hl => ih_1 _ _ _ H locs ls (Nat.lt_of_lt_of_le hw.2 (Nat.le_of_lt_succ hn_1)) hw.1 hI hl) hI (lv_sub hl [0, 1, 2, 3, 5] rfl)
              · have hw := hw.2 hc_12
                refine lv_aload_n hx hb dX5_stockOf_56 rfl (lv_at hl 0 rfl) ?_
                refine lv_iload hx hb dX5_stockOf_57 (lv_at hl 5 rfl) ?_
                refine zt_calli (As := [.int x5_1]) (rest := [.int x4_1]) ⟨hx, hb, hml, hown, hts⟩ hI (zm_isWavy l g x5_1 S_9 _ hw) (cwV 1 hts (lw_V q3793 q3795 qs54 q113 q3796) rfl rfl rfl hdT_isWavy ⟨Nat.le_of_ble_eq_true rfl, Nat.le_of_ble_eq_true rfl⟩) rfl hl.1 rfl (lv_room (Nat.le_of_ble_eq_true rfl)) dX5_stockOf_59 ⟨Nat.le_refl _, Nat.le_refl _⟩ (fun r_16 S_15 H locs hw hI => ?_)
                refine lv_if_ne (tgt := 75) hx hb dX5_stockOf_62 (by decide) (fun hc_17 => ?_) (fun hc_17 => ?_)
                · have hw := hw.1 hc_17
                  refine lv_iconst (v := 0) hx hb dX5_stockOf_75 (by decide) ?_
                  refine lv_iadd hx hb dX5_stockOf_76 ?_
                  refine lv_istore (lv' := [(4, .int (x4_1 + (0 : Int32))), (0, .ref g.2.1), (1, .int p1), (2, .int p2), (3, .int p3), (5, .int x5_1)]) hx hb dX5_stockOf_77 hl (by decide) rfl (fun ls hl => ?_)
                  refine lv_iinc (v := x5_1 + (1 : Int32)) (lv' := [(5, .int (x5_1 + (1 : Int32))), (4, .int (x4_1 + (0 : Int32))), (0, .ref g.2.1), (1, .int p1), (2, .int p2), (3, .int p3)]) hx hb dX5_stockOf_79 hl (k := 5) rfl rfl (by decide) rfl (fun ls hl => ?_)
                  refine lv_goto (tgt := 6) hx hb dX5_stockOf_82 (by decide) ?_
                  exact ih_1 _ _ _ H locs ls (Nat.lt_of_lt_of_le hw.2 (Nat.le_of_lt_succ hn_1)) hw.1 hI (lv_sub hl [2, 3, 4, 5, 1, 0] rfl)
                · have hw := hw.2 hc_17
                  exact zj_stockOf_65 g post (fun (y0 : Int32) (y1 : Int32) (T : zt_S) => In_1 y0 y1 T ∧ mu_1 y0 y1 T < mu_1 x4_1 x5_1 S_1) x4_1 p1 p2 p3 x5_1 S_15 ⟨hx, hb, hml, hown, hts, hr, hlk⟩ hw (fun _y0 _y1 _y2 H locs ls hw hI hl => ih_1 _ _ _ H locs ls (Nat.lt_of_lt_of_le hw.2 (Nat.le_of_lt_succ hn_1)) hw.1 hI hl) hI (lv_sub hl [0, 1, 2, 3, 5] rfl)
  exact hL_1 _ _ _ _ H locs ls (Nat.lt_succ_self _) h0_1 hI (lv_sub hl [2, 3, 4, 5, 1, 0] rfl)
theorem hdT_stockOf : yX5_stockOf.cls = RX5 ∧ yX5_stockOf.cls ≠ "java/lang/invoke/MethodHandle" ∧ yX5_stockOf.cls ≠ "java/lang/invoke/VarHandle" ∧ (parseMethodDescriptor yX5_stockOf.desc).map (fun d => d.parameters.length) = some 3 := by decide +kernel
def zw_lacking_14 (post : Int32 → zt_S → Prop) (t0 : Int32) (v1 : Int32) (S : zt_S) : Prop :=
  ∀ S_4 : zt_S, S_4 = zt_us S 0 0 t0 → ((¬ S_4 0 0 = (0 : Int32) → (post (0 : Int32) S_4)) ∧ (S_4 0 0 = (0 : Int32) → (zw_o v1 (3 : Int32) S_4 (fun (r_7 : Int32) (S_6 : zt_S) => (r_7 = (0 : Int32) → (zw_lacks v1 S_6 (fun (r_10 : Int32) (S_9 : zt_S) => zw_o v1 (0 : Int32) S_9 (fun (r_12 : Int32) (S_11 : zt_S) => zw_o v1 (1 : Int32) S_11 (fun (r_14 : Int32) (S_13 : zt_S) => zw_stockOf r_12 r_14 (1 : Int32) S_13 (fun (r_16 : Int32) (S_15 : zt_S) => zw_most (0 : Int32) (r_10 - r_16) (fun (r_17 : Int32) => post r_17 S_15))))))) ∧ (¬ r_7 = (0 : Int32) → (post (0 : Int32) S_6))))))
set_option maxHeartbeats 4000000 in
theorem zj_lacking_14 {p : Program} {l : Launch} {e : Env} {s : State} {m : MethodId} {args : Array Value} {below : List Frame} {meth : Method} {c : Code} {H : Heap} {locs : List Loc} {ls : Array Slot} (g : zt_G) (post : Int32 → zt_S → Prop) (t0 : Int32) (v1 : Int32) (S : zt_S) (hC : zt_C p s m args meth c cX5_lacking 2 (some .int)) (hw : zw_lacking_14 post t0 v1 S) (hI : zt_I g S s H locs) (hl : lv_has ls 2 [(0, .ref g.2.1), (1, .int v1)]) : W p l e ({ frames := 3, cells := 0, slots := 0, locals := 68 } : Room) s m args below meth c H locs 0 0 (MQ below (va_Qi post (zt_B g) (zt_A g)) args s 0 0 (zt_A g)) (F0 m 14 ls [.int t0, .ref g.2.1]) := by
  obtain ⟨hx, hb, hml, hown, hts, hr, hlk⟩ := hC
  unfold zw_lacking_14 at hw
  refine zt_put hx hb hts hown hI 0 (v := t0) (ty := .int) (by decide) q3632 rfl rfl (by decide +kernel) rfl rfl rfl dX5_lacking_14 (fun H locs hI => ?_)
  obtain ⟨S_4, eS_4⟩ : ∃ z, z = zt_us S 0 0 t0 := ⟨_, rfl⟩
  rw [← eS_4] at hI
  have hw := hw S_4 eS_4
  refine lv_aload_n hx hb dX5_lacking_17 rfl (lv_at hl 0 rfl) ?_
  refine zt_get hx hb hts hown hI 0 (v := .int (S_4 0 0)) (by decide) q3632 rfl rfl dX5_lacking_18 ?_
  refine lv_if_ne (tgt := 33) hx hb dX5_lacking_21 (by decide) (fun hc_5 => ?_) (fun hc_5 => ?_)
  · have hw := hw.1 hc_5
    refine lv_iconst (v := 0) hx hb dX5_lacking_33 (by decide) ?_
    refine lv_goto (tgt := 64) hx hb dX5_lacking_34 (by decide) ?_
    exact zt_iret hx hb hr hlk hI hw dX5_lacking_64
  · have hw := hw.2 hc_5
    refine lv_aload_n hx hb dX5_lacking_24 rfl (lv_at hl 0 rfl) ?_
    refine lv_iload_n hx hb dX5_lacking_25 rfl (lv_at hl 1 rfl) ?_
    refine lv_iconst (v := 3) hx hb dX5_lacking_26 (by decide) ?_
    refine zt_calli (As := [.int v1, .int (3 : Int32)]) (rest := []) ⟨hx, hb, hml, hown, hts⟩ hI (zm_o l g v1 (3 : Int32) S_4 _ hw) (cwV 2 hts (lw_V q3895 q3897 qs70 q113 q3898) rfl rfl rfl hdT_o ⟨Nat.le_of_ble_eq_true rfl, Nat.le_of_ble_eq_true rfl⟩) rfl hl.1 rfl (lv_room (Nat.le_of_ble_eq_true rfl)) dX5_lacking_27 ⟨Nat.le_refl _, Nat.le_refl _⟩ (fun r_7 S_6 H locs hw hI => ?_)
    refine lv_if_eq (tgt := 37) hx hb dX5_lacking_30 (by decide) (fun hc_8 => ?_) (fun hc_8 => ?_)
    · have hw := hw.1 hc_8
      refine lv_iconst (v := 0) hx hb dX5_lacking_37 (by decide) ?_
      refine lv_aload_n hx hb dX5_lacking_38 rfl (lv_at hl 0 rfl) ?_
      refine lv_iload_n hx hb dX5_lacking_39 rfl (lv_at hl 1 rfl) ?_
      refine zt_calli (As := [.int v1]) (rest := [.int (0 : Int32)]) ⟨hx, hb, hml, hown, hts⟩ hI (zm_lacks l g v1 S_6 _ hw) (cwV 1 hts (lw_V q3931 q3933 qs77 q113 q3934) rfl rfl rfl hdT_lacks ⟨Nat.le_of_ble_eq_true rfl, Nat.le_of_ble_eq_true rfl⟩) rfl hl.1 rfl (lv_room (Nat.le_of_ble_eq_true rfl)) dX5_lacking_40 ⟨Nat.le_refl _, Nat.le_refl _⟩ (fun r_10 S_9 H locs hw hI => ?_)
      refine lv_aload_n hx hb dX5_lacking_43 rfl (lv_at hl 0 rfl) ?_
      refine lv_aload_n hx hb dX5_lacking_44 rfl (lv_at hl 0 rfl) ?_
      refine lv_iload_n hx hb dX5_lacking_45 rfl (lv_at hl 1 rfl) ?_
      refine lv_iconst (v := 0) hx hb dX5_lacking_46 (by decide) ?_
      refine zt_calli (As := [.int v1, .int (0 : Int32)]) (rest := [.ref g.2.1, .int r_10, .int (0 : Int32)]) ⟨hx, hb, hml, hown, hts⟩ hI (zm_o l g v1 (0 : Int32) S_9 _ hw) (cwV 2 hts (lw_V q3895 q3897 qs70 q113 q3898) rfl rfl rfl hdT_o ⟨Nat.le_of_ble_eq_true rfl, Nat.le_of_ble_eq_true rfl⟩) rfl hl.1 rfl (lv_room (Nat.le_of_ble_eq_true rfl)) dX5_lacking_47 ⟨Nat.le_refl _, Nat.le_refl _⟩ (fun r_12 S_11 H locs hw hI => ?_)
      refine lv_aload_n hx hb dX5_lacking_50 rfl (lv_at hl 0 rfl) ?_
      refine lv_iload_n hx hb dX5_lacking_51 rfl (lv_at hl 1 rfl) ?_
      refine lv_iconst (v := 1) hx hb dX5_lacking_52 (by decide) ?_
      refine zt_calli (As := [.int v1, .int (1 : Int32)]) (rest := [.int r_12, .ref g.2.1, .int r_10, .int (0 : Int32)]) ⟨hx, hb, hml, hown, hts⟩ hI (zm_o l g v1 (1 : Int32) S_11 _ hw) (cwV 2 hts (lw_V q3895 q3897 qs70 q113 q3898) rfl rfl rfl hdT_o ⟨Nat.le_of_ble_eq_true rfl, Nat.le_of_ble_eq_true rfl⟩) rfl hl.1 rfl (lv_room (Nat.le_of_ble_eq_true rfl)) dX5_lacking_53 ⟨Nat.le_refl _, Nat.le_refl _⟩ (fun r_14 S_13 H locs hw hI => ?_)
      refine lv_iconst (v := 1) hx hb dX5_lacking_56 (by decide) ?_
      refine zt_calli (As := [.int r_12, .int r_14, .int (1 : Int32)]) (rest := [.int r_10, .int (0 : Int32)]) ⟨hx, hb, hml, hown, hts⟩ hI (zm_stockOf l g r_12 r_14 (1 : Int32) S_13 _ hw) (cwV 3 hts (lw_V q3955 q3957 qs80 q113 q3958) rfl rfl rfl hdT_stockOf ⟨Nat.le_of_ble_eq_true rfl, Nat.le_of_ble_eq_true rfl⟩) rfl hl.1 rfl (lv_room (Nat.le_of_ble_eq_true rfl)) dX5_lacking_57 ⟨Nat.le_refl _, Nat.le_refl _⟩ (fun r_16 S_15 H locs hw hI => ?_)
      refine lv_isub hx hb dX5_lacking_60 ?_
      refine zt_callS (As := [.int (0 : Int32), .int (r_10 - r_16)]) (rest := []) ⟨hx, hb, hml, hown, hts⟩ (zm_most l (0 : Int32) (r_10 - r_16) _ hw) (va_cwS 2 hts (lw_S q3801 q3802 q113 q3803) rfl rfl rfl hdT_most ⟨Nat.le_of_ble_eq_true rfl, Nat.le_of_ble_eq_true rfl⟩) rfl hl.1 rfl (lv_room (Nat.le_of_ble_eq_true rfl)) dX5_lacking_61 ⟨Nat.le_refl _, Nat.le_refl _⟩ (fun r_17 hw => ?_)
      exact zt_iret hx hb hr hlk hI hw dX5_lacking_64
    · have hw := hw.2 hc_8
      refine lv_iconst (v := 0) hx hb dX5_lacking_33 (by decide) ?_
      refine lv_goto (tgt := 64) hx hb dX5_lacking_34 (by decide) ?_
      exact zt_iret hx hb hr hlk hI hw dX5_lacking_64
def zw_lacking (p1 : Int32) (S : zt_S) (post : Int32 → zt_S → Prop) : Prop :=
  zw_isOrder p1 S (fun (r_2 : Int32) (S_1 : zt_S) => (r_2 = (0 : Int32) → (zw_lacking_14 post (1 : Int32) p1 S_1)) ∧ (¬ r_2 = (0 : Int32) → (zw_lacking_14 post (0 : Int32) p1 S_1)))
set_option maxHeartbeats 4000000 in
theorem zm_lacking (l : Launch) (g : zt_G) (p1 : Int32) (S : zt_S) (post : Int32 → zt_S → Prop) (hw : zw_lacking p1 S post) : Met l yX5_lacking (ws_ yX5_lacking cX5_lacking 2 (some .int)) ({ frames := 3, cells := 0, slots := 0, locals := 68 } : Room) (va_Pc (.ref g.2.1 :: [.int p1]) (zt_B g S)) (va_Qi post (zt_B g) (zt_A g)) 0 0 (zt_A g) := by
  refine zt_met (by decide) rfl (Nat.le_of_ble_eq_true rfl) (fun p e s m below meth c ls hC hI hl => ?_)
  generalize (Value.ref g.2.1 :: ([.int p1] : List Value)).toArray = args at hC ⊢
  obtain ⟨hx, hb, hml, hown, hts, hr, hlk⟩ := hC
  have hl : lv_has ls 2 [(0, .ref g.2.1), (1, .int p1)] := hl
  unfold zw_lacking at hw
  obtain ⟨H, eH⟩ : ∃ z, z = s.heap := ⟨_, rfl⟩
  obtain ⟨locs, elo⟩ : ∃ z : List Loc, z = [] := ⟨_, rfl⟩
  rw [← eH, ← elo] at hI ⊢
  refine lv_aload_n hx hb dX5_lacking_0 rfl (lv_at hl 0 rfl) ?_
  refine lv_aload_n hx hb dX5_lacking_1 rfl (lv_at hl 0 rfl) ?_
  refine lv_iload_n hx hb dX5_lacking_2 rfl (lv_at hl 1 rfl) ?_
  refine zt_calli (As := [.int p1]) (rest := [.ref g.2.1]) ⟨hx, hb, hml, hown, hts⟩ hI (zm_isOrder l g p1 S _ hw) (cwV 1 hts (lw_V q3887 q3889 qs68 q113 q3890) rfl rfl rfl hdT_isOrder ⟨Nat.le_of_ble_eq_true rfl, Nat.le_of_ble_eq_true rfl⟩) rfl hl.1 rfl (lv_room (Nat.le_of_ble_eq_true rfl)) dX5_lacking_3 ⟨Nat.le_refl _, Nat.le_refl _⟩ (fun r_2 S_1 H locs hw hI => ?_)
  refine lv_if_eq (tgt := 13) hx hb dX5_lacking_6 (by decide) (fun hc_3 => ?_) (fun hc_3 => ?_)
  · have hw := hw.1 hc_3
    refine lv_iconst (v := 1) hx hb dX5_lacking_13 (by decide) ?_
    exact zj_lacking_14 g post (1 : Int32) p1 S_1 ⟨hx, hb, hml, hown, hts, hr, hlk⟩ hw hI (lv_sub hl [0, 1] rfl)
  · have hw := hw.2 hc_3
    refine lv_iconst (v := 0) hx hb dX5_lacking_9 (by decide) ?_
    refine lv_goto (tgt := 14) hx hb dX5_lacking_10 (by decide) ?_
    exact zj_lacking_14 g post (0 : Int32) p1 S_1 ⟨hx, hb, hml, hown, hts, hr, hlk⟩ hw hI (lv_sub hl [0, 1] rfl)
theorem hdT_lacking : yX5_lacking.cls = RX5 ∧ yX5_lacking.cls ≠ "java/lang/invoke/MethodHandle" ∧ yX5_lacking.cls ≠ "java/lang/invoke/VarHandle" ∧ (parseMethodDescriptor yX5_lacking.desc).map (fun d => d.parameters.length) = some 1 := by decide +kernel
def zw_bestLadder_103 (post : Int32 → zt_S → Prop) (t0 : Int32) (v2 : Int32) (S : zt_S) : Prop :=
  ∀ S_9 : zt_S, S_9 = zt_us S 0 0 t0 → ((¬ v2 = (-1 : Int32) → (post v2 S_9)) ∧ (v2 = (-1 : Int32) → (post (0 : Int32) S_9)))
set_option maxHeartbeats 4000000 in
theorem zj_bestLadder_103 {p : Program} {l : Launch} {e : Env} {s : State} {m : MethodId} {args : Array Value} {below : List Frame} {meth : Method} {c : Code} {H : Heap} {locs : List Loc} {ls : Array Slot} (g : zt_G) (post : Int32 → zt_S → Prop) (t0 : Int32) (v2 : Int32) (S : zt_S) (hC : zt_C p s m args meth c cX5_bestLadder 6 (some .int)) (hw : zw_bestLadder_103 post t0 v2 S) (hI : zt_I g S s H locs) (hl : lv_has ls 6 [(2, .int v2)]) : W p l e ({ frames := 4, cells := 0, slots := 0, locals := 97 } : Room) s m args below meth c H locs 0 0 (MQ below (va_Qi post (zt_B g) (zt_A g)) args s 0 0 (zt_A g)) (F0 m 103 ls [.int t0, .ref g.2.1]) := by
  obtain ⟨hx, hb, hml, hown, hts, hr, hlk⟩ := hC
  unfold zw_bestLadder_103 at hw
  refine zt_put hx hb hts hown hI 0 (v := t0) (ty := .int) (by decide) q3632 rfl rfl (by decide +kernel) rfl rfl rfl dX5_bestLadder_103 (fun H locs hI => ?_)
  obtain ⟨S_9, eS_9⟩ : ∃ z, z = zt_us S 0 0 t0 := ⟨_, rfl⟩
  rw [← eS_9] at hI
  have hw := hw S_9 eS_9
  refine lv_iload_n hx hb dX5_bestLadder_106 rfl (lv_at hl 0 rfl) ?_
  refine lv_iconst (v := -1) hx hb dX5_bestLadder_107 (by decide) ?_
  refine lv_icmp_ne (tgt := 115) hx hb dX5_bestLadder_108 (by decide) (fun hc_10 => ?_) (fun hc_10 => ?_)
  · have hw := hw.1 hc_10
    refine lv_iload_n hx hb dX5_bestLadder_115 rfl (lv_at hl 0 rfl) ?_
    exact zt_iret hx hb hr hlk hI hw dX5_bestLadder_116
  · have hw := hw.2 hc_10
    refine lv_iconst (v := 0) hx hb dX5_bestLadder_111 (by decide) ?_
    refine lv_goto (tgt := 116) hx hb dX5_bestLadder_112 (by decide) ?_
    exact zt_iret hx hb hr hlk hI hw dX5_bestLadder_116
def zw_bestLadder_92 (post : Int32 → zt_S → Prop) (v2 : Int32) (S : zt_S) : Prop :=
  (¬ v2 = (-1 : Int32) → (zw_bestLadder_103 post (0 : Int32) v2 S)) ∧ (v2 = (-1 : Int32) → (zw_bestLadder_103 post (2 : Int32) v2 S))
set_option maxHeartbeats 4000000 in
theorem zj_bestLadder_92 {p : Program} {l : Launch} {e : Env} {s : State} {m : MethodId} {args : Array Value} {below : List Frame} {meth : Method} {c : Code} {H : Heap} {locs : List Loc} {ls : Array Slot} (g : zt_G) (post : Int32 → zt_S → Prop) (v2 : Int32) (S : zt_S) (hC : zt_C p s m args meth c cX5_bestLadder 6 (some .int)) (hw : zw_bestLadder_92 post v2 S) (hI : zt_I g S s H locs) (hl : lv_has ls 6 [(0, .ref g.2.1), (2, .int v2)]) : W p l e ({ frames := 4, cells := 0, slots := 0, locals := 97 } : Room) s m args below meth c H locs 0 0 (MQ below (va_Qi post (zt_B g) (zt_A g)) args s 0 0 (zt_A g)) (F0 m 92 ls []) := by
  obtain ⟨hx, hb, hml, hown, hts, hr, hlk⟩ := hC
  unfold zw_bestLadder_92 at hw
  refine lv_aload_n hx hb dX5_bestLadder_92 rfl (lv_at hl 0 rfl) ?_
  refine lv_iload_n hx hb dX5_bestLadder_93 rfl (lv_at hl 1 rfl) ?_
  refine lv_iconst (v := -1) hx hb dX5_bestLadder_94 (by decide) ?_
  refine lv_icmp_ne (tgt := 102) hx hb dX5_bestLadder_95 (by decide) (fun hc_8 => ?_) (fun hc_8 => ?_)
  · have hw := hw.1 hc_8
    refine lv_iconst (v := 0) hx hb dX5_bestLadder_102 (by decide) ?_
    exact zj_bestLadder_103 g post (0 : Int32) v2 S ⟨hx, hb, hml, hown, hts, hr, hlk⟩ hw hI (lv_sub hl [1] rfl)
  · have hw := hw.2 hc_8
    refine lv_iconst (v := 2) hx hb dX5_bestLadder_98 (by decide) ?_
    refine lv_goto (tgt := 103) hx hb dX5_bestLadder_99 (by decide) ?_
    exact zj_bestLadder_103 g post (2 : Int32) v2 S ⟨hx, hb, hml, hown, hts, hr, hlk⟩ hw hI (lv_sub hl [1] rfl)
def zw_bestLadder_14 (post : Int32 → zt_S → Prop) (t0 : Int32) (v1 : Int32) (S : zt_S) : Prop :=
  ∀ S_4 : zt_S, S_4 = zt_us S 0 0 t0 → ((S_4 0 0 = (0 : Int32) → (∃ (In_6 : Int32 → Int32 → Int32 → zt_S → Prop) (mu_6 : Int32 → Int32 → Int32 → zt_S → Nat), In_6 (-1 : Int32) (0 : Int32) (0 : Int32) S_4 ∧ ∀ (x2_6 : Int32) (x3_6 : Int32) (x4_6 : Int32) (S_6 : zt_S), In_6 x2_6 x3_6 x4_6 S_6 → (vp_in (6 : Int32) 3810 ∧ ((S_6 1 (6 : Int32).toNatClampNeg ≤ x4_6 → (zw_bestLadder_92 post x2_6 S_6)) ∧ (¬ S_6 1 (6 : Int32).toNatClampNeg ≤ x4_6 → (zw_o v1 (3 : Int32) S_6 (fun (r_12 : Int32) (S_11 : zt_S) => (¬ r_12 = (0 : Int32) → (zw_bestLadder_92 post x2_6 S_11)) ∧ (r_12 = (0 : Int32) → (zw_lacks v1 S_11 (fun (r_15 : Int32) (S_14 : zt_S) => zw_least (60 : Int32) r_15 (fun (r_16 : Int32) => zw_quiresFor v1 x4_6 r_16 (0 : Int32) S_14 (fun (r_18 : Int32) (S_17 : zt_S) => (r_18 ≤ x3_6 → (In_6 x2_6 x3_6 (x4_6 + (1 : Int32)) S_17 ∧ mu_6 x2_6 x3_6 (x4_6 + (1 : Int32)) S_17 < mu_6 x2_6 x3_6 x4_6 S_6)) ∧ (¬ r_18 ≤ x3_6 → (In_6 x4_6 r_18 (x4_6 + (1 : Int32)) S_17 ∧ mu_6 x4_6 r_18 (x4_6 + (1 : Int32)) S_17 < mu_6 x2_6 x3_6 x4_6 S_6)))))))))))))) ∧ (¬ S_4 0 0 = (0 : Int32) → (post (0 : Int32) S_4)))
set_option maxHeartbeats 4000000 in
theorem zj_bestLadder_14 {p : Program} {l : Launch} {e : Env} {s : State} {m : MethodId} {args : Array Value} {below : List Frame} {meth : Method} {c : Code} {H : Heap} {locs : List Loc} {ls : Array Slot} (g : zt_G) (post : Int32 → zt_S → Prop) (t0 : Int32) (v1 : Int32) (S : zt_S) (hC : zt_C p s m args meth c cX5_bestLadder 6 (some .int)) (hw : zw_bestLadder_14 post t0 v1 S) (hI : zt_I g S s H locs) (hl : lv_has ls 6 [(0, .ref g.2.1), (1, .int v1)]) : W p l e ({ frames := 4, cells := 0, slots := 0, locals := 97 } : Room) s m args below meth c H locs 0 0 (MQ below (va_Qi post (zt_B g) (zt_A g)) args s 0 0 (zt_A g)) (F0 m 14 ls [.int t0, .ref g.2.1]) := by
  obtain ⟨hx, hb, hml, hown, hts, hr, hlk⟩ := hC
  unfold zw_bestLadder_14 at hw
  refine zt_put hx hb hts hown hI 0 (v := t0) (ty := .int) (by decide) q3632 rfl rfl (by decide +kernel) rfl rfl rfl dX5_bestLadder_14 (fun H locs hI => ?_)
  obtain ⟨S_4, eS_4⟩ : ∃ z, z = zt_us S 0 0 t0 := ⟨_, rfl⟩
  rw [← eS_4] at hI
  have hw := hw S_4 eS_4
  refine lv_aload_n hx hb dX5_bestLadder_17 rfl (lv_at hl 0 rfl) ?_
  refine zt_get hx hb hts hown hI 0 (v := .int (S_4 0 0)) (by decide) q3632 rfl rfl dX5_bestLadder_18 ?_
  refine lv_if_eq (tgt := 26) hx hb dX5_bestLadder_21 (by decide) (fun hc_5 => ?_) (fun hc_5 => ?_)
  · have hw := hw.1 hc_5
    refine lv_iconst (v := -1) hx hb dX5_bestLadder_26 (by decide) ?_
    refine lv_istore_n (lv' := [(2, .int (-1 : Int32)), (0, .ref g.2.1), (1, .int v1)]) hx hb dX5_bestLadder_27 rfl hl (by decide) rfl (fun ls hl => ?_)
    refine lv_iconst (v := 0) hx hb dX5_bestLadder_28 (by decide) ?_
    refine lv_istore_n (lv' := [(3, .int (0 : Int32)), (2, .int (-1 : Int32)), (0, .ref g.2.1), (1, .int v1)]) hx hb dX5_bestLadder_29 rfl hl (by decide) rfl (fun ls hl => ?_)
    refine lv_iconst (v := 0) hx hb dX5_bestLadder_30 (by decide) ?_
    refine lv_istore (lv' := [(4, .int (0 : Int32)), (3, .int (0 : Int32)), (2, .int (-1 : Int32)), (0, .ref g.2.1), (1, .int v1)]) hx hb dX5_bestLadder_31 hl (by decide) rfl (fun ls hl => ?_)
    obtain ⟨In_6, mu_6, h0_6, hw⟩ := hw
    have hL_6 : ∀ (n : Nat) (x2_6 : Int32) (x3_6 : Int32) (x4_6 : Int32) (S_6 : zt_S) (H : Heap) (locs : List Loc) (ls : Array Slot), mu_6 x2_6 x3_6 x4_6 S_6 < n → In_6 x2_6 x3_6 x4_6 S_6 → zt_I g S_6 s H locs → lv_has ls 6 [(0, .ref g.2.1), (1, .int v1), (2, .int x2_6), (3, .int x3_6), (4, .int x4_6)] → W p l e ({ frames := 4, cells := 0, slots := 0, locals := 97 } : Room) s m args below meth c H locs 0 0 (MQ below (va_Qi post (zt_B g) (zt_A g)) args s 0 0 (zt_A g)) (F0 m 33 ls []) := by
      intro n
      induction n with
      | zero => intro x2_6 x3_6 x4_6 S_6 H locs ls hn _ _ _; exact absurd hn (Nat.not_lt_zero _)
      | succ n ih_6 =>
        intro x2_6 x3_6 x4_6 S_6 H locs ls hn_6 hi_6 hI hl
        have hw := hw x2_6 x3_6 x4_6 S_6 hi_6
        refine lv_iload hx hb dX5_bestLadder_33 (lv_at hl 4 rfl) ?_
        refine lv_aload_n hx hb dX5_bestLadder_35 rfl (lv_at hl 0 rfl) ?_
        refine zt_get hx hb hts hown hI 1 (v := .ref g.2.2.1) (by decide) q3633 rfl rfl dX5_bestLadder_36 ?_
        refine lv_bipush (v := 6) hx hb dX5_bestLadder_39 (by decide) ?_
        refine zt_ld1 hx hb hI hw.1 dX5_bestLadder_41 ?_
        have hw := hw.2
        refine lv_icmp_ge (tgt := 92) hx hb dX5_bestLadder_42 (by decide) (fun hc_7 => ?_) (fun hc_7 => ?_)
        · have hw := hw.1 hc_7
          exact zj_bestLadder_92 g post x2_6 S_6 ⟨hx, hb, hml, hown, hts, hr, hlk⟩ hw hI (lv_sub hl [0, 2] rfl)
        · have hw := hw.2 hc_7
          refine lv_aload_n hx hb dX5_bestLadder_45 rfl (lv_at hl 0 rfl) ?_
          refine lv_iload_n hx hb dX5_bestLadder_46 rfl (lv_at hl 1 rfl) ?_
          refine lv_iconst (v := 3) hx hb dX5_bestLadder_47 (by decide) ?_
          refine zt_calli (As := [.int v1, .int (3 : Int32)]) (rest := []) ⟨hx, hb, hml, hown, hts⟩ hI (zm_o l g v1 (3 : Int32) S_6 _ hw) (cwV 2 hts (lw_V q3895 q3897 qs70 q113 q3898) rfl rfl rfl hdT_o ⟨Nat.le_of_ble_eq_true rfl, Nat.le_of_ble_eq_true rfl⟩) rfl hl.1 rfl (lv_room (Nat.le_of_ble_eq_true rfl)) dX5_bestLadder_48 ⟨Nat.le_refl _, Nat.le_refl _⟩ (fun r_12 S_11 H locs hw hI => ?_)
          refine lv_if_ne (tgt := 92) hx hb dX5_bestLadder_51 (by decide) (fun hc_13 => ?_) (fun hc_13 => ?_)
          · have hw := hw.1 hc_13
            exact zj_bestLadder_92 g post x2_6 S_11 ⟨hx, hb, hml, hown, hts, hr, hlk⟩ hw hI (lv_sub hl [0, 2] rfl)
          · have hw := hw.2 hc_13
            refine lv_aload_n hx hb dX5_bestLadder_54 rfl (lv_at hl 0 rfl) ?_
            refine lv_iload_n hx hb dX5_bestLadder_55 rfl (lv_at hl 1 rfl) ?_
            refine lv_iload hx hb dX5_bestLadder_56 (lv_at hl 4 rfl) ?_
            refine lv_bipush (v := 60) hx hb dX5_bestLadder_58 (by decide) ?_
            refine lv_aload_n hx hb dX5_bestLadder_60 rfl (lv_at hl 0 rfl) ?_
            refine lv_iload_n hx hb dX5_bestLadder_61 rfl (lv_at hl 1 rfl) ?_
            refine zt_calli (As := [.int v1]) (rest := [.int (60 : Int32), .int x4_6, .int v1, .ref g.2.1]) ⟨hx, hb, hml, hown, hts⟩ hI (zm_lacks l g v1 S_11 _ hw) (cwV 1 hts (lw_V q3931 q3933 qs77 q113 q3934) rfl rfl rfl hdT_lacks ⟨Nat.le_of_ble_eq_true rfl, Nat.le_of_ble_eq_true rfl⟩) rfl hl.1 rfl (lv_room (Nat.le_of_ble_eq_true rfl)) dX5_bestLadder_62 ⟨Nat.le_refl _, Nat.le_refl _⟩ (fun r_15 S_14 H locs hw hI => ?_)
            refine zt_callS (As := [.int (60 : Int32), .int r_15]) (rest := [.int x4_6, .int v1, .ref g.2.1]) ⟨hx, hb, hml, hown, hts⟩ (zm_least l (60 : Int32) r_15 _ hw) (va_cwS 2 hts (lw_S q3828 q3829 q113 q3830) rfl rfl rfl hdT_least ⟨Nat.le_of_ble_eq_true rfl, Nat.le_of_ble_eq_true rfl⟩) rfl hl.1 rfl (lv_room (Nat.le_of_ble_eq_true rfl)) dX5_bestLadder_65 ⟨Nat.le_refl _, Nat.le_refl _⟩ (fun r_16 hw => ?_)
            refine lv_iconst (v := 0) hx hb dX5_bestLadder_68 (by decide) ?_
            refine zt_calli (As := [.int v1, .int x4_6, .int r_16, .int (0 : Int32)]) (rest := []) ⟨hx, hb, hml, hown, hts⟩ hI (zm_quiresFor l g v1 x4_6 r_16 (0 : Int32) S_14 _ hw) (cwV 4 hts (lw_V q3935 q3937 qs78 q113 q3938) rfl rfl rfl hdT_quiresFor ⟨Nat.le_of_ble_eq_true rfl, Nat.le_of_ble_eq_true rfl⟩) rfl hl.1 rfl (lv_room (Nat.le_of_ble_eq_true rfl)) dX5_bestLadder_69 ⟨Nat.le_refl _, Nat.le_refl _⟩ (fun r_18 S_17 H locs hw hI => ?_)
            refine lv_istore (lv' := [(5, .int r_18), (0, .ref g.2.1), (1, .int v1), (2, .int x2_6), (3, .int x3_6), (4, .int x4_6)]) hx hb dX5_bestLadder_72 hl (by decide) rfl (fun ls hl => ?_)
            refine lv_iload hx hb dX5_bestLadder_74 (lv_at hl 0 rfl) ?_
            refine lv_iload_n hx hb dX5_bestLadder_76 rfl (lv_at hl 4 rfl) ?_
            refine lv_icmp_le (tgt := 86) hx hb dX5_bestLadder_77 (by decide) (fun hc_19 => ?_) (fun hc_19 => ?_)
            · have hw := hw.1 hc_19
              refine lv_iinc (v := x4_6 + (1 : Int32)) (lv' := [(4, .int (x4_6 + (1 : Int32))), (5, .int r_18), (0, .ref g.2.1), (1, .int v1), (2, .int x2_6), (3, .int x3_6)]) hx hb dX5_bestLadder_86 hl (k := 5) rfl rfl (by decide) rfl (fun ls hl => ?_)
              refine lv_goto (tgt := 33) hx hb dX5_bestLadder_89 (by decide) ?_
              exact ih_6 _ _ _ _ H locs ls (Nat.lt_of_lt_of_le hw.2 (Nat.le_of_lt_succ hn_6)) hw.1 hI (lv_sub hl [2, 3, 4, 5, 0] rfl)
            · have hw := hw.2 hc_19
              refine lv_iload hx hb dX5_bestLadder_80 (lv_at hl 5 rfl) ?_
              refine lv_istore_n (lv' := [(2, .int x4_6), (5, .int r_18), (0, .ref g.2.1), (1, .int v1), (3, .int x3_6), (4, .int x4_6)]) hx hb dX5_bestLadder_82 rfl hl (by decide) rfl (fun ls hl => ?_)
              refine lv_iload hx hb dX5_bestLadder_83 (lv_at hl 1 rfl) ?_
              refine lv_istore_n (lv' := [(3, .int r_18), (2, .int x4_6), (5, .int r_18), (0, .ref g.2.1), (1, .int v1), (4, .int x4_6)]) hx hb dX5_bestLadder_85 rfl hl (by decide) rfl (fun ls hl => ?_)
              refine lv_iinc (v := x4_6 + (1 : Int32)) (lv' := [(4, .int (x4_6 + (1 : Int32))), (3, .int r_18), (2, .int x4_6), (5, .int r_18), (0, .ref g.2.1), (1, .int v1)]) hx hb dX5_bestLadder_86 hl (k := 5) rfl rfl (by decide) rfl (fun ls hl => ?_)
              refine lv_goto (tgt := 33) hx hb dX5_bestLadder_89 (by decide) ?_
              exact ih_6 _ _ _ _ H locs ls (Nat.lt_of_lt_of_le hw.2 (Nat.le_of_lt_succ hn_6)) hw.1 hI (lv_sub hl [4, 5, 2, 1, 0] rfl)
    exact hL_6 _ _ _ _ _ H locs ls (Nat.lt_succ_self _) h0_6 hI (lv_sub hl [3, 4, 2, 1, 0] rfl)
  · have hw := hw.2 hc_5
    refine lv_iconst (v := 0) hx hb dX5_bestLadder_24 (by decide) ?_
    exact zt_iret hx hb hr hlk hI hw dX5_bestLadder_25
def zw_bestLadder (p1 : Int32) (S : zt_S) (post : Int32 → zt_S → Prop) : Prop :=
  zw_isOrder p1 S (fun (r_2 : Int32) (S_1 : zt_S) => (r_2 = (0 : Int32) → (zw_bestLadder_14 post (1 : Int32) p1 S_1)) ∧ (¬ r_2 = (0 : Int32) → (zw_bestLadder_14 post (0 : Int32) p1 S_1)))
set_option maxHeartbeats 4000000 in
theorem zm_bestLadder (l : Launch) (g : zt_G) (p1 : Int32) (S : zt_S) (post : Int32 → zt_S → Prop) (hw : zw_bestLadder p1 S post) : Met l yX5_bestLadder (ws_ yX5_bestLadder cX5_bestLadder 6 (some .int)) ({ frames := 4, cells := 0, slots := 0, locals := 97 } : Room) (va_Pc (.ref g.2.1 :: [.int p1]) (zt_B g S)) (va_Qi post (zt_B g) (zt_A g)) 0 0 (zt_A g) := by
  refine zt_met (by decide) rfl (Nat.le_of_ble_eq_true rfl) (fun p e s m below meth c ls hC hI hl => ?_)
  generalize (Value.ref g.2.1 :: ([.int p1] : List Value)).toArray = args at hC ⊢
  obtain ⟨hx, hb, hml, hown, hts, hr, hlk⟩ := hC
  have hl : lv_has ls 6 [(0, .ref g.2.1), (1, .int p1)] := hl
  unfold zw_bestLadder at hw
  obtain ⟨H, eH⟩ : ∃ z, z = s.heap := ⟨_, rfl⟩
  obtain ⟨locs, elo⟩ : ∃ z : List Loc, z = [] := ⟨_, rfl⟩
  rw [← eH, ← elo] at hI ⊢
  refine lv_aload_n hx hb dX5_bestLadder_0 rfl (lv_at hl 0 rfl) ?_
  refine lv_aload_n hx hb dX5_bestLadder_1 rfl (lv_at hl 0 rfl) ?_
  refine lv_iload_n hx hb dX5_bestLadder_2 rfl (lv_at hl 1 rfl) ?_
  refine zt_calli (As := [.int p1]) (rest := [.ref g.2.1]) ⟨hx, hb, hml, hown, hts⟩ hI (zm_isOrder l g p1 S _ hw) (cwV 1 hts (lw_V q3887 q3889 qs68 q113 q3890) rfl rfl rfl hdT_isOrder ⟨Nat.le_of_ble_eq_true rfl, Nat.le_of_ble_eq_true rfl⟩) rfl hl.1 rfl (lv_room (Nat.le_of_ble_eq_true rfl)) dX5_bestLadder_3 ⟨Nat.le_refl _, Nat.le_refl _⟩ (fun r_2 S_1 H locs hw hI => ?_)
  refine lv_if_eq (tgt := 13) hx hb dX5_bestLadder_6 (by decide) (fun hc_3 => ?_) (fun hc_3 => ?_)
  · have hw := hw.1 hc_3
    refine lv_iconst (v := 1) hx hb dX5_bestLadder_13 (by decide) ?_
    exact zj_bestLadder_14 g post (1 : Int32) p1 S_1 ⟨hx, hb, hml, hown, hts, hr, hlk⟩ hw hI (lv_sub hl [0, 1] rfl)
  · have hw := hw.2 hc_3
    refine lv_iconst (v := 0) hx hb dX5_bestLadder_9 (by decide) ?_
    refine lv_goto (tgt := 14) hx hb dX5_bestLadder_10 (by decide) ?_
    exact zj_bestLadder_14 g post (0 : Int32) p1 S_1 ⟨hx, hb, hml, hown, hts, hr, hlk⟩ hw hI (lv_sub hl [0, 1] rfl)
theorem hdT_bestLadder : yX5_bestLadder.cls = RX5 ∧ yX5_bestLadder.cls ≠ "java/lang/invoke/MethodHandle" ∧ yX5_bestLadder.cls ≠ "java/lang/invoke/VarHandle" ∧ (parseMethodDescriptor yX5_bestLadder.desc).map (fun d => d.parameters.length) = some 1 := by decide +kernel
def zw_cartOf_27 (post : Int32 → zt_S → Prop) (t0 : Int32) (v1 : Int32) (v2 : Int32) (S : zt_S) : Prop :=
  ∀ S_6 : zt_S, S_6 = zt_us S 0 0 t0 → ((¬ S_6 0 0 = (0 : Int32) → (post (0 : Int32) S_6)) ∧ (S_6 0 0 = (0 : Int32) → (zw_c v1 v2 S_6 (fun (r_9 : Int32) (S_8 : zt_S) => post r_9 S_8))))
set_option maxHeartbeats 4000000 in
theorem zj_cartOf_27 {p : Program} {l : Launch} {e : Env} {s : State} {m : MethodId} {args : Array Value} {below : List Frame} {meth : Method} {c : Code} {H : Heap} {locs : List Loc} {ls : Array Slot} (g : zt_G) (post : Int32 → zt_S → Prop) (t0 : Int32) (v1 : Int32) (v2 : Int32) (S : zt_S) (hC : zt_C p s m args meth c cX5_cartOf 3 (some .int)) (hw : zw_cartOf_27 post t0 v1 v2 S) (hI : zt_I g S s H locs) (hl : lv_has ls 3 [(0, .ref g.2.1), (1, .int v1), (2, .int v2)]) : W p l e ({ frames := 2, cells := 0, slots := 0, locals := 43 } : Room) s m args below meth c H locs 0 0 (MQ below (va_Qi post (zt_B g) (zt_A g)) args s 0 0 (zt_A g)) (F0 m 27 ls [.int t0, .ref g.2.1]) := by
  obtain ⟨hx, hb, hml, hown, hts, hr, hlk⟩ := hC
  unfold zw_cartOf_27 at hw
  refine zt_put hx hb hts hown hI 0 (v := t0) (ty := .int) (by decide) q3632 rfl rfl (by decide +kernel) rfl rfl rfl dX5_cartOf_27 (fun H locs hI => ?_)
  obtain ⟨S_6, eS_6⟩ : ∃ z, z = zt_us S 0 0 t0 := ⟨_, rfl⟩
  rw [← eS_6] at hI
  have hw := hw S_6 eS_6
  refine lv_aload_n hx hb dX5_cartOf_30 rfl (lv_at hl 0 rfl) ?_
  refine zt_get hx hb hts hown hI 0 (v := .int (S_6 0 0)) (by decide) q3632 rfl rfl dX5_cartOf_31 ?_
  refine lv_if_ne (tgt := 46) hx hb dX5_cartOf_34 (by decide) (fun hc_7 => ?_) (fun hc_7 => ?_)
  · have hw := hw.1 hc_7
    refine lv_iconst (v := 0) hx hb dX5_cartOf_46 (by decide) ?_
    exact zt_iret hx hb hr hlk hI hw dX5_cartOf_47
  · have hw := hw.2 hc_7
    refine lv_aload_n hx hb dX5_cartOf_37 rfl (lv_at hl 0 rfl) ?_
    refine lv_iload_n hx hb dX5_cartOf_38 rfl (lv_at hl 1 rfl) ?_
    refine lv_iload_n hx hb dX5_cartOf_39 rfl (lv_at hl 2 rfl) ?_
    refine zt_calli (As := [.int v1, .int v2]) (rest := []) ⟨hx, hb, hml, hown, hts⟩ hI (zm_c l g v1 v2 S_6 _ hw) (cwV 2 hts (lw_V q3903 q3905 qs72 q113 q3906) rfl rfl rfl hdT_c ⟨Nat.le_of_ble_eq_true rfl, Nat.le_of_ble_eq_true rfl⟩) rfl hl.1 rfl (lv_room (Nat.le_of_ble_eq_true rfl)) dX5_cartOf_40 ⟨Nat.le_refl _, Nat.le_refl _⟩ (fun r_9 S_8 H locs hw hI => ?_)
    refine lv_goto (tgt := 47) hx hb dX5_cartOf_43 (by decide) ?_
    exact zt_iret hx hb hr hlk hI hw dX5_cartOf_47
def zw_cartOf (p1 : Int32) (p2 : Int32) (S : zt_S) (post : Int32 → zt_S → Prop) : Prop :=
  zw_isCart p1 S (fun (r_2 : Int32) (S_1 : zt_S) => (¬ r_2 = (0 : Int32) → (zw_in p2 (0 : Int32) (2 : Int32) (fun (r_4 : Int32) => (r_4 = (0 : Int32) → (zw_cartOf_27 post (2 : Int32) p1 p2 S_1)) ∧ (¬ r_4 = (0 : Int32) → (zw_cartOf_27 post (0 : Int32) p1 p2 S_1))))) ∧ (r_2 = (0 : Int32) → (zw_cartOf_27 post (1 : Int32) p1 p2 S_1)))
set_option maxHeartbeats 4000000 in
theorem zm_cartOf (l : Launch) (g : zt_G) (p1 : Int32) (p2 : Int32) (S : zt_S) (post : Int32 → zt_S → Prop) (hw : zw_cartOf p1 p2 S post) : Met l yX5_cartOf (ws_ yX5_cartOf cX5_cartOf 3 (some .int)) ({ frames := 2, cells := 0, slots := 0, locals := 43 } : Room) (va_Pc (.ref g.2.1 :: [.int p1, .int p2]) (zt_B g S)) (va_Qi post (zt_B g) (zt_A g)) 0 0 (zt_A g) := by
  refine zt_met (by decide) rfl (Nat.le_of_ble_eq_true rfl) (fun p e s m below meth c ls hC hI hl => ?_)
  generalize (Value.ref g.2.1 :: ([.int p1, .int p2] : List Value)).toArray = args at hC ⊢
  obtain ⟨hx, hb, hml, hown, hts, hr, hlk⟩ := hC
  have hl : lv_has ls 3 [(0, .ref g.2.1), (1, .int p1), (2, .int p2)] := hl
  unfold zw_cartOf at hw
  obtain ⟨H, eH⟩ : ∃ z, z = s.heap := ⟨_, rfl⟩
  obtain ⟨locs, elo⟩ : ∃ z : List Loc, z = [] := ⟨_, rfl⟩
  rw [← eH, ← elo] at hI ⊢
  refine lv_aload_n hx hb dX5_cartOf_0 rfl (lv_at hl 0 rfl) ?_
  refine lv_aload_n hx hb dX5_cartOf_1 rfl (lv_at hl 0 rfl) ?_
  refine lv_iload_n hx hb dX5_cartOf_2 rfl (lv_at hl 1 rfl) ?_
  refine zt_calli (As := [.int p1]) (rest := [.ref g.2.1]) ⟨hx, hb, hml, hown, hts⟩ hI (zm_isCart l g p1 S _ hw) (cwV 1 hts (lw_V q3927 q3929 qs76 q113 q3930) rfl rfl rfl hdT_isCart ⟨Nat.le_of_ble_eq_true rfl, Nat.le_of_ble_eq_true rfl⟩) rfl hl.1 rfl (lv_room (Nat.le_of_ble_eq_true rfl)) dX5_cartOf_3 ⟨Nat.le_refl _, Nat.le_refl _⟩ (fun r_2 S_1 H locs hw hI => ?_)
  refine lv_if_ne (tgt := 13) hx hb dX5_cartOf_6 (by decide) (fun hc_3 => ?_) (fun hc_3 => ?_)
  · have hw := hw.1 hc_3
    refine lv_iload_n hx hb dX5_cartOf_13 rfl (lv_at hl 2 rfl) ?_
    refine lv_iconst (v := 0) hx hb dX5_cartOf_14 (by decide) ?_
    refine lv_iconst (v := 2) hx hb dX5_cartOf_15 (by decide) ?_
    refine zt_callS (As := [.int p2, .int (0 : Int32), .int (2 : Int32)]) (rest := [.ref g.2.1]) ⟨hx, hb, hml, hown, hts⟩ (zm_in l p2 (0 : Int32) (2 : Int32) _ hw) (va_cwS 3 hts (lw_S q3693 q3694 q113 q3695) rfl rfl rfl hdT_in ⟨Nat.le_of_ble_eq_true rfl, Nat.le_of_ble_eq_true rfl⟩) rfl hl.1 rfl (lv_room (Nat.le_of_ble_eq_true rfl)) dX5_cartOf_16 ⟨Nat.le_refl _, Nat.le_refl _⟩ (fun r_4 hw => ?_)
    refine lv_if_eq (tgt := 26) hx hb dX5_cartOf_19 (by decide) (fun hc_5 => ?_) (fun hc_5 => ?_)
    · have hw := hw.1 hc_5
      refine lv_iconst (v := 2) hx hb dX5_cartOf_26 (by decide) ?_
      exact zj_cartOf_27 g post (2 : Int32) p1 p2 S_1 ⟨hx, hb, hml, hown, hts, hr, hlk⟩ hw hI (lv_sub hl [0, 1, 2] rfl)
    · have hw := hw.2 hc_5
      refine lv_iconst (v := 0) hx hb dX5_cartOf_22 (by decide) ?_
      refine lv_goto (tgt := 27) hx hb dX5_cartOf_23 (by decide) ?_
      exact zj_cartOf_27 g post (0 : Int32) p1 p2 S_1 ⟨hx, hb, hml, hown, hts, hr, hlk⟩ hw hI (lv_sub hl [0, 1, 2] rfl)
  · have hw := hw.2 hc_3
    refine lv_iconst (v := 1) hx hb dX5_cartOf_9 (by decide) ?_
    refine lv_goto (tgt := 27) hx hb dX5_cartOf_10 (by decide) ?_
    exact zj_cartOf_27 g post (1 : Int32) p1 p2 S_1 ⟨hx, hb, hml, hown, hts, hr, hlk⟩ hw hI (lv_sub hl [0, 1, 2] rfl)
theorem hdT_cartOf : yX5_cartOf.cls = RX5 ∧ yX5_cartOf.cls ≠ "java/lang/invoke/MethodHandle" ∧ yX5_cartOf.cls ≠ "java/lang/invoke/VarHandle" ∧ (parseMethodDescriptor yX5_cartOf.desc).map (fun d => d.parameters.length) = some 2 := by decide +kernel
def zw_stock_14 (post : Int32 → zt_S → Prop) (t0 : Int32) (v1 : Int32) (v2 : Int32) (v3 : Int32) (S : zt_S) : Prop :=
  ∀ S_3 : zt_S, S_3 = zt_us S 0 0 t0 → ((¬ S_3 0 0 = (0 : Int32) → (post (0 : Int32) S_3)) ∧ (S_3 0 0 = (0 : Int32) → (zw_stockOf v1 v2 v3 S_3 (fun (r_6 : Int32) (S_5 : zt_S) => post r_6 S_5))))
set_option maxHeartbeats 4000000 in
theorem zj_stock_14 {p : Program} {l : Launch} {e : Env} {s : State} {m : MethodId} {args : Array Value} {below : List Frame} {meth : Method} {c : Code} {H : Heap} {locs : List Loc} {ls : Array Slot} (g : zt_G) (post : Int32 → zt_S → Prop) (t0 : Int32) (v1 : Int32) (v2 : Int32) (v3 : Int32) (S : zt_S) (hC : zt_C p s m args meth c cX5_stock 4 (some .int)) (hw : zw_stock_14 post t0 v1 v2 v3 S) (hI : zt_I g S s H locs) (hl : lv_has ls 4 [(0, .ref g.2.1), (1, .int v1), (2, .int v2), (3, .int v3)]) : W p l e ({ frames := 3, cells := 0, slots := 0, locals := 68 } : Room) s m args below meth c H locs 0 0 (MQ below (va_Qi post (zt_B g) (zt_A g)) args s 0 0 (zt_A g)) (F0 m 14 ls [.int t0, .ref g.2.1]) := by
  obtain ⟨hx, hb, hml, hown, hts, hr, hlk⟩ := hC
  unfold zw_stock_14 at hw
  refine zt_put hx hb hts hown hI 0 (v := t0) (ty := .int) (by decide) q3632 rfl rfl (by decide +kernel) rfl rfl rfl dX5_stock_14 (fun H locs hI => ?_)
  obtain ⟨S_3, eS_3⟩ : ∃ z, z = zt_us S 0 0 t0 := ⟨_, rfl⟩
  rw [← eS_3] at hI
  have hw := hw S_3 eS_3
  refine lv_aload_n hx hb dX5_stock_17 rfl (lv_at hl 0 rfl) ?_
  refine zt_get hx hb hts hown hI 0 (v := .int (S_3 0 0)) (by decide) q3632 rfl rfl dX5_stock_18 ?_
  refine lv_if_ne (tgt := 34) hx hb dX5_stock_21 (by decide) (fun hc_4 => ?_) (fun hc_4 => ?_)
  · have hw := hw.1 hc_4
    refine lv_iconst (v := 0) hx hb dX5_stock_34 (by decide) ?_
    exact zt_iret hx hb hr hlk hI hw dX5_stock_35
  · have hw := hw.2 hc_4
    refine lv_aload_n hx hb dX5_stock_24 rfl (lv_at hl 0 rfl) ?_
    refine lv_iload_n hx hb dX5_stock_25 rfl (lv_at hl 1 rfl) ?_
    refine lv_iload_n hx hb dX5_stock_26 rfl (lv_at hl 2 rfl) ?_
    refine lv_iload_n hx hb dX5_stock_27 rfl (lv_at hl 3 rfl) ?_
    refine zt_calli (As := [.int v1, .int v2, .int v3]) (rest := []) ⟨hx, hb, hml, hown, hts⟩ hI (zm_stockOf l g v1 v2 v3 S_3 _ hw) (cwV 3 hts (lw_V q3955 q3957 qs80 q113 q3958) rfl rfl rfl hdT_stockOf ⟨Nat.le_of_ble_eq_true rfl, Nat.le_of_ble_eq_true rfl⟩) rfl hl.1 rfl (lv_room (Nat.le_of_ble_eq_true rfl)) dX5_stock_28 ⟨Nat.le_refl _, Nat.le_refl _⟩ (fun r_6 S_5 H locs hw hI => ?_)
    refine lv_goto (tgt := 35) hx hb dX5_stock_31 (by decide) ?_
    exact zt_iret hx hb hr hlk hI hw dX5_stock_35
def zw_stock (p1 : Int32) (p2 : Int32) (p3 : Int32) (S : zt_S) (post : Int32 → zt_S → Prop) : Prop :=
  zw_isPaper p1 p2 (fun (r_1 : Int32) => (r_1 = (0 : Int32) → (zw_stock_14 post (1 : Int32) p1 p2 p3 S)) ∧ (¬ r_1 = (0 : Int32) → (zw_stock_14 post (0 : Int32) p1 p2 p3 S)))
set_option maxHeartbeats 4000000 in
theorem zm_stock (l : Launch) (g : zt_G) (p1 : Int32) (p2 : Int32) (p3 : Int32) (S : zt_S) (post : Int32 → zt_S → Prop) (hw : zw_stock p1 p2 p3 S post) : Met l yX5_stock (ws_ yX5_stock cX5_stock 4 (some .int)) ({ frames := 3, cells := 0, slots := 0, locals := 68 } : Room) (va_Pc (.ref g.2.1 :: [.int p1, .int p2, .int p3]) (zt_B g S)) (va_Qi post (zt_B g) (zt_A g)) 0 0 (zt_A g) := by
  refine zt_met (by decide) rfl (Nat.le_of_ble_eq_true rfl) (fun p e s m below meth c ls hC hI hl => ?_)
  generalize (Value.ref g.2.1 :: ([.int p1, .int p2, .int p3] : List Value)).toArray = args at hC ⊢
  obtain ⟨hx, hb, hml, hown, hts, hr, hlk⟩ := hC
  have hl : lv_has ls 4 [(0, .ref g.2.1), (1, .int p1), (2, .int p2), (3, .int p3)] := hl
  unfold zw_stock at hw
  obtain ⟨H, eH⟩ : ∃ z, z = s.heap := ⟨_, rfl⟩
  obtain ⟨locs, elo⟩ : ∃ z : List Loc, z = [] := ⟨_, rfl⟩
  rw [← eH, ← elo] at hI ⊢
  refine lv_aload_n hx hb dX5_stock_0 rfl (lv_at hl 0 rfl) ?_
  refine lv_iload_n hx hb dX5_stock_1 rfl (lv_at hl 1 rfl) ?_
  refine lv_iload_n hx hb dX5_stock_2 rfl (lv_at hl 2 rfl) ?_
  refine zt_callS (As := [.int p1, .int p2]) (rest := [.ref g.2.1]) ⟨hx, hb, hml, hown, hts⟩ (zm_isPaper l p1 p2 _ hw) (va_cwS 2 hts (lw_S q3754 q3755 q113 q3756) rfl rfl rfl hdT_isPaper ⟨Nat.le_of_ble_eq_true rfl, Nat.le_of_ble_eq_true rfl⟩) rfl hl.1 rfl (lv_room (Nat.le_of_ble_eq_true rfl)) dX5_stock_3 ⟨Nat.le_refl _, Nat.le_refl _⟩ (fun r_1 hw => ?_)
  refine lv_if_eq (tgt := 13) hx hb dX5_stock_6 (by decide) (fun hc_2 => ?_) (fun hc_2 => ?_)
  · have hw := hw.1 hc_2
    refine lv_iconst (v := 1) hx hb dX5_stock_13 (by decide) ?_
    exact zj_stock_14 g post (1 : Int32) p1 p2 p3 S ⟨hx, hb, hml, hown, hts, hr, hlk⟩ hw hI (lv_sub hl [0, 1, 2, 3] rfl)
  · have hw := hw.2 hc_2
    refine lv_iconst (v := 0) hx hb dX5_stock_9 (by decide) ?_
    refine lv_goto (tgt := 14) hx hb dX5_stock_10 (by decide) ?_
    exact zj_stock_14 g post (0 : Int32) p1 p2 p3 S ⟨hx, hb, hml, hown, hts, hr, hlk⟩ hw hI (lv_sub hl [0, 1, 2, 3] rfl)
theorem hdT_stock : yX5_stock.cls = RX5 ∧ yX5_stock.cls ≠ "java/lang/invoke/MethodHandle" ∧ yX5_stock.cls ≠ "java/lang/invoke/VarHandle" ∧ (parseMethodDescriptor yX5_stock.desc).map (fun d => d.parameters.length) = some 3 := by decide +kernel
def zw_sent_14 (post : Int32 → zt_S → Prop) (t0 : Int32) (v1 : Int32) (v2 : Int32) (S : zt_S) : Prop :=
  ∀ S_3 : zt_S, S_3 = zt_us S 0 0 t0 → ((¬ S_3 0 0 = (0 : Int32) → (post (0 : Int32) S_3)) ∧ (S_3 0 0 = (0 : Int32) → (vp_in (((369 : Int32) + ((3 : Int32) * v1)) + v2) 3810 ∧ (post (S_3 1 (((369 : Int32) + ((3 : Int32) * v1)) + v2).toNatClampNeg) S_3))))
set_option maxHeartbeats 4000000 in
theorem zj_sent_14 {p : Program} {l : Launch} {e : Env} {s : State} {m : MethodId} {args : Array Value} {below : List Frame} {meth : Method} {c : Code} {H : Heap} {locs : List Loc} {ls : Array Slot} (g : zt_G) (post : Int32 → zt_S → Prop) (t0 : Int32) (v1 : Int32) (v2 : Int32) (S : zt_S) (hC : zt_C p s m args meth c cX5_sent 3 (some .int)) (hw : zw_sent_14 post t0 v1 v2 S) (hI : zt_I g S s H locs) (hl : lv_has ls 3 [(0, .ref g.2.1), (1, .int v1), (2, .int v2)]) : W p l e ({ frames := 2, cells := 0, slots := 0, locals := 43 } : Room) s m args below meth c H locs 0 0 (MQ below (va_Qi post (zt_B g) (zt_A g)) args s 0 0 (zt_A g)) (F0 m 14 ls [.int t0, .ref g.2.1]) := by
  obtain ⟨hx, hb, hml, hown, hts, hr, hlk⟩ := hC
  unfold zw_sent_14 at hw
  refine zt_put hx hb hts hown hI 0 (v := t0) (ty := .int) (by decide) q3632 rfl rfl (by decide +kernel) rfl rfl rfl dX5_sent_14 (fun H locs hI => ?_)
  obtain ⟨S_3, eS_3⟩ : ∃ z, z = zt_us S 0 0 t0 := ⟨_, rfl⟩
  rw [← eS_3] at hI
  have hw := hw S_3 eS_3
  refine lv_aload_n hx hb dX5_sent_17 rfl (lv_at hl 0 rfl) ?_
  refine zt_get hx hb hts hown hI 0 (v := .int (S_3 0 0)) (by decide) q3632 rfl rfl dX5_sent_18 ?_
  refine lv_if_ne (tgt := 41) hx hb dX5_sent_21 (by decide) (fun hc_4 => ?_) (fun hc_4 => ?_)
  · have hw := hw.1 hc_4
    refine lv_iconst (v := 0) hx hb dX5_sent_41 (by decide) ?_
    exact zt_iret hx hb hr hlk hI hw dX5_sent_42
  · have hw := hw.2 hc_4
    refine lv_aload_n hx hb dX5_sent_24 rfl (lv_at hl 0 rfl) ?_
    refine zt_get hx hb hts hown hI 1 (v := .ref g.2.2.1) (by decide) q3633 rfl rfl dX5_sent_25 ?_
    refine lv_sipush (v := 369) hx hb dX5_sent_28 (by decide) ?_
    refine lv_iconst (v := 3) hx hb dX5_sent_31 (by decide) ?_
    refine lv_iload_n hx hb dX5_sent_32 rfl (lv_at hl 1 rfl) ?_
    refine lv_imul hx hb dX5_sent_33 ?_
    refine lv_iadd hx hb dX5_sent_34 ?_
    refine lv_iload_n hx hb dX5_sent_35 rfl (lv_at hl 2 rfl) ?_
    refine lv_iadd hx hb dX5_sent_36 ?_
    refine zt_ld1 hx hb hI hw.1 dX5_sent_37 ?_
    have hw := hw.2
    refine lv_goto (tgt := 42) hx hb dX5_sent_38 (by decide) ?_
    exact zt_iret hx hb hr hlk hI hw dX5_sent_42
def zw_sent (p1 : Int32) (p2 : Int32) (S : zt_S) (post : Int32 → zt_S → Prop) : Prop :=
  zw_isPaper p1 p2 (fun (r_1 : Int32) => (r_1 = (0 : Int32) → (zw_sent_14 post (1 : Int32) p1 p2 S)) ∧ (¬ r_1 = (0 : Int32) → (zw_sent_14 post (0 : Int32) p1 p2 S)))
set_option maxHeartbeats 4000000 in
theorem zm_sent (l : Launch) (g : zt_G) (p1 : Int32) (p2 : Int32) (S : zt_S) (post : Int32 → zt_S → Prop) (hw : zw_sent p1 p2 S post) : Met l yX5_sent (ws_ yX5_sent cX5_sent 3 (some .int)) ({ frames := 2, cells := 0, slots := 0, locals := 43 } : Room) (va_Pc (.ref g.2.1 :: [.int p1, .int p2]) (zt_B g S)) (va_Qi post (zt_B g) (zt_A g)) 0 0 (zt_A g) := by
  refine zt_met (by decide) rfl (Nat.le_of_ble_eq_true rfl) (fun p e s m below meth c ls hC hI hl => ?_)
  generalize (Value.ref g.2.1 :: ([.int p1, .int p2] : List Value)).toArray = args at hC ⊢
  obtain ⟨hx, hb, hml, hown, hts, hr, hlk⟩ := hC
  have hl : lv_has ls 3 [(0, .ref g.2.1), (1, .int p1), (2, .int p2)] := hl
  unfold zw_sent at hw
  obtain ⟨H, eH⟩ : ∃ z, z = s.heap := ⟨_, rfl⟩
  obtain ⟨locs, elo⟩ : ∃ z : List Loc, z = [] := ⟨_, rfl⟩
  rw [← eH, ← elo] at hI ⊢
  refine lv_aload_n hx hb dX5_sent_0 rfl (lv_at hl 0 rfl) ?_
  refine lv_iload_n hx hb dX5_sent_1 rfl (lv_at hl 1 rfl) ?_
  refine lv_iload_n hx hb dX5_sent_2 rfl (lv_at hl 2 rfl) ?_
  refine zt_callS (As := [.int p1, .int p2]) (rest := [.ref g.2.1]) ⟨hx, hb, hml, hown, hts⟩ (zm_isPaper l p1 p2 _ hw) (va_cwS 2 hts (lw_S q3754 q3755 q113 q3756) rfl rfl rfl hdT_isPaper ⟨Nat.le_of_ble_eq_true rfl, Nat.le_of_ble_eq_true rfl⟩) rfl hl.1 rfl (lv_room (Nat.le_of_ble_eq_true rfl)) dX5_sent_3 ⟨Nat.le_refl _, Nat.le_refl _⟩ (fun r_1 hw => ?_)
  refine lv_if_eq (tgt := 13) hx hb dX5_sent_6 (by decide) (fun hc_2 => ?_) (fun hc_2 => ?_)
  · have hw := hw.1 hc_2
    refine lv_iconst (v := 1) hx hb dX5_sent_13 (by decide) ?_
    exact zj_sent_14 g post (1 : Int32) p1 p2 S ⟨hx, hb, hml, hown, hts, hr, hlk⟩ hw hI (lv_sub hl [0, 1, 2] rfl)
  · have hw := hw.2 hc_2
    refine lv_iconst (v := 0) hx hb dX5_sent_9 (by decide) ?_
    refine lv_goto (tgt := 14) hx hb dX5_sent_10 (by decide) ?_
    exact zj_sent_14 g post (0 : Int32) p1 p2 S ⟨hx, hb, hml, hown, hts, hr, hlk⟩ hw hI (lv_sub hl [0, 1, 2] rfl)
theorem hdT_sent : yX5_sent.cls = RX5 ∧ yX5_sent.cls ≠ "java/lang/invoke/MethodHandle" ∧ yX5_sent.cls ≠ "java/lang/invoke/VarHandle" ∧ (parseMethodDescriptor yX5_sent.desc).map (fun d => d.parameters.length) = some 2 := by decide +kernel
def zw_bestPaper_64 (post : Int32 → zt_S → Prop) (t0 : Int32) (v1 : Int32) (S : zt_S) : Prop :=
  ∀ S_4 : zt_S, S_4 = zt_us S 0 0 t0 → ((¬ S_4 0 0 = (0 : Int32) → (post (0 : Int32) S_4)) ∧ (S_4 0 0 = (0 : Int32) → (post v1 S_4)))
set_option maxHeartbeats 4000000 in
theorem zj_bestPaper_64 {p : Program} {l : Launch} {e : Env} {s : State} {m : MethodId} {args : Array Value} {below : List Frame} {meth : Method} {c : Code} {H : Heap} {locs : List Loc} {ls : Array Slot} (g : zt_G) (post : Int32 → zt_S → Prop) (t0 : Int32) (v1 : Int32) (S : zt_S) (hC : zt_C p s m args meth c cX5_bestPaper 3 (some .int)) (hw : zw_bestPaper_64 post t0 v1 S) (hI : zt_I g S s H locs) (hl : lv_has ls 3 [(0, .ref g.2.1), (1, .int v1)]) : W p l e ({ frames := 0, cells := 0, slots := 0, locals := 0 } : Room) s m args below meth c H locs 0 0 (MQ below (va_Qi post (zt_B g) (zt_A g)) args s 0 0 (zt_A g)) (F0 m 64 ls [.int t0, .ref g.2.1]) := by
  obtain ⟨hx, hb, hml, hown, hts, hr, hlk⟩ := hC
  unfold zw_bestPaper_64 at hw
  refine zt_put hx hb hts hown hI 0 (v := t0) (ty := .int) (by decide) q3632 rfl rfl (by decide +kernel) rfl rfl rfl dX5_bestPaper_64 (fun H locs hI => ?_)
  obtain ⟨S_4, eS_4⟩ : ∃ z, z = zt_us S 0 0 t0 := ⟨_, rfl⟩
  rw [← eS_4] at hI
  have hw := hw S_4 eS_4
  refine lv_aload_n hx hb dX5_bestPaper_67 rfl (lv_at hl 0 rfl) ?_
  refine zt_get hx hb hts hown hI 0 (v := .int (S_4 0 0)) (by decide) q3632 rfl rfl dX5_bestPaper_68 ?_
  refine lv_if_ne (tgt := 78) hx hb dX5_bestPaper_71 (by decide) (fun hc_5 => ?_) (fun hc_5 => ?_)
  · have hw := hw.1 hc_5
    refine lv_iconst (v := 0) hx hb dX5_bestPaper_78 (by decide) ?_
    exact zt_iret hx hb hr hlk hI hw dX5_bestPaper_79
  · have hw := hw.2 hc_5
    refine lv_iload_n hx hb dX5_bestPaper_74 rfl (lv_at hl 1 rfl) ?_
    refine lv_goto (tgt := 79) hx hb dX5_bestPaper_75 (by decide) ?_
    exact zt_iret hx hb hr hlk hI hw dX5_bestPaper_79
def zw_bestPaper (S : zt_S) (post : Int32 → zt_S → Prop) : Prop :=
  ∃ (In_1 : Int32 → Int32 → Prop) (mu_1 : Int32 → Int32 → Nat), In_1 (0 : Int32) (1 : Int32) ∧ ∀ (x1_1 : Int32) (x2_1 : Int32), In_1 x1_1 x2_1 → (((12 : Int32) ≤ x2_1 → (vp_in ((369 : Int32) + x1_1) 3810 ∧ ((¬ S 1 ((369 : Int32) + x1_1).toNatClampNeg = (0 : Int32) → (zw_bestPaper_64 post (0 : Int32) x1_1 S)) ∧ (S 1 ((369 : Int32) + x1_1).toNatClampNeg = (0 : Int32) → (zw_bestPaper_64 post (1 : Int32) x1_1 S))))) ∧ (¬ (12 : Int32) ≤ x2_1 → (vp_in ((369 : Int32) + x2_1) 3810 ∧ (vp_in ((369 : Int32) + x1_1) 3810 ∧ ((S 1 ((369 : Int32) + x2_1).toNatClampNeg ≤ S 1 ((369 : Int32) + x1_1).toNatClampNeg → (In_1 x1_1 (x2_1 + (1 : Int32)) ∧ mu_1 x1_1 (x2_1 + (1 : Int32)) < mu_1 x1_1 x2_1)) ∧ (¬ S 1 ((369 : Int32) + x2_1).toNatClampNeg ≤ S 1 ((369 : Int32) + x1_1).toNatClampNeg → (In_1 x2_1 (x2_1 + (1 : Int32)) ∧ mu_1 x2_1 (x2_1 + (1 : Int32)) < mu_1 x1_1 x2_1)))))))
set_option maxHeartbeats 4000000 in
theorem zm_bestPaper (l : Launch) (g : zt_G) (S : zt_S) (post : Int32 → zt_S → Prop) (hw : zw_bestPaper S post) : Met l yX5_bestPaper (ws_ yX5_bestPaper cX5_bestPaper 3 (some .int)) ({ frames := 0, cells := 0, slots := 0, locals := 0 } : Room) (va_Pc (.ref g.2.1 :: []) (zt_B g S)) (va_Qi post (zt_B g) (zt_A g)) 0 0 (zt_A g) := by
  refine zt_met (by decide) rfl (Nat.le_of_ble_eq_true rfl) (fun p e s m below meth c ls hC hI hl => ?_)
  generalize (Value.ref g.2.1 :: ([] : List Value)).toArray = args at hC ⊢
  obtain ⟨hx, hb, hml, hown, hts, hr, hlk⟩ := hC
  have hl : lv_has ls 3 [(0, .ref g.2.1)] := hl
  unfold zw_bestPaper at hw
  obtain ⟨H, eH⟩ : ∃ z, z = s.heap := ⟨_, rfl⟩
  obtain ⟨locs, elo⟩ : ∃ z : List Loc, z = [] := ⟨_, rfl⟩
  rw [← eH, ← elo] at hI ⊢
  refine lv_iconst (v := 0) hx hb dX5_bestPaper_0 (by decide) ?_
  refine lv_istore_n (lv' := [(1, .int (0 : Int32)), (0, .ref g.2.1)]) hx hb dX5_bestPaper_1 rfl hl (by decide) rfl (fun ls hl => ?_)
  refine lv_iconst (v := 1) hx hb dX5_bestPaper_2 (by decide) ?_
  refine lv_istore_n (lv' := [(2, .int (1 : Int32)), (1, .int (0 : Int32)), (0, .ref g.2.1)]) hx hb dX5_bestPaper_3 rfl hl (by decide) rfl (fun ls hl => ?_)
  obtain ⟨In_1, mu_1, h0_1, hw⟩ := hw
  have hL_1 : ∀ (n : Nat) (x1_1 : Int32) (x2_1 : Int32) (ls : Array Slot), mu_1 x1_1 x2_1 < n → In_1 x1_1 x2_1 → lv_has ls 3 [(0, .ref g.2.1), (1, .int x1_1), (2, .int x2_1)] → W p l e ({ frames := 0, cells := 0, slots := 0, locals := 0 } : Room) s m args below meth c H locs 0 0 (MQ below (va_Qi post (zt_B g) (zt_A g)) args s 0 0 (zt_A g)) (F0 m 4 ls []) := by
    intro n
    induction n with
    | zero => intro x1_1 x2_1 ls hn _ _; exact absurd hn (Nat.not_lt_zero _)
    | succ n ih_1 =>
      intro x1_1 x2_1 ls hn_1 hi_1 hl
      have hw := hw x1_1 x2_1 hi_1
      refine lv_iload_n hx hb dX5_bestPaper_4 rfl (lv_at hl 2 rfl) ?_
      refine lv_bipush (v := 12) hx hb dX5_bestPaper_5 (by decide) ?_
      refine lv_icmp_ge (tgt := 45) hx hb dX5_bestPaper_7 (by decide) (fun hc_2 => ?_) (fun hc_2 => ?_)
      · have hw := hw.1 hc_2
        refine lv_aload_n hx hb dX5_bestPaper_45 rfl (lv_at hl 0 rfl) ?_
        refine lv_aload_n hx hb dX5_bestPaper_46 rfl (lv_at hl 0 rfl) ?_
        refine zt_get hx hb hts hown hI 1 (v := .ref g.2.2.1) (by decide) q3633 rfl rfl dX5_bestPaper_47 ?_
        refine lv_sipush (v := 369) hx hb dX5_bestPaper_50 (by decide) ?_
        refine lv_iload_n hx hb dX5_bestPaper_53 rfl (lv_at hl 1 rfl) ?_
        refine lv_iadd hx hb dX5_bestPaper_54 ?_
        refine zt_ld1 hx hb hI hw.1 dX5_bestPaper_55 ?_
        have hw := hw.2
        refine lv_if_ne (tgt := 63) hx hb dX5_bestPaper_56 (by decide) (fun hc_3 => ?_) (fun hc_3 => ?_)
        · have hw := hw.1 hc_3
          refine lv_iconst (v := 0) hx hb dX5_bestPaper_63 (by decide) ?_
          exact zj_bestPaper_64 g post (0 : Int32) x1_1 S ⟨hx, hb, hml, hown, hts, hr, hlk⟩ hw hI (lv_sub hl [0, 1] rfl)
        · have hw := hw.2 hc_3
          refine lv_iconst (v := 1) hx hb dX5_bestPaper_59 (by decide) ?_
          refine lv_goto (tgt := 64) hx hb dX5_bestPaper_60 (by decide) ?_
          exact zj_bestPaper_64 g post (1 : Int32) x1_1 S ⟨hx, hb, hml, hown, hts, hr, hlk⟩ hw hI (lv_sub hl [0, 1] rfl)
      · have hw := hw.2 hc_2
        refine lv_aload_n hx hb dX5_bestPaper_10 rfl (lv_at hl 0 rfl) ?_
        refine zt_get hx hb hts hown hI 1 (v := .ref g.2.2.1) (by decide) q3633 rfl rfl dX5_bestPaper_11 ?_
        refine lv_sipush (v := 369) hx hb dX5_bestPaper_14 (by decide) ?_
        refine lv_iload_n hx hb dX5_bestPaper_17 rfl (lv_at hl 2 rfl) ?_
        refine lv_iadd hx hb dX5_bestPaper_18 ?_
        refine zt_ld1 hx hb hI hw.1 dX5_bestPaper_19 ?_
        have hw := hw.2
        refine lv_aload_n hx hb dX5_bestPaper_20 rfl (lv_at hl 0 rfl) ?_
        refine zt_get hx hb hts hown hI 1 (v := .ref g.2.2.1) (by decide) q3633 rfl rfl dX5_bestPaper_21 ?_
        refine lv_sipush (v := 369) hx hb dX5_bestPaper_24 (by decide) ?_
        refine lv_iload_n hx hb dX5_bestPaper_27 rfl (lv_at hl 1 rfl) ?_
        refine lv_iadd hx hb dX5_bestPaper_28 ?_
        refine zt_ld1 hx hb hI hw.1 dX5_bestPaper_29 ?_
        have hw := hw.2
        refine lv_icmp_le (tgt := 37) hx hb dX5_bestPaper_30 (by decide) (fun hc_6 => ?_) (fun hc_6 => ?_)
        · have hw := hw.1 hc_6
          refine lv_iload_n hx hb dX5_bestPaper_37 rfl (lv_at hl 1 rfl) ?_
          refine lv_istore_n (lv' := [(1, .int x1_1), (0, .ref g.2.1), (2, .int x2_1)]) hx hb dX5_bestPaper_38 rfl hl (by decide) rfl (fun ls hl => ?_)
          refine lv_iinc (v := x2_1 + (1 : Int32)) (lv' := [(2, .int (x2_1 + (1 : Int32))), (1, .int x1_1), (0, .ref g.2.1)]) hx hb dX5_bestPaper_39 hl (k := 2) rfl rfl (by decide) rfl (fun ls hl => ?_)
          refine lv_goto (tgt := 4) hx hb dX5_bestPaper_42 (by decide) ?_
          exact ih_1 _ _ ls (Nat.lt_of_lt_of_le hw.2 (Nat.le_of_lt_succ hn_1)) hw.1 (lv_sub hl [2, 1, 0] rfl)
        · have hw := hw.2 hc_6
          refine lv_iload_n hx hb dX5_bestPaper_33 rfl (lv_at hl 2 rfl) ?_
          refine lv_goto (tgt := 38) hx hb dX5_bestPaper_34 (by decide) ?_
          refine lv_istore_n (lv' := [(1, .int x2_1), (0, .ref g.2.1), (2, .int x2_1)]) hx hb dX5_bestPaper_38 rfl hl (by decide) rfl (fun ls hl => ?_)
          refine lv_iinc (v := x2_1 + (1 : Int32)) (lv' := [(2, .int (x2_1 + (1 : Int32))), (1, .int x2_1), (0, .ref g.2.1)]) hx hb dX5_bestPaper_39 hl (k := 2) rfl rfl (by decide) rfl (fun ls hl => ?_)
          refine lv_goto (tgt := 4) hx hb dX5_bestPaper_42 (by decide) ?_
          exact ih_1 _ _ ls (Nat.lt_of_lt_of_le hw.2 (Nat.le_of_lt_succ hn_1)) hw.1 (lv_sub hl [2, 1, 0] rfl)
  exact hL_1 _ _ _ ls (Nat.lt_succ_self _) h0_1 (lv_sub hl [2, 1, 0] rfl)
theorem hdT_bestPaper : yX5_bestPaper.cls = RX5 ∧ yX5_bestPaper.cls ≠ "java/lang/invoke/MethodHandle" ∧ yX5_bestPaper.cls ≠ "java/lang/invoke/VarHandle" ∧ (parseMethodDescriptor yX5_bestPaper.desc).map (fun d => d.parameters.length) = some 0 := by decide +kernel
def zw_papers (S : zt_S) (post : Int32 → zt_S → Prop) : Prop :=
  ∀ S_1 : zt_S, S_1 = zt_us S 0 0 (0 : Int32) → (∃ (In_2 : Int32 → Int32 → zt_S → Prop) (mu_2 : Int32 → Int32 → zt_S → Nat), In_2 (0 : Int32) (0 : Int32) S_1 ∧ ∀ (x1_2 : Int32) (x2_2 : Int32) (S_2 : zt_S), In_2 x1_2 x2_2 S_2 → (vp_in (5 : Int32) 3810 ∧ ((S_2 1 (5 : Int32).toNatClampNeg ≤ x2_2 → (post x1_2 S_2)) ∧ (¬ S_2 1 (5 : Int32).toNatClampNeg ≤ x2_2 → (zw_r x2_2 (4 : Int32) S_2 (fun (r_5 : Int32) (S_4 : zt_S) => (¬ r_5 = (-1 : Int32) → (zw_r x2_2 (0 : Int32) S_4 (fun (r_8 : Int32) (S_7 : zt_S) => zw_r x2_2 (1 : Int32) S_7 (fun (r_10 : Int32) (S_9 : zt_S) => ∀ x_11 : Int32, x_11 = x1_2 ||| ((1 : Int32) <<< ((((3 : Int32) * r_8) + r_10) &&& 31)) → (In_2 x_11 (x2_2 + (1 : Int32)) S_9 ∧ mu_2 x_11 (x2_2 + (1 : Int32)) S_9 < mu_2 x1_2 x2_2 S_2))))) ∧ (r_5 = (-1 : Int32) → (In_2 (x1_2 ||| (0 : Int32)) (x2_2 + (1 : Int32)) S_4 ∧ mu_2 (x1_2 ||| (0 : Int32)) (x2_2 + (1 : Int32)) S_4 < mu_2 x1_2 x2_2 S_2))))))))
set_option maxHeartbeats 4000000 in
theorem zm_papers (l : Launch) (g : zt_G) (S : zt_S) (post : Int32 → zt_S → Prop) (hw : zw_papers S post) : Met l yX5_papers (ws_ yX5_papers cX5_papers 3 (some .int)) ({ frames := 1, cells := 0, slots := 0, locals := 22 } : Room) (va_Pc (.ref g.2.1 :: []) (zt_B g S)) (va_Qi post (zt_B g) (zt_A g)) 0 0 (zt_A g) := by
  refine zt_met (by decide) rfl (Nat.le_of_ble_eq_true rfl) (fun p e s m below meth c ls hC hI hl => ?_)
  generalize (Value.ref g.2.1 :: ([] : List Value)).toArray = args at hC ⊢
  obtain ⟨hx, hb, hml, hown, hts, hr, hlk⟩ := hC
  have hl : lv_has ls 3 [(0, .ref g.2.1)] := hl
  unfold zw_papers at hw
  obtain ⟨H, eH⟩ : ∃ z, z = s.heap := ⟨_, rfl⟩
  obtain ⟨locs, elo⟩ : ∃ z : List Loc, z = [] := ⟨_, rfl⟩
  rw [← eH, ← elo] at hI ⊢
  refine lv_aload_n hx hb dX5_papers_0 rfl (lv_at hl 0 rfl) ?_
  refine lv_iconst (v := 0) hx hb dX5_papers_1 (by decide) ?_
  refine zt_put hx hb hts hown hI 0 (v := (0 : Int32)) (ty := .int) (by decide) q3632 rfl rfl (by decide +kernel) rfl rfl rfl dX5_papers_2 (fun H locs hI => ?_)
  obtain ⟨S_1, eS_1⟩ : ∃ z, z = zt_us S 0 0 (0 : Int32) := ⟨_, rfl⟩
  rw [← eS_1] at hI
  have hw := hw S_1 eS_1
  refine lv_iconst (v := 0) hx hb dX5_papers_5 (by decide) ?_
  refine lv_istore_n (lv' := [(1, .int (0 : Int32)), (0, .ref g.2.1)]) hx hb dX5_papers_6 rfl hl (by decide) rfl (fun ls hl => ?_)
  refine lv_iconst (v := 0) hx hb dX5_papers_7 (by decide) ?_
  refine lv_istore_n (lv' := [(2, .int (0 : Int32)), (1, .int (0 : Int32)), (0, .ref g.2.1)]) hx hb dX5_papers_8 rfl hl (by decide) rfl (fun ls hl => ?_)
  obtain ⟨In_2, mu_2, h0_2, hw⟩ := hw
  have hL_2 : ∀ (n : Nat) (x1_2 : Int32) (x2_2 : Int32) (S_2 : zt_S) (H : Heap) (locs : List Loc) (ls : Array Slot), mu_2 x1_2 x2_2 S_2 < n → In_2 x1_2 x2_2 S_2 → zt_I g S_2 s H locs → lv_has ls 3 [(0, .ref g.2.1), (1, .int x1_2), (2, .int x2_2)] → W p l e ({ frames := 1, cells := 0, slots := 0, locals := 22 } : Room) s m args below meth c H locs 0 0 (MQ below (va_Qi post (zt_B g) (zt_A g)) args s 0 0 (zt_A g)) (F0 m 9 ls []) := by
    intro n
    induction n with
    | zero => intro x1_2 x2_2 S_2 H locs ls hn _ _ _; exact absurd hn (Nat.not_lt_zero _)
    | succ n ih_2 =>
      intro x1_2 x2_2 S_2 H locs ls hn_2 hi_2 hI hl
      have hw := hw x1_2 x2_2 S_2 hi_2
      refine lv_iload_n hx hb dX5_papers_9 rfl (lv_at hl 2 rfl) ?_
      refine lv_aload_n hx hb dX5_papers_10 rfl (lv_at hl 0 rfl) ?_
      refine zt_get hx hb hts hown hI 1 (v := .ref g.2.2.1) (by decide) q3633 rfl rfl dX5_papers_11 ?_
      refine lv_iconst (v := 5) hx hb dX5_papers_14 (by decide) ?_
      refine zt_ld1 hx hb hI hw.1 dX5_papers_15 ?_
      have hw := hw.2
      refine lv_icmp_ge (tgt := 59) hx hb dX5_papers_16 (by decide) (fun hc_3 => ?_) (fun hc_3 => ?_)
      · have hw := hw.1 hc_3
        refine lv_iload_n hx hb dX5_papers_59 rfl (lv_at hl 1 rfl) ?_
        exact zt_iret hx hb hr hlk hI hw dX5_papers_60
      · have hw := hw.2 hc_3
        refine lv_iload_n hx hb dX5_papers_19 rfl (lv_at hl 1 rfl) ?_
        refine lv_aload_n hx hb dX5_papers_20 rfl (lv_at hl 0 rfl) ?_
        refine lv_iload_n hx hb dX5_papers_21 rfl (lv_at hl 2 rfl) ?_
        refine lv_iconst (v := 4) hx hb dX5_papers_22 (by decide) ?_
        refine zt_calli (As := [.int x2_2, .int (4 : Int32)]) (rest := [.int x1_2]) ⟨hx, hb, hml, hown, hts⟩ hI (zm_r l g x2_2 (4 : Int32) S_2 _ hw) (cwV 2 hts (lw_V q3761 q3763 qs49 q113 q3764) rfl rfl rfl hdT_r ⟨Nat.le_of_ble_eq_true rfl, Nat.le_of_ble_eq_true rfl⟩) rfl hl.1 rfl (lv_room (Nat.le_of_ble_eq_true rfl)) dX5_papers_23 ⟨Nat.le_refl _, Nat.le_refl _⟩ (fun r_5 S_4 H locs hw hI => ?_)
        refine lv_iconst (v := -1) hx hb dX5_papers_26 (by decide) ?_
        refine lv_icmp_ne (tgt := 34) hx hb dX5_papers_27 (by decide) (fun hc_6 => ?_) (fun hc_6 => ?_)
        · have hw := hw.1 hc_6
          refine lv_iconst (v := 1) hx hb dX5_papers_34 (by decide) ?_
          refine lv_iconst (v := 3) hx hb dX5_papers_35 (by decide) ?_
          refine lv_aload_n hx hb dX5_papers_36 rfl (lv_at hl 0 rfl) ?_
          refine lv_iload_n hx hb dX5_papers_37 rfl (lv_at hl 2 rfl) ?_
          refine lv_iconst (v := 0) hx hb dX5_papers_38 (by decide) ?_
          refine zt_calli (As := [.int x2_2, .int (0 : Int32)]) (rest := [.int (3 : Int32), .int (1 : Int32), .int x1_2]) ⟨hx, hb, hml, hown, hts⟩ hI (zm_r l g x2_2 (0 : Int32) S_4 _ hw) (cwV 2 hts (lw_V q3761 q3763 qs49 q113 q3764) rfl rfl rfl hdT_r ⟨Nat.le_of_ble_eq_true rfl, Nat.le_of_ble_eq_true rfl⟩) rfl hl.1 rfl (lv_room (Nat.le_of_ble_eq_true rfl)) dX5_papers_39 ⟨Nat.le_refl _, Nat.le_refl _⟩ (fun r_8 S_7 H locs hw hI => ?_)
          refine lv_imul hx hb dX5_papers_42 ?_
          refine lv_aload_n hx hb dX5_papers_43 rfl (lv_at hl 0 rfl) ?_
          refine lv_iload_n hx hb dX5_papers_44 rfl (lv_at hl 2 rfl) ?_
          refine lv_iconst (v := 1) hx hb dX5_papers_45 (by decide) ?_
          refine zt_calli (As := [.int x2_2, .int (1 : Int32)]) (rest := [.int ((3 : Int32) * r_8), .int (1 : Int32), .int x1_2]) ⟨hx, hb, hml, hown, hts⟩ hI (zm_r l g x2_2 (1 : Int32) S_7 _ hw) (cwV 2 hts (lw_V q3761 q3763 qs49 q113 q3764) rfl rfl rfl hdT_r ⟨Nat.le_of_ble_eq_true rfl, Nat.le_of_ble_eq_true rfl⟩) rfl hl.1 rfl (lv_room (Nat.le_of_ble_eq_true rfl)) dX5_papers_46 ⟨Nat.le_refl _, Nat.le_refl _⟩ (fun r_10 S_9 H locs hw hI => ?_)
          refine lv_iadd hx hb dX5_papers_49 ?_
          refine lv_ishl hx hb dX5_papers_50 ?_
          refine lv_ior hx hb dX5_papers_51 ?_
          refine lv_topi (fun x_11 ex_11 => ?_)
          have hw := hw x_11 ex_11
          refine lv_istore_n (lv' := [(1, .int x_11), (0, .ref g.2.1), (2, .int x2_2)]) hx hb dX5_papers_52 rfl hl (by decide) rfl (fun ls hl => ?_)
          refine lv_iinc (v := x2_2 + (1 : Int32)) (lv' := [(2, .int (x2_2 + (1 : Int32))), (1, .int x_11), (0, .ref g.2.1)]) hx hb dX5_papers_53 hl (k := 2) rfl rfl (by decide) rfl (fun ls hl => ?_)
          refine lv_goto (tgt := 9) hx hb dX5_papers_56 (by decide) ?_
          exact ih_2 _ _ _ H locs ls (Nat.lt_of_lt_of_le hw.2 (Nat.le_of_lt_succ hn_2)) hw.1 hI (lv_sub hl [2, 1, 0] rfl)
        · have hw := hw.2 hc_6
          refine lv_iconst (v := 0) hx hb dX5_papers_30 (by decide) ?_
          refine lv_goto (tgt := 51) hx hb dX5_papers_31 (by decide) ?_
          refine lv_ior hx hb dX5_papers_51 ?_
          refine lv_istore_n (lv' := [(1, .int (x1_2 ||| (0 : Int32))), (0, .ref g.2.1), (2, .int x2_2)]) hx hb dX5_papers_52 rfl hl (by decide) rfl (fun ls hl => ?_)
          refine lv_iinc (v := x2_2 + (1 : Int32)) (lv' := [(2, .int (x2_2 + (1 : Int32))), (1, .int (x1_2 ||| (0 : Int32))), (0, .ref g.2.1)]) hx hb dX5_papers_53 hl (k := 2) rfl rfl (by decide) rfl (fun ls hl => ?_)
          refine lv_goto (tgt := 9) hx hb dX5_papers_56 (by decide) ?_
          exact ih_2 _ _ _ H locs ls (Nat.lt_of_lt_of_le hw.2 (Nat.le_of_lt_succ hn_2)) hw.1 hI (lv_sub hl [2, 1, 0] rfl)
  exact hL_2 _ _ _ _ H locs ls (Nat.lt_succ_self _) h0_2 hI (lv_sub hl [2, 1, 0] rfl)
theorem hdT_papers : yX5_papers.cls = RX5 ∧ yX5_papers.cls ≠ "java/lang/invoke/MethodHandle" ∧ yX5_papers.cls ≠ "java/lang/invoke/VarHandle" ∧ (parseMethodDescriptor yX5_papers.desc).map (fun d => d.parameters.length) = some 0 := by decide +kernel
def zw_passes (p1 : Int32) (S : zt_S) (post : Int32 → zt_S → Prop) : Prop :=
  zw_in p1 (1 : Int32) (30 : Int32) (fun (r_1 : Int32) => (¬ r_1 = (0 : Int32) → (∀ S_3 : zt_S, S_3 = zt_us S 0 4 (0 : Int32) → (∃ (In_4 : Int32 → zt_S → Prop) (mu_4 : Int32 → zt_S → Nat), In_4 (0 : Int32) S_3 ∧ ∀ (x2_4 : Int32) (S_4 : zt_S), In_4 x2_4 S_4 → ((p1 ≤ x2_4 → (post (0 : Int32) S_4)) ∧ (¬ p1 ≤ x2_4 → (zw_dayGoes S_4 (fun (r_7 : Int32) (S_6 : zt_S) => ∀ S_8 : zt_S, S_8 = zt_us S_6 0 4 ((S_4 0 4) + r_7) → (In_4 (x2_4 + (1 : Int32)) S_8 ∧ mu_4 (x2_4 + (1 : Int32)) S_8 < mu_4 x2_4 S_4)))))))) ∧ (r_1 = (0 : Int32) → (post (2 : Int32) S)))
set_option maxHeartbeats 4000000 in
theorem zm_passes (l : Launch) (g : zt_G) (p1 : Int32) (S : zt_S) (post : Int32 → zt_S → Prop) (hw : zw_passes p1 S post) : Met l yX5_passes (ws_ yX5_passes cX5_passes 3 (some .int)) ({ frames := 4, cells := 0, slots := 0, locals := 99 } : Room) (va_Pc (.ref g.2.1 :: [.int p1]) (zt_B g S)) (va_Qi post (zt_B g) (zt_A g)) 0 0 (zt_A g) := by
  refine zt_met (by decide) rfl (Nat.le_of_ble_eq_true rfl) (fun p e s m below meth c ls hC hI hl => ?_)
  generalize (Value.ref g.2.1 :: ([.int p1] : List Value)).toArray = args at hC ⊢
  obtain ⟨hx, hb, hml, hown, hts, hr, hlk⟩ := hC
  have hl : lv_has ls 3 [(0, .ref g.2.1), (1, .int p1)] := hl
  unfold zw_passes at hw
  obtain ⟨H, eH⟩ : ∃ z, z = s.heap := ⟨_, rfl⟩
  obtain ⟨locs, elo⟩ : ∃ z : List Loc, z = [] := ⟨_, rfl⟩
  rw [← eH, ← elo] at hI ⊢
  refine lv_iload_n hx hb dX5_passes_0 rfl (lv_at hl 1 rfl) ?_
  refine lv_iconst (v := 1) hx hb dX5_passes_1 (by decide) ?_
  refine lv_bipush (v := 30) hx hb dX5_passes_2 (by decide) ?_
  refine zt_callS (As := [.int p1, .int (1 : Int32), .int (30 : Int32)]) (rest := []) ⟨hx, hb, hml, hown, hts⟩ (zm_in l p1 (1 : Int32) (30 : Int32) _ hw) (va_cwS 3 hts (lw_S q3693 q3694 q113 q3695) rfl rfl rfl hdT_in ⟨Nat.le_of_ble_eq_true rfl, Nat.le_of_ble_eq_true rfl⟩) rfl hl.1 rfl (lv_room (Nat.le_of_ble_eq_true rfl)) dX5_passes_4 ⟨Nat.le_refl _, Nat.le_refl _⟩ (fun r_1 hw => ?_)
  refine lv_if_ne (tgt := 12) hx hb dX5_passes_7 (by decide) (fun hc_2 => ?_) (fun hc_2 => ?_)
  · have hw := hw.1 hc_2
    refine lv_aload_n hx hb dX5_passes_12 rfl (lv_at hl 0 rfl) ?_
    refine lv_iconst (v := 0) hx hb dX5_passes_13 (by decide) ?_
    refine zt_put hx hb hts hown hI 4 (v := (0 : Int32)) (ty := .int) (by decide) q3636 rfl rfl (by decide +kernel) rfl rfl rfl dX5_passes_14 (fun H locs hI => ?_)
    obtain ⟨S_3, eS_3⟩ : ∃ z, z = zt_us S 0 4 (0 : Int32) := ⟨_, rfl⟩
    rw [← eS_3] at hI
    have hw := hw S_3 eS_3
    refine lv_iconst (v := 0) hx hb dX5_passes_17 (by decide) ?_
    refine lv_istore_n (lv' := [(2, .int (0 : Int32)), (0, .ref g.2.1), (1, .int p1)]) hx hb dX5_passes_18 rfl hl (by decide) rfl (fun ls hl => ?_)
    obtain ⟨In_4, mu_4, h0_4, hw⟩ := hw
    have hL_4 : ∀ (n : Nat) (x2_4 : Int32) (S_4 : zt_S) (H : Heap) (locs : List Loc) (ls : Array Slot), mu_4 x2_4 S_4 < n → In_4 x2_4 S_4 → zt_I g S_4 s H locs → lv_has ls 3 [(0, .ref g.2.1), (1, .int p1), (2, .int x2_4)] → W p l e ({ frames := 4, cells := 0, slots := 0, locals := 99 } : Room) s m args below meth c H locs 0 0 (MQ below (va_Qi post (zt_B g) (zt_A g)) args s 0 0 (zt_A g)) (F0 m 19 ls []) := by
      intro n
      induction n with
      | zero => intro x2_4 S_4 H locs ls hn _ _ _; exact absurd hn (Nat.not_lt_zero _)
      | succ n ih_4 =>
        intro x2_4 S_4 H locs ls hn_4 hi_4 hI hl
        have hw := hw x2_4 S_4 hi_4
        refine lv_iload_n hx hb dX5_passes_19 rfl (lv_at hl 2 rfl) ?_
        refine lv_iload_n hx hb dX5_passes_20 rfl (lv_at hl 1 rfl) ?_
        refine lv_icmp_ge (tgt := 43) hx hb dX5_passes_21 (by decide) (fun hc_5 => ?_) (fun hc_5 => ?_)
        · have hw := hw.1 hc_5
          refine lv_iconst (v := 0) hx hb dX5_passes_43 (by decide) ?_
          exact zt_iret hx hb hr hlk hI hw dX5_passes_44
        · have hw := hw.2 hc_5
          refine lv_aload_n hx hb dX5_passes_24 rfl (lv_at hl 0 rfl) ?_
          refine lv_dup hx hb dX5_passes_25 rfl ?_
          refine zt_get hx hb hts hown hI 4 (v := .int (S_4 0 4)) (by decide) q3636 rfl rfl dX5_passes_26 ?_
          refine lv_aload_n hx hb dX5_passes_29 rfl (lv_at hl 0 rfl) ?_
          refine zt_calli (As := []) (rest := [.int (S_4 0 4), .ref g.2.1]) ⟨hx, hb, hml, hown, hts⟩ hI (zm_dayGoes l g S_4 _ hw) (cwV 0 hts (lw_V q3851 q3853 qs62 q113 q3854) rfl rfl rfl hdT_dayGoes ⟨Nat.le_of_ble_eq_true rfl, Nat.le_of_ble_eq_true rfl⟩) rfl hl.1 rfl (lv_room (Nat.le_of_ble_eq_true rfl)) dX5_passes_30 ⟨Nat.le_refl _, Nat.le_refl _⟩ (fun r_7 S_6 H locs hw hI => ?_)
          refine lv_iadd hx hb dX5_passes_33 ?_
          refine zt_put hx hb hts hown hI 4 (v := (S_4 0 4) + r_7) (ty := .int) (by decide) q3636 rfl rfl (by decide +kernel) rfl rfl rfl dX5_passes_34 (fun H locs hI => ?_)
          obtain ⟨S_8, eS_8⟩ : ∃ z, z = zt_us S_6 0 4 ((S_4 0 4) + r_7) := ⟨_, rfl⟩
          rw [← eS_8] at hI
          have hw := hw S_8 eS_8
          refine lv_iinc (v := x2_4 + (1 : Int32)) (lv' := [(2, .int (x2_4 + (1 : Int32))), (0, .ref g.2.1), (1, .int p1)]) hx hb dX5_passes_37 hl (k := 2) rfl rfl (by decide) rfl (fun ls hl => ?_)
          refine lv_goto (tgt := 19) hx hb dX5_passes_40 (by decide) ?_
          exact ih_4 _ _ H locs ls (Nat.lt_of_lt_of_le hw.2 (Nat.le_of_lt_succ hn_4)) hw.1 hI (lv_sub hl [1, 2, 0] rfl)
    exact hL_4 _ _ _ H locs ls (Nat.lt_succ_self _) h0_4 hI (lv_sub hl [1, 2, 0] rfl)
  · have hw := hw.2 hc_2
    refine lv_iconst (v := 2) hx hb dX5_passes_10 (by decide) ?_
    exact zt_iret hx hb hr hlk hI hw dX5_passes_11
theorem hdT_passes : yX5_passes.cls = RX5 ∧ yX5_passes.cls ≠ "java/lang/invoke/MethodHandle" ∧ yX5_passes.cls ≠ "java/lang/invoke/VarHandle" ∧ (parseMethodDescriptor yX5_passes.desc).map (fun d => d.parameters.length) = some 1 := by decide +kernel
def zw_days (p1 : Int32) (S : zt_S) (post : Int32 → zt_S → Prop) : Prop :=
  zw_begins S (fun (S_1 : zt_S) => zw_passes p1 S_1 (fun (r_3 : Int32) (S_2 : zt_S) => zw_ends r_3 (0 : Int32) (1 : Int32) (0 : Int32) S_2 (fun (r_5 : Int32) (S_4 : zt_S) => post r_5 S_4)))
set_option maxHeartbeats 4000000 in
theorem zm_days (l : Launch) (g : zt_G) (p1 : Int32) (S : zt_S) (post : Int32 → zt_S → Prop) (hw : zw_days p1 S post) : Met l yX5_days (ws_ yX5_days cX5_days 2 (some .int)) ({ frames := 5, cells := 0, slots := 0, locals := 121 } : Room) (va_Pc (.ref g.2.1 :: [.int p1]) (zt_B g S)) (va_Qi post (zt_B g) (zt_A g)) 0 0 (zt_A g) := by
  refine zt_met (by decide) rfl (Nat.le_of_ble_eq_true rfl) (fun p e s m below meth c ls hC hI hl => ?_)
  generalize (Value.ref g.2.1 :: ([.int p1] : List Value)).toArray = args at hC ⊢
  obtain ⟨hx, hb, hml, hown, hts, hr, hlk⟩ := hC
  have hl : lv_has ls 2 [(0, .ref g.2.1), (1, .int p1)] := hl
  unfold zw_days at hw
  obtain ⟨H, eH⟩ : ∃ z, z = s.heap := ⟨_, rfl⟩
  obtain ⟨locs, elo⟩ : ∃ z : List Loc, z = [] := ⟨_, rfl⟩
  rw [← eH, ← elo] at hI ⊢
  refine lv_aload_n hx hb dX5_days_0 rfl (lv_at hl 0 rfl) ?_
  refine zt_callv (As := []) (rest := []) ⟨hx, hb, hml, hown, hts⟩ hI (zm_begins l g S _ hw) (cwV 0 hts (lw_V q3700 q3702 qs39 q113 q3703) rfl rfl rfl hdT_begins ⟨Nat.le_of_ble_eq_true rfl, Nat.le_of_ble_eq_true rfl⟩) rfl hl.1 rfl (lv_room (Nat.le_of_ble_eq_true rfl)) dX5_days_1 ⟨Nat.le_refl _, Nat.le_refl _⟩ (fun S_1 H locs hw hI => ?_)
  refine lv_aload_n hx hb dX5_days_4 rfl (lv_at hl 0 rfl) ?_
  refine lv_aload_n hx hb dX5_days_5 rfl (lv_at hl 0 rfl) ?_
  refine lv_iload_n hx hb dX5_days_6 rfl (lv_at hl 1 rfl) ?_
  refine zt_calli (As := [.int p1]) (rest := [.ref g.2.1]) ⟨hx, hb, hml, hown, hts⟩ hI (zm_passes l g p1 S_1 _ hw) (cwV 1 hts (lw_V q3987 q3989 qs81 q113 q3990) rfl rfl rfl hdT_passes ⟨Nat.le_of_ble_eq_true rfl, Nat.le_of_ble_eq_true rfl⟩) rfl hl.1 rfl (lv_room (Nat.le_of_ble_eq_true rfl)) dX5_days_7 ⟨Nat.le_refl _, Nat.le_refl _⟩ (fun r_3 S_2 H locs hw hI => ?_)
  refine lv_iconst (v := 0) hx hb dX5_days_10 (by decide) ?_
  refine lv_iconst (v := 1) hx hb dX5_days_11 (by decide) ?_
  refine lv_iconst (v := 0) hx hb dX5_days_12 (by decide) ?_
  refine zt_calli (As := [.int r_3, .int (0 : Int32), .int (1 : Int32), .int (0 : Int32)]) (rest := []) ⟨hx, hb, hml, hown, hts⟩ hI (zm_ends l g r_3 (0 : Int32) (1 : Int32) (0 : Int32) S_2 _ hw) (cwV 4 hts (lw_V q3735 q3737 qs46 q113 q3738) rfl rfl rfl hdT_ends ⟨Nat.le_of_ble_eq_true rfl, Nat.le_of_ble_eq_true rfl⟩) rfl hl.1 rfl (lv_room (Nat.le_of_ble_eq_true rfl)) dX5_days_13 ⟨Nat.le_refl _, Nat.le_refl _⟩ (fun r_5 S_4 H locs hw hI => ?_)
  exact zt_iret hx hb hr hlk hI hw dX5_days_16
theorem hdT_days : yX5_days.cls = RX5 ∧ yX5_days.cls ≠ "java/lang/invoke/MethodHandle" ∧ yX5_days.cls ≠ "java/lang/invoke/VarHandle" ∧ (parseMethodDescriptor yX5_days.desc).map (fun d => d.parameters.length) = some 1 := by decide +kernel
def zw_writes (p1 : Int32) (S : zt_S) (post : zt_S → Prop) : Prop :=
  vp_in (S 0 8) 100 ∧ ∀ S_1 : zt_S, S_1 = zt_us S 2 (S 0 8).toNatClampNeg (vp_nar .char ((p1.toUInt32 % 65536).toInt32)) → (∀ S_2 : zt_S, S_2 = zt_us S_1 0 8 ((S_1 0 8) + (1 : Int32)) → (post S_2))
set_option maxHeartbeats 4000000 in
theorem zm_writes (l : Launch) (g : zt_G) (p1 : Int32) (S : zt_S) (post : zt_S → Prop) (hw : zw_writes p1 S post) : Met l yX5_writes (ws_ yX5_writes cX5_writes 2 none) ({ frames := 0, cells := 0, slots := 0, locals := 0 } : Room) (va_Pc (.ref g.2.1 :: [.int p1]) (zt_B g S)) (va_Qv post (zt_B g) (zt_A g)) 0 0 (zt_A g) := by
  refine zt_met (by decide) rfl (Nat.le_of_ble_eq_true rfl) (fun p e s m below meth c ls hC hI hl => ?_)
  generalize (Value.ref g.2.1 :: ([.int p1] : List Value)).toArray = args at hC ⊢
  obtain ⟨hx, hb, hml, hown, hts, hr, hlk⟩ := hC
  have hl : lv_has ls 2 [(0, .ref g.2.1), (1, .int p1)] := hl
  unfold zw_writes at hw
  obtain ⟨H, eH⟩ : ∃ z, z = s.heap := ⟨_, rfl⟩
  obtain ⟨locs, elo⟩ : ∃ z : List Loc, z = [] := ⟨_, rfl⟩
  rw [← eH, ← elo] at hI ⊢
  refine lv_aload_n hx hb dX5_writes_0 rfl (lv_at hl 0 rfl) ?_
  refine zt_get hx hb hts hown hI 7 (v := .ref g.2.2.2.1) (by decide) q3639 rfl rfl dX5_writes_1 ?_
  refine lv_aload_n hx hb dX5_writes_4 rfl (lv_at hl 0 rfl) ?_
  refine zt_get hx hb hts hown hI 8 (v := .int (S 0 8)) (by decide) q3640 rfl rfl dX5_writes_5 ?_
  refine lv_iload_n hx hb dX5_writes_8 rfl (lv_at hl 1 rfl) ?_
  refine lv_i2c (v := (p1.toUInt32 % 65536).toInt32) hx hb dX5_writes_9 rfl ?_
  refine zt_st2 hx hb hI hw.1 dX5_writes_10 (fun H locs hI => ?_)
  obtain ⟨S_1, eS_1⟩ : ∃ z, z = zt_us S 2 (S 0 8).toNatClampNeg (vp_nar .char ((p1.toUInt32 % 65536).toInt32)) := ⟨_, rfl⟩
  rw [← eS_1] at hI
  have hw := hw.2 S_1 eS_1
  refine lv_aload_n hx hb dX5_writes_11 rfl (lv_at hl 0 rfl) ?_
  refine lv_dup hx hb dX5_writes_12 rfl ?_
  refine zt_get hx hb hts hown hI 8 (v := .int (S_1 0 8)) (by decide) q3640 rfl rfl dX5_writes_13 ?_
  refine lv_iconst (v := 1) hx hb dX5_writes_16 (by decide) ?_
  refine lv_iadd hx hb dX5_writes_17 ?_
  refine zt_put hx hb hts hown hI 8 (v := (S_1 0 8) + (1 : Int32)) (ty := .int) (by decide) q3640 rfl rfl (by decide +kernel) rfl rfl rfl dX5_writes_18 (fun H locs hI => ?_)
  obtain ⟨S_2, eS_2⟩ : ∃ z, z = zt_us S_1 0 8 ((S_1 0 8) + (1 : Int32)) := ⟨_, rfl⟩
  rw [← eS_2] at hI
  have hw := hw S_2 eS_2
  exact zt_vret hx hb hr hlk hI hw dX5_writes_21
theorem hdT_writes : yX5_writes.cls = RX5 ∧ yX5_writes.cls ≠ "java/lang/invoke/MethodHandle" ∧ yX5_writes.cls ≠ "java/lang/invoke/VarHandle" ∧ (parseMethodDescriptor yX5_writes.desc).map (fun d => d.parameters.length) = some 1 := by decide +kernel
def zw_writesReam_17 (post : zt_S → Prop) (v1 : Int32) (S : zt_S) : Prop :=
  zw_writes ((48 : Int32) + (v1 - v1 / (10 : Int32) * (10 : Int32))) S (fun (S_2 : zt_S) => zw_isWavy v1 S_2 (fun (r_4 : Int32) (S_3 : zt_S) => (r_4 = (0 : Int32) → (post S_3)) ∧ (¬ r_4 = (0 : Int32) → (zw_writes (126 : Int32) S_3 (fun (S_6 : zt_S) => post S_6)))))
set_option maxHeartbeats 4000000 in
theorem zj_writesReam_17 {p : Program} {l : Launch} {e : Env} {s : State} {m : MethodId} {args : Array Value} {below : List Frame} {meth : Method} {c : Code} {H : Heap} {locs : List Loc} {ls : Array Slot} (g : zt_G) (post : zt_S → Prop) (v1 : Int32) (S : zt_S) (hC : zt_C p s m args meth c cX5_writesReam 2 none) (hw : zw_writesReam_17 post v1 S) (hI : zt_I g S s H locs) (hl : lv_has ls 2 [(0, .ref g.2.1), (1, .int v1)]) : W p l e ({ frames := 2, cells := 0, slots := 0, locals := 43 } : Room) s m args below meth c H locs 0 0 (MQ below (va_Qv post (zt_B g) (zt_A g)) args s 0 0 (zt_A g)) (F0 m 17 ls []) := by
  obtain ⟨hx, hb, hml, hown, hts, hr, hlk⟩ := hC
  unfold zw_writesReam_17 at hw
  refine lv_aload_n hx hb dX5_writesReam_17 rfl (lv_at hl 0 rfl) ?_
  refine lv_bipush (v := 48) hx hb dX5_writesReam_18 (by decide) ?_
  refine lv_iload_n hx hb dX5_writesReam_20 rfl (lv_at hl 1 rfl) ?_
  refine lv_bipush (v := 10) hx hb dX5_writesReam_21 (by decide) ?_
  refine lv_irem hx hb dX5_writesReam_23 (by decide) ?_
  refine lv_iadd hx hb dX5_writesReam_24 ?_
  refine zt_callv (As := [.int ((48 : Int32) + (v1 - v1 / (10 : Int32) * (10 : Int32)))]) (rest := []) ⟨hx, hb, hml, hown, hts⟩ hI (zm_writes l g ((48 : Int32) + (v1 - v1 / (10 : Int32) * (10 : Int32))) S _ hw) (cwV 1 hts (lw_V q3995 q3997 qs82 q113 q3998) rfl rfl rfl hdT_writes ⟨Nat.le_of_ble_eq_true rfl, Nat.le_of_ble_eq_true rfl⟩) rfl hl.1 rfl (lv_room (Nat.le_of_ble_eq_true rfl)) dX5_writesReam_25 ⟨Nat.le_refl _, Nat.le_refl _⟩ (fun S_2 H locs hw hI => ?_)
  refine lv_aload_n hx hb dX5_writesReam_28 rfl (lv_at hl 0 rfl) ?_
  refine lv_iload_n hx hb dX5_writesReam_29 rfl (lv_at hl 1 rfl) ?_
  refine zt_calli (As := [.int v1]) (rest := []) ⟨hx, hb, hml, hown, hts⟩ hI (zm_isWavy l g v1 S_2 _ hw) (cwV 1 hts (lw_V q3793 q3795 qs54 q113 q3796) rfl rfl rfl hdT_isWavy ⟨Nat.le_of_ble_eq_true rfl, Nat.le_of_ble_eq_true rfl⟩) rfl hl.1 rfl (lv_room (Nat.le_of_ble_eq_true rfl)) dX5_writesReam_30 ⟨Nat.le_refl _, Nat.le_refl _⟩ (fun r_4 S_3 H locs hw hI => ?_)
  refine lv_if_eq (tgt := 42) hx hb dX5_writesReam_33 (by decide) (fun hc_5 => ?_) (fun hc_5 => ?_)
  · have hw := hw.1 hc_5
    exact zt_vret hx hb hr hlk hI hw dX5_writesReam_42
  · have hw := hw.2 hc_5
    refine lv_aload_n hx hb dX5_writesReam_36 rfl (lv_at hl 0 rfl) ?_
    refine lv_bipush (v := 126) hx hb dX5_writesReam_37 (by decide) ?_
    refine zt_callv (As := [.int (126 : Int32)]) (rest := []) ⟨hx, hb, hml, hown, hts⟩ hI (zm_writes l g (126 : Int32) S_3 _ hw) (cwV 1 hts (lw_V q3995 q3997 qs82 q113 q3998) rfl rfl rfl hdT_writes ⟨Nat.le_of_ble_eq_true rfl, Nat.le_of_ble_eq_true rfl⟩) rfl hl.1 rfl (lv_room (Nat.le_of_ble_eq_true rfl)) dX5_writesReam_39 ⟨Nat.le_refl _, Nat.le_refl _⟩ (fun S_6 H locs hw hI => ?_)
    exact zt_vret hx hb hr hlk hI hw dX5_writesReam_42
def zw_writesReam (p1 : Int32) (S : zt_S) (post : zt_S → Prop) : Prop :=
  (p1 ≤ (9 : Int32) → (zw_writesReam_17 post p1 S)) ∧ (¬ p1 ≤ (9 : Int32) → (zw_writes ((48 : Int32) + (p1 / (10 : Int32))) S (fun (S_7 : zt_S) => zw_writesReam_17 post p1 S_7)))
set_option maxHeartbeats 4000000 in
theorem zm_writesReam (l : Launch) (g : zt_G) (p1 : Int32) (S : zt_S) (post : zt_S → Prop) (hw : zw_writesReam p1 S post) : Met l yX5_writesReam (ws_ yX5_writesReam cX5_writesReam 2 none) ({ frames := 2, cells := 0, slots := 0, locals := 43 } : Room) (va_Pc (.ref g.2.1 :: [.int p1]) (zt_B g S)) (va_Qv post (zt_B g) (zt_A g)) 0 0 (zt_A g) := by
  refine zt_met (by decide) rfl (Nat.le_of_ble_eq_true rfl) (fun p e s m below meth c ls hC hI hl => ?_)
  generalize (Value.ref g.2.1 :: ([.int p1] : List Value)).toArray = args at hC ⊢
  obtain ⟨hx, hb, hml, hown, hts, hr, hlk⟩ := hC
  have hl : lv_has ls 2 [(0, .ref g.2.1), (1, .int p1)] := hl
  unfold zw_writesReam at hw
  obtain ⟨H, eH⟩ : ∃ z, z = s.heap := ⟨_, rfl⟩
  obtain ⟨locs, elo⟩ : ∃ z : List Loc, z = [] := ⟨_, rfl⟩
  rw [← eH, ← elo] at hI ⊢
  refine lv_iload_n hx hb dX5_writesReam_0 rfl (lv_at hl 1 rfl) ?_
  refine lv_bipush (v := 9) hx hb dX5_writesReam_1 (by decide) ?_
  refine lv_icmp_le (tgt := 17) hx hb dX5_writesReam_3 (by decide) (fun hc_1 => ?_) (fun hc_1 => ?_)
  · have hw := hw.1 hc_1
    exact zj_writesReam_17 g post p1 S ⟨hx, hb, hml, hown, hts, hr, hlk⟩ hw hI (lv_sub hl [0, 1] rfl)
  · have hw := hw.2 hc_1
    refine lv_aload_n hx hb dX5_writesReam_6 rfl (lv_at hl 0 rfl) ?_
    refine lv_bipush (v := 48) hx hb dX5_writesReam_7 (by decide) ?_
    refine lv_iload_n hx hb dX5_writesReam_9 rfl (lv_at hl 1 rfl) ?_
    refine lv_bipush (v := 10) hx hb dX5_writesReam_10 (by decide) ?_
    refine lv_idiv hx hb dX5_writesReam_12 (by decide) ?_
    refine lv_iadd hx hb dX5_writesReam_13 ?_
    refine zt_callv (As := [.int ((48 : Int32) + (p1 / (10 : Int32)))]) (rest := []) ⟨hx, hb, hml, hown, hts⟩ hI (zm_writes l g ((48 : Int32) + (p1 / (10 : Int32))) S _ hw) (cwV 1 hts (lw_V q3995 q3997 qs82 q113 q3998) rfl rfl rfl hdT_writes ⟨Nat.le_of_ble_eq_true rfl, Nat.le_of_ble_eq_true rfl⟩) rfl hl.1 rfl (lv_room (Nat.le_of_ble_eq_true rfl)) dX5_writesReam_14 ⟨Nat.le_refl _, Nat.le_refl _⟩ (fun S_7 H locs hw hI => ?_)
    exact zj_writesReam_17 g post p1 S_7 ⟨hx, hb, hml, hown, hts, hr, hlk⟩ hw hI (lv_sub hl [0, 1] rfl)
theorem hdT_writesReam : yX5_writesReam.cls = RX5 ∧ yX5_writesReam.cls ≠ "java/lang/invoke/MethodHandle" ∧ yX5_writesReam.cls ≠ "java/lang/invoke/VarHandle" ∧ (parseMethodDescriptor yX5_writesReam.desc).map (fun d => d.parameters.length) = some 1 := by decide +kernel
def zw_tell_85 (post : Int32 → zt_S → Prop) (hd32 : Int32 → zt_S → Prop) (hd68 : Int32 → zt_S → Prop) (v1 : Int32) (v2 : Int32) (v3 : Int32) (v4 : Int32) (S : zt_S) : Prop :=
  zw_reamAt v1 v2 v4 S (fun (r_16 : Int32) (S_15 : zt_S) => zw_writesReam r_16 S_15 (fun (S_17 : zt_S) => hd68 (v4 + (1 : Int32)) S_17))
set_option maxHeartbeats 4000000 in
theorem zj_tell_85 {p : Program} {l : Launch} {e : Env} {s : State} {m : MethodId} {args : Array Value} {below : List Frame} {meth : Method} {c : Code} {H : Heap} {locs : List Loc} {ls : Array Slot} (g : zt_G) (post : Int32 → zt_S → Prop) (hd32 : Int32 → zt_S → Prop) (hd68 : Int32 → zt_S → Prop) (v1 : Int32) (v2 : Int32) (v3 : Int32) (v4 : Int32) (S : zt_S) (hC : zt_C p s m args meth c cX5_tell 5 (some .int)) (hw : zw_tell_85 post hd32 hd68 v1 v2 v3 v4 S) (hhd32 : ∀ (y0 : Int32) (T : zt_S) (H : Heap) (locs : List Loc) (ls : Array Slot), hd32 y0 T → zt_I g T s H locs → lv_has ls 5 [(0, .ref g.2.1), (1, .int v1), (2, .int y0)] → W p l e ({ frames := 3, cells := 0, slots := 0, locals := 64 } : Room) s m args below meth c H locs 0 0 (MQ below (va_Qi post (zt_B g) (zt_A g)) args s 0 0 (zt_A g)) (F0 m 32 ls [])) (hhd68 : ∀ (y0 : Int32) (T : zt_S) (H : Heap) (locs : List Loc) (ls : Array Slot), hd68 y0 T → zt_I g T s H locs → lv_has ls 5 [(0, .ref g.2.1), (1, .int v1), (2, .int v2), (3, .int v3), (4, .int y0)] → W p l e ({ frames := 3, cells := 0, slots := 0, locals := 64 } : Room) s m args below meth c H locs 0 0 (MQ below (va_Qi post (zt_B g) (zt_A g)) args s 0 0 (zt_A g)) (F0 m 68 ls [])) (hI : zt_I g S s H locs) (hl : lv_has ls 5 [(0, .ref g.2.1), (1, .int v1), (2, .int v2), (3, .int v3), (4, .int v4)]) : W p l e ({ frames := 3, cells := 0, slots := 0, locals := 64 } : Room) s m args below meth c H locs 0 0 (MQ below (va_Qi post (zt_B g) (zt_A g)) args s 0 0 (zt_A g)) (F0 m 85 ls []) := by
  obtain ⟨hx, hb, hml, hown, hts, hr, hlk⟩ := hC
  unfold zw_tell_85 at hw
  refine lv_aload_n hx hb dX5_tell_85 rfl (lv_at hl 0 rfl) ?_
  refine lv_aload_n hx hb dX5_tell_86 rfl (lv_at hl 0 rfl) ?_
  refine lv_iload_n hx hb dX5_tell_87 rfl (lv_at hl 1 rfl) ?_
  refine lv_iload_n hx hb dX5_tell_88 rfl (lv_at hl 2 rfl) ?_
  refine lv_iload hx hb dX5_tell_89 (lv_at hl 4 rfl) ?_
  refine zt_calli (As := [.int v1, .int v2, .int v4]) (rest := [.ref g.2.1]) ⟨hx, hb, hml, hown, hts⟩ hI (zm_reamAt l g v1 v2 v4 S _ hw) (cwV 3 hts (lw_V q3785 q3787 qs53 q113 q3788) rfl rfl rfl hdT_reamAt ⟨Nat.le_of_ble_eq_true rfl, Nat.le_of_ble_eq_true rfl⟩) rfl hl.1 rfl (lv_room (Nat.le_of_ble_eq_true rfl)) dX5_tell_91 ⟨Nat.le_refl _, Nat.le_refl _⟩ (fun r_16 S_15 H locs hw hI => ?_)
  refine zt_callv (As := [.int r_16]) (rest := []) ⟨hx, hb, hml, hown, hts⟩ hI (zm_writesReam l g r_16 S_15 _ hw) (cwV 1 hts (lw_V q3999 q4001 qs83 q113 q4002) rfl rfl rfl hdT_writesReam ⟨Nat.le_of_ble_eq_true rfl, Nat.le_of_ble_eq_true rfl⟩) rfl hl.1 rfl (lv_room (Nat.le_of_ble_eq_true rfl)) dX5_tell_94 ⟨Nat.le_refl _, Nat.le_refl _⟩ (fun S_17 H locs hw hI => ?_)
  refine lv_iinc (v := v4 + (1 : Int32)) (lv' := [(4, .int (v4 + (1 : Int32))), (0, .ref g.2.1), (1, .int v1), (2, .int v2), (3, .int v3)]) hx hb dX5_tell_97 hl (k := 4) rfl rfl (by decide) rfl (fun ls hl => ?_)
  refine lv_goto (tgt := 68) hx hb dX5_tell_100 (by decide) ?_
  exact hhd68 _ _ H locs ls hw hI (lv_sub hl [1, 2, 3, 4, 0] rfl)
def zw_tell_65 (post : Int32 → zt_S → Prop) (hd32 : Int32 → zt_S → Prop) (v1 : Int32) (v2 : Int32) (v3 : Int32) (S : zt_S) : Prop :=
  ∃ (In_12 : Int32 → zt_S → Prop) (mu_12 : Int32 → zt_S → Nat), In_12 (0 : Int32) S ∧ ∀ (x4_12 : Int32) (S_12 : zt_S), In_12 x4_12 S_12 → ((v3 ≤ x4_12 → (hd32 (v2 + (1 : Int32)) S_12)) ∧ (¬ v3 ≤ x4_12 → ((x4_12 ≤ (0 : Int32) → (zw_tell_85 post (fun (y0 : Int32) (T : zt_S) => hd32 y0 T) (fun (y0 : Int32) (T : zt_S) => In_12 y0 T ∧ mu_12 y0 T < mu_12 x4_12 S_12) v1 v2 v3 x4_12 S_12)) ∧ (¬ x4_12 ≤ (0 : Int32) → (zw_writes (44 : Int32) S_12 (fun (S_18 : zt_S) => zw_tell_85 post (fun (y0 : Int32) (T : zt_S) => hd32 y0 T) (fun (y0 : Int32) (T : zt_S) => In_12 y0 T ∧ mu_12 y0 T < mu_12 x4_12 S_12) v1 v2 v3 x4_12 S_18))))))
set_option maxHeartbeats 4000000 in
theorem zj_tell_65 {p : Program} {l : Launch} {e : Env} {s : State} {m : MethodId} {args : Array Value} {below : List Frame} {meth : Method} {c : Code} {H : Heap} {locs : List Loc} {ls : Array Slot} (g : zt_G) (post : Int32 → zt_S → Prop) (hd32 : Int32 → zt_S → Prop) (v1 : Int32) (v2 : Int32) (v3 : Int32) (S : zt_S) (hC : zt_C p s m args meth c cX5_tell 5 (some .int)) (hw : zw_tell_65 post hd32 v1 v2 v3 S) (hhd32 : ∀ (y0 : Int32) (T : zt_S) (H : Heap) (locs : List Loc) (ls : Array Slot), hd32 y0 T → zt_I g T s H locs → lv_has ls 5 [(0, .ref g.2.1), (1, .int v1), (2, .int y0)] → W p l e ({ frames := 3, cells := 0, slots := 0, locals := 64 } : Room) s m args below meth c H locs 0 0 (MQ below (va_Qi post (zt_B g) (zt_A g)) args s 0 0 (zt_A g)) (F0 m 32 ls [])) (hI : zt_I g S s H locs) (hl : lv_has ls 5 [(0, .ref g.2.1), (1, .int v1), (2, .int v2), (3, .int v3)]) : W p l e ({ frames := 3, cells := 0, slots := 0, locals := 64 } : Room) s m args below meth c H locs 0 0 (MQ below (va_Qi post (zt_B g) (zt_A g)) args s 0 0 (zt_A g)) (F0 m 65 ls []) := by
  obtain ⟨hx, hb, hml, hown, hts, hr, hlk⟩ := hC
  unfold zw_tell_65 at hw
  refine lv_iconst (v := 0) hx hb dX5_tell_65 (by decide) ?_
  refine lv_istore (lv' := [(4, .int (0 : Int32)), (0, .ref g.2.1), (1, .int v1), (2, .int v2), (3, .int v3)]) hx hb dX5_tell_66 hl (by decide) rfl (fun ls hl => ?_)
  obtain ⟨In_12, mu_12, h0_12, hw⟩ := hw
  have hL_12 : ∀ (n : Nat) (x4_12 : Int32) (S_12 : zt_S) (H : Heap) (locs : List Loc) (ls : Array Slot), mu_12 x4_12 S_12 < n → In_12 x4_12 S_12 → zt_I g S_12 s H locs → lv_has ls 5 [(0, .ref g.2.1), (1, .int v1), (2, .int v2), (3, .int v3), (4, .int x4_12)] → W p l e ({ frames := 3, cells := 0, slots := 0, locals := 64 } : Room) s m args below meth c H locs 0 0 (MQ below (va_Qi post (zt_B g) (zt_A g)) args s 0 0 (zt_A g)) (F0 m 68 ls []) := by
    intro n
    induction n with
    | zero => intro x4_12 S_12 H locs ls hn _ _ _; exact absurd hn (Nat.not_lt_zero _)
    | succ n ih_12 =>
      intro x4_12 S_12 H locs ls hn_12 hi_12 hI hl
      have hw := hw x4_12 S_12 hi_12
      refine lv_iload hx hb dX5_tell_68 (lv_at hl 4 rfl) ?_
      refine lv_iload_n hx hb dX5_tell_70 rfl (lv_at hl 3 rfl) ?_
      refine lv_icmp_ge (tgt := 103) hx hb dX5_tell_71 (by decide) (fun hc_13 => ?_) (fun hc_13 => ?_)
      · have hw := hw.1 hc_13
        refine lv_iinc (v := v2 + (1 : Int32)) (lv' := [(2, .int (v2 + (1 : Int32))), (0, .ref g.2.1), (1, .int v1), (3, .int v3), (4, .int x4_12)]) hx hb dX5_tell_103 hl (k := 2) rfl rfl (by decide) rfl (fun ls hl => ?_)
        refine lv_goto (tgt := 32) hx hb dX5_tell_106 (by decide) ?_
        exact hhd32 _ _ H locs ls hw hI (lv_sub hl [1, 2, 0] rfl)
      · have hw := hw.2 hc_13
        refine lv_iload hx hb dX5_tell_74 (lv_at hl 4 rfl) ?_
        refine lv_if_le (tgt := 85) hx hb dX5_tell_76 (by decide) (fun hc_14 => ?_) (fun hc_14 => ?_)
        · have hw := hw.1 hc_14
          exact zj_tell_85 g post (fun (y0 : Int32) (T : zt_S) => hd32 y0 T) (fun (y0 : Int32) (T : zt_S) => In_12 y0 T ∧ mu_12 y0 T < mu_12 x4_12 S_12) v1 v2 v3 x4_12 S_12 ⟨hx, hb, hml, hown, hts, hr, hlk⟩ hw hhd32 (fun _y0 _y1 H locs ls hw hI hl => ih_12 _ _ H locs ls (Nat.lt_of_lt_of_le hw.2 (Nat.le_of_lt_succ hn_12)) hw.1 hI hl) hI (lv_sub hl [0, 1, 2, 3, 4] rfl)
        · have hw := hw.2 hc_14
          refine lv_aload_n hx hb dX5_tell_79 rfl (lv_at hl 0 rfl) ?_
          refine lv_bipush (v := 44) hx hb dX5_tell_80 (by decide) ?_
          refine zt_callv (As := [.int (44 : Int32)]) (rest := []) ⟨hx, hb, hml, hown, hts⟩ hI (zm_writes l g (44 : Int32) S_12 _ hw) (cwV 1 hts (lw_V q3995 q3997 qs82 q113 q3998) rfl rfl rfl hdT_writes ⟨Nat.le_of_ble_eq_true rfl, Nat.le_of_ble_eq_true rfl⟩) rfl hl.1 rfl (lv_room (Nat.le_of_ble_eq_true rfl)) dX5_tell_82 ⟨Nat.le_refl _, Nat.le_refl _⟩ (fun S_18 H locs hw hI => ?_)
          exact zj_tell_85 g post (fun (y0 : Int32) (T : zt_S) => hd32 y0 T) (fun (y0 : Int32) (T : zt_S) => In_12 y0 T ∧ mu_12 y0 T < mu_12 x4_12 S_12) v1 v2 v3 x4_12 S_18 ⟨hx, hb, hml, hown, hts, hr, hlk⟩ hw hhd32 (fun _y0 _y1 H locs ls hw hI hl => ih_12 _ _ H locs ls (Nat.lt_of_lt_of_le hw.2 (Nat.le_of_lt_succ hn_12)) hw.1 hI hl) hI (lv_sub hl [0, 1, 2, 3, 4] rfl)
  exact hL_12 _ _ _ H locs ls (Nat.lt_succ_self _) h0_12 hI (lv_sub hl [1, 2, 3, 4, 0] rfl)
def zw_tell_48 (post : Int32 → zt_S → Prop) (hd32 : Int32 → zt_S → Prop) (v1 : Int32) (v2 : Int32) (S : zt_S) : Prop :=
  zw_heightOf v1 v2 S (fun (r_10 : Int32) (S_9 : zt_S) => (¬ r_10 = (0 : Int32) → (zw_tell_65 post (fun (y0 : Int32) (T : zt_S) => hd32 y0 T) v1 v2 r_10 S_9)) ∧ (r_10 = (0 : Int32) → (zw_writes (45 : Int32) S_9 (fun (S_19 : zt_S) => zw_tell_65 post (fun (y0 : Int32) (T : zt_S) => hd32 y0 T) v1 v2 r_10 S_19))))
set_option maxHeartbeats 4000000 in
theorem zj_tell_48 {p : Program} {l : Launch} {e : Env} {s : State} {m : MethodId} {args : Array Value} {below : List Frame} {meth : Method} {c : Code} {H : Heap} {locs : List Loc} {ls : Array Slot} (g : zt_G) (post : Int32 → zt_S → Prop) (hd32 : Int32 → zt_S → Prop) (v1 : Int32) (v2 : Int32) (S : zt_S) (hC : zt_C p s m args meth c cX5_tell 5 (some .int)) (hw : zw_tell_48 post hd32 v1 v2 S) (hhd32 : ∀ (y0 : Int32) (T : zt_S) (H : Heap) (locs : List Loc) (ls : Array Slot), hd32 y0 T → zt_I g T s H locs → lv_has ls 5 [(0, .ref g.2.1), (1, .int v1), (2, .int y0)] → W p l e ({ frames := 3, cells := 0, slots := 0, locals := 64 } : Room) s m args below meth c H locs 0 0 (MQ below (va_Qi post (zt_B g) (zt_A g)) args s 0 0 (zt_A g)) (F0 m 32 ls [])) (hI : zt_I g S s H locs) (hl : lv_has ls 5 [(0, .ref g.2.1), (1, .int v1), (2, .int v2)]) : W p l e ({ frames := 3, cells := 0, slots := 0, locals := 64 } : Room) s m args below meth c H locs 0 0 (MQ below (va_Qi post (zt_B g) (zt_A g)) args s 0 0 (zt_A g)) (F0 m 48 ls []) := by
  obtain ⟨hx, hb, hml, hown, hts, hr, hlk⟩ := hC
  unfold zw_tell_48 at hw
  refine lv_aload_n hx hb dX5_tell_48 rfl (lv_at hl 0 rfl) ?_
  refine lv_iload_n hx hb dX5_tell_49 rfl (lv_at hl 1 rfl) ?_
  refine lv_iload_n hx hb dX5_tell_50 rfl (lv_at hl 2 rfl) ?_
  refine zt_calli (As := [.int v1, .int v2]) (rest := []) ⟨hx, hb, hml, hown, hts⟩ hI (zm_heightOf l g v1 v2 S _ hw) (cwV 2 hts (lw_V q3757 q3759 qs48 q113 q3760) rfl rfl rfl hdT_heightOf ⟨Nat.le_of_ble_eq_true rfl, Nat.le_of_ble_eq_true rfl⟩) rfl hl.1 rfl (lv_room (Nat.le_of_ble_eq_true rfl)) dX5_tell_51 ⟨Nat.le_refl _, Nat.le_refl _⟩ (fun r_10 S_9 H locs hw hI => ?_)
  refine lv_istore_n (lv' := [(3, .int r_10), (0, .ref g.2.1), (1, .int v1), (2, .int v2)]) hx hb dX5_tell_54 rfl hl (by decide) rfl (fun ls hl => ?_)
  refine lv_iload_n hx hb dX5_tell_55 rfl (lv_at hl 0 rfl) ?_
  refine lv_if_ne (tgt := 65) hx hb dX5_tell_56 (by decide) (fun hc_11 => ?_) (fun hc_11 => ?_)
  · have hw := hw.1 hc_11
    exact zj_tell_65 g post (fun (y0 : Int32) (T : zt_S) => hd32 y0 T) v1 v2 r_10 S_9 ⟨hx, hb, hml, hown, hts, hr, hlk⟩ hw hhd32 hI (lv_sub hl [1, 2, 3, 0] rfl)
  · have hw := hw.2 hc_11
    refine lv_aload_n hx hb dX5_tell_59 rfl (lv_at hl 1 rfl) ?_
    refine lv_bipush (v := 45) hx hb dX5_tell_60 (by decide) ?_
    refine zt_callv (As := [.int (45 : Int32)]) (rest := []) ⟨hx, hb, hml, hown, hts⟩ hI (zm_writes l g (45 : Int32) S_9 _ hw) (cwV 1 hts (lw_V q3995 q3997 qs82 q113 q3998) rfl rfl rfl hdT_writes ⟨Nat.le_of_ble_eq_true rfl, Nat.le_of_ble_eq_true rfl⟩) rfl hl.1 rfl (lv_room (Nat.le_of_ble_eq_true rfl)) dX5_tell_62 ⟨Nat.le_refl _, Nat.le_refl _⟩ (fun S_19 H locs hw hI => ?_)
    exact zj_tell_65 g post (fun (y0 : Int32) (T : zt_S) => hd32 y0 T) v1 v2 r_10 S_19 ⟨hx, hb, hml, hown, hts, hr, hlk⟩ hw hhd32 hI (lv_sub hl [1, 2, 3, 0] rfl)
def zw_tell_13 (post : Int32 → zt_S → Prop) (t0 : Int32) (v1 : Int32) (S : zt_S) : Prop :=
  ∀ S_3 : zt_S, S_3 = zt_us S 0 0 t0 → ((S_3 0 0 = (0 : Int32) → (∀ S_5 : zt_S, S_5 = zt_us S_3 0 8 (0 : Int32) → (∃ (In_6 : Int32 → zt_S → Prop) (mu_6 : Int32 → zt_S → Nat), In_6 (0 : Int32) S_5 ∧ ∀ (x2_6 : Int32) (S_6 : zt_S), In_6 x2_6 S_6 → (((6 : Int32) ≤ x2_6 → (post (S_6 0 8) S_6)) ∧ (¬ (6 : Int32) ≤ x2_6 → ((x2_6 ≤ (0 : Int32) → (zw_tell_48 post (fun (y0 : Int32) (T : zt_S) => In_6 y0 T ∧ mu_6 y0 T < mu_6 x2_6 S_6) v1 x2_6 S_6)) ∧ (¬ x2_6 ≤ (0 : Int32) → (zw_writes (47 : Int32) S_6 (fun (S_20 : zt_S) => zw_tell_48 post (fun (y0 : Int32) (T : zt_S) => In_6 y0 T ∧ mu_6 y0 T < mu_6 x2_6 S_6) v1 x2_6 S_20))))))))) ∧ (¬ S_3 0 0 = (0 : Int32) → (post (0 : Int32) S_3)))
set_option maxHeartbeats 4000000 in
theorem zj_tell_13 {p : Program} {l : Launch} {e : Env} {s : State} {m : MethodId} {args : Array Value} {below : List Frame} {meth : Method} {c : Code} {H : Heap} {locs : List Loc} {ls : Array Slot} (g : zt_G) (post : Int32 → zt_S → Prop) (t0 : Int32) (v1 : Int32) (S : zt_S) (hC : zt_C p s m args meth c cX5_tell 5 (some .int)) (hw : zw_tell_13 post t0 v1 S) (hI : zt_I g S s H locs) (hl : lv_has ls 5 [(0, .ref g.2.1), (1, .int v1)]) : W p l e ({ frames := 3, cells := 0, slots := 0, locals := 64 } : Room) s m args below meth c H locs 0 0 (MQ below (va_Qi post (zt_B g) (zt_A g)) args s 0 0 (zt_A g)) (F0 m 13 ls [.int t0, .ref g.2.1]) := by
  obtain ⟨hx, hb, hml, hown, hts, hr, hlk⟩ := hC
  unfold zw_tell_13 at hw
  refine zt_put hx hb hts hown hI 0 (v := t0) (ty := .int) (by decide) q3632 rfl rfl (by decide +kernel) rfl rfl rfl dX5_tell_13 (fun H locs hI => ?_)
  obtain ⟨S_3, eS_3⟩ : ∃ z, z = zt_us S 0 0 t0 := ⟨_, rfl⟩
  rw [← eS_3] at hI
  have hw := hw S_3 eS_3
  refine lv_aload_n hx hb dX5_tell_16 rfl (lv_at hl 0 rfl) ?_
  refine zt_get hx hb hts hown hI 0 (v := .int (S_3 0 0)) (by decide) q3632 rfl rfl dX5_tell_17 ?_
  refine lv_if_eq (tgt := 25) hx hb dX5_tell_20 (by decide) (fun hc_4 => ?_) (fun hc_4 => ?_)
  · have hw := hw.1 hc_4
    refine lv_aload_n hx hb dX5_tell_25 rfl (lv_at hl 0 rfl) ?_
    refine lv_iconst (v := 0) hx hb dX5_tell_26 (by decide) ?_
    refine zt_put hx hb hts hown hI 8 (v := (0 : Int32)) (ty := .int) (by decide) q3640 rfl rfl (by decide +kernel) rfl rfl rfl dX5_tell_27 (fun H locs hI => ?_)
    obtain ⟨S_5, eS_5⟩ : ∃ z, z = zt_us S_3 0 8 (0 : Int32) := ⟨_, rfl⟩
    rw [← eS_5] at hI
    have hw := hw S_5 eS_5
    refine lv_iconst (v := 0) hx hb dX5_tell_30 (by decide) ?_
    refine lv_istore_n (lv' := [(2, .int (0 : Int32)), (0, .ref g.2.1), (1, .int v1)]) hx hb dX5_tell_31 rfl hl (by decide) rfl (fun ls hl => ?_)
    obtain ⟨In_6, mu_6, h0_6, hw⟩ := hw
    have hL_6 : ∀ (n : Nat) (x2_6 : Int32) (S_6 : zt_S) (H : Heap) (locs : List Loc) (ls : Array Slot), mu_6 x2_6 S_6 < n → In_6 x2_6 S_6 → zt_I g S_6 s H locs → lv_has ls 5 [(0, .ref g.2.1), (1, .int v1), (2, .int x2_6)] → W p l e ({ frames := 3, cells := 0, slots := 0, locals := 64 } : Room) s m args below meth c H locs 0 0 (MQ below (va_Qi post (zt_B g) (zt_A g)) args s 0 0 (zt_A g)) (F0 m 32 ls []) := by
      intro n
      induction n with
      | zero => intro x2_6 S_6 H locs ls hn _ _ _; exact absurd hn (Nat.not_lt_zero _)
      | succ n ih_6 =>
        intro x2_6 S_6 H locs ls hn_6 hi_6 hI hl
        have hw := hw x2_6 S_6 hi_6
        refine lv_iload_n hx hb dX5_tell_32 rfl (lv_at hl 2 rfl) ?_
        refine lv_bipush (v := 6) hx hb dX5_tell_33 (by decide) ?_
        refine lv_icmp_ge (tgt := 109) hx hb dX5_tell_35 (by decide) (fun hc_7 => ?_) (fun hc_7 => ?_)
        · have hw := hw.1 hc_7
          refine lv_aload_n hx hb dX5_tell_109 rfl (lv_at hl 0 rfl) ?_
          refine zt_get hx hb hts hown hI 8 (v := .int (S_6 0 8)) (by decide) q3640 rfl rfl dX5_tell_110 ?_
          exact zt_iret hx hb hr hlk hI hw dX5_tell_113
        · have hw := hw.2 hc_7
          refine lv_iload_n hx hb dX5_tell_38 rfl (lv_at hl 2 rfl) ?_
          refine lv_if_le (tgt := 48) hx hb dX5_tell_39 (by decide) (fun hc_8 => ?_) (fun hc_8 => ?_)
          · have hw := hw.1 hc_8
            exact zj_tell_48 g post (fun (y0 : Int32) (T : zt_S) => In_6 y0 T ∧ mu_6 y0 T < mu_6 x2_6 S_6) v1 x2_6 S_6 ⟨hx, hb, hml, hown, hts, hr, hlk⟩ hw (fun _y0 _y1 H locs ls hw hI hl => ih_6 _ _ H locs ls (Nat.lt_of_lt_of_le hw.2 (Nat.le_of_lt_succ hn_6)) hw.1 hI hl) hI (lv_sub hl [0, 1, 2] rfl)
          · have hw := hw.2 hc_8
            refine lv_aload_n hx hb dX5_tell_42 rfl (lv_at hl 0 rfl) ?_
            refine lv_bipush (v := 47) hx hb dX5_tell_43 (by decide) ?_
            refine zt_callv (As := [.int (47 : Int32)]) (rest := []) ⟨hx, hb, hml, hown, hts⟩ hI (zm_writes l g (47 : Int32) S_6 _ hw) (cwV 1 hts (lw_V q3995 q3997 qs82 q113 q3998) rfl rfl rfl hdT_writes ⟨Nat.le_of_ble_eq_true rfl, Nat.le_of_ble_eq_true rfl⟩) rfl hl.1 rfl (lv_room (Nat.le_of_ble_eq_true rfl)) dX5_tell_45 ⟨Nat.le_refl _, Nat.le_refl _⟩ (fun S_20 H locs hw hI => ?_)
            exact zj_tell_48 g post (fun (y0 : Int32) (T : zt_S) => In_6 y0 T ∧ mu_6 y0 T < mu_6 x2_6 S_6) v1 x2_6 S_20 ⟨hx, hb, hml, hown, hts, hr, hlk⟩ hw (fun _y0 _y1 H locs ls hw hI hl => ih_6 _ _ H locs ls (Nat.lt_of_lt_of_le hw.2 (Nat.le_of_lt_succ hn_6)) hw.1 hI hl) hI (lv_sub hl [0, 1, 2] rfl)
    exact hL_6 _ _ _ H locs ls (Nat.lt_succ_self _) h0_6 hI (lv_sub hl [1, 2, 0] rfl)
  · have hw := hw.2 hc_4
    refine lv_iconst (v := 0) hx hb dX5_tell_23 (by decide) ?_
    exact zt_iret hx hb hr hlk hI hw dX5_tell_24
def zw_tell (p1 : Int32) (S : zt_S) (post : Int32 → zt_S → Prop) : Prop :=
  zw_isAisle p1 (fun (r_1 : Int32) => (r_1 = (0 : Int32) → (zw_tell_13 post (1 : Int32) p1 S)) ∧ (¬ r_1 = (0 : Int32) → (zw_tell_13 post (0 : Int32) p1 S)))
set_option maxHeartbeats 4000000 in
theorem zm_tell (l : Launch) (g : zt_G) (p1 : Int32) (S : zt_S) (post : Int32 → zt_S → Prop) (hw : zw_tell p1 S post) : Met l yX5_tell (ws_ yX5_tell cX5_tell 5 (some .int)) ({ frames := 3, cells := 0, slots := 0, locals := 64 } : Room) (va_Pc (.ref g.2.1 :: [.int p1]) (zt_B g S)) (va_Qi post (zt_B g) (zt_A g)) 0 0 (zt_A g) := by
  refine zt_met (by decide) rfl (Nat.le_of_ble_eq_true rfl) (fun p e s m below meth c ls hC hI hl => ?_)
  generalize (Value.ref g.2.1 :: ([.int p1] : List Value)).toArray = args at hC ⊢
  obtain ⟨hx, hb, hml, hown, hts, hr, hlk⟩ := hC
  have hl : lv_has ls 5 [(0, .ref g.2.1), (1, .int p1)] := hl
  unfold zw_tell at hw
  obtain ⟨H, eH⟩ : ∃ z, z = s.heap := ⟨_, rfl⟩
  obtain ⟨locs, elo⟩ : ∃ z : List Loc, z = [] := ⟨_, rfl⟩
  rw [← eH, ← elo] at hI ⊢
  refine lv_aload_n hx hb dX5_tell_0 rfl (lv_at hl 0 rfl) ?_
  refine lv_iload_n hx hb dX5_tell_1 rfl (lv_at hl 1 rfl) ?_
  refine zt_callS (As := [.int p1]) (rest := [.ref g.2.1]) ⟨hx, hb, hml, hown, hts⟩ (zm_isAisle l p1 _ hw) (va_cwS 1 hts (lw_S q3732 q3733 q113 q3734) rfl rfl rfl hdT_isAisle ⟨Nat.le_of_ble_eq_true rfl, Nat.le_of_ble_eq_true rfl⟩) rfl hl.1 rfl (lv_room (Nat.le_of_ble_eq_true rfl)) dX5_tell_2 ⟨Nat.le_refl _, Nat.le_refl _⟩ (fun r_1 hw => ?_)
  refine lv_if_eq (tgt := 12) hx hb dX5_tell_5 (by decide) (fun hc_2 => ?_) (fun hc_2 => ?_)
  · have hw := hw.1 hc_2
    refine lv_iconst (v := 1) hx hb dX5_tell_12 (by decide) ?_
    exact zj_tell_13 g post (1 : Int32) p1 S ⟨hx, hb, hml, hown, hts, hr, hlk⟩ hw hI (lv_sub hl [0, 1] rfl)
  · have hw := hw.2 hc_2
    refine lv_iconst (v := 0) hx hb dX5_tell_8 (by decide) ?_
    refine lv_goto (tgt := 13) hx hb dX5_tell_9 (by decide) ?_
    exact zj_tell_13 g post (0 : Int32) p1 S ⟨hx, hb, hml, hown, hts, hr, hlk⟩ hw hI (lv_sub hl [0, 1] rfl)
theorem hdT_tell : yX5_tell.cls = RX5 ∧ yX5_tell.cls ≠ "java/lang/invoke/MethodHandle" ∧ yX5_tell.cls ≠ "java/lang/invoke/VarHandle" ∧ (parseMethodDescriptor yX5_tell.desc).map (fun d => d.parameters.length) = some 1 := by decide +kernel
def zw_character_20 (post : Int32 → zt_S → Prop) (t0 : Int32) (v1 : Int32) (S : zt_S) : Prop :=
  ∀ S_3 : zt_S, S_3 = zt_us S 0 0 t0 → ((¬ S_3 0 0 = (0 : Int32) → (post (0 : Int32) S_3)) ∧ (S_3 0 0 = (0 : Int32) → (vp_in v1 100 ∧ (zt_nar .char (S_3 2 v1.toNatClampNeg) ∧ post (S_3 2 v1.toNatClampNeg) S_3))))
set_option maxHeartbeats 4000000 in
theorem zj_character_20 {p : Program} {l : Launch} {e : Env} {s : State} {m : MethodId} {args : Array Value} {below : List Frame} {meth : Method} {c : Code} {H : Heap} {locs : List Loc} {ls : Array Slot} (g : zt_G) (post : Int32 → zt_S → Prop) (t0 : Int32) (v1 : Int32) (S : zt_S) (hC : zt_C p s m args meth c cX5_character 2 (some .char)) (hw : zw_character_20 post t0 v1 S) (hI : zt_I g S s H locs) (hl : lv_has ls 2 [(0, .ref g.2.1), (1, .int v1)]) : W p l e ({ frames := 1, cells := 0, slots := 0, locals := 22 } : Room) s m args below meth c H locs 0 0 (MQ below (va_Qi post (zt_B g) (zt_A g)) args s 0 0 (zt_A g)) (F0 m 20 ls [.int t0, .ref g.2.1]) := by
  obtain ⟨hx, hb, hml, hown, hts, hr, hlk⟩ := hC
  unfold zw_character_20 at hw
  refine zt_put hx hb hts hown hI 0 (v := t0) (ty := .int) (by decide) q3632 rfl rfl (by decide +kernel) rfl rfl rfl dX5_character_20 (fun H locs hI => ?_)
  obtain ⟨S_3, eS_3⟩ : ∃ z, z = zt_us S 0 0 t0 := ⟨_, rfl⟩
  rw [← eS_3] at hI
  have hw := hw S_3 eS_3
  refine lv_aload_n hx hb dX5_character_23 rfl (lv_at hl 0 rfl) ?_
  refine zt_get hx hb hts hown hI 0 (v := .int (S_3 0 0)) (by decide) q3632 rfl rfl dX5_character_24 ?_
  refine lv_if_ne (tgt := 39) hx hb dX5_character_27 (by decide) (fun hc_4 => ?_) (fun hc_4 => ?_)
  · have hw := hw.1 hc_4
    refine lv_iconst (v := 0) hx hb dX5_character_39 (by decide) ?_
    exact zt_zret hx hb hr hlk hI rfl hw dX5_character_40
  · have hw := hw.2 hc_4
    refine lv_aload_n hx hb dX5_character_30 rfl (lv_at hl 0 rfl) ?_
    refine zt_get hx hb hts hown hI 7 (v := .ref g.2.2.2.1) (by decide) q3639 rfl rfl dX5_character_31 ?_
    refine lv_iload_n hx hb dX5_character_34 rfl (lv_at hl 1 rfl) ?_
    refine zt_ld2 hx hb hI hw.1 dX5_character_35 ?_
    have hw := hw.2
    refine lv_goto (tgt := 40) hx hb dX5_character_36 (by decide) ?_
    exact zt_zret hx hb hr hlk hI hw.1 hw.2 dX5_character_40
def zw_character (p1 : Int32) (S : zt_S) (post : Int32 → zt_S → Prop) : Prop :=
  zw_in p1 (0 : Int32) ((S 0 8) - (1 : Int32)) (fun (r_1 : Int32) => (r_1 = (0 : Int32) → (zw_character_20 post (1 : Int32) p1 S)) ∧ (¬ r_1 = (0 : Int32) → (zw_character_20 post (0 : Int32) p1 S)))
set_option maxHeartbeats 4000000 in
theorem zm_character (l : Launch) (g : zt_G) (p1 : Int32) (S : zt_S) (post : Int32 → zt_S → Prop) (hw : zw_character p1 S post) : Met l yX5_character (ws_ yX5_character cX5_character 2 (some .char)) ({ frames := 1, cells := 0, slots := 0, locals := 22 } : Room) (va_Pc (.ref g.2.1 :: [.int p1]) (zt_B g S)) (va_Qi post (zt_B g) (zt_A g)) 0 0 (zt_A g) := by
  refine zt_met (by decide) rfl (Nat.le_of_ble_eq_true rfl) (fun p e s m below meth c ls hC hI hl => ?_)
  generalize (Value.ref g.2.1 :: ([.int p1] : List Value)).toArray = args at hC ⊢
  obtain ⟨hx, hb, hml, hown, hts, hr, hlk⟩ := hC
  have hl : lv_has ls 2 [(0, .ref g.2.1), (1, .int p1)] := hl
  unfold zw_character at hw
  obtain ⟨H, eH⟩ : ∃ z, z = s.heap := ⟨_, rfl⟩
  obtain ⟨locs, elo⟩ : ∃ z : List Loc, z = [] := ⟨_, rfl⟩
  rw [← eH, ← elo] at hI ⊢
  refine lv_aload_n hx hb dX5_character_0 rfl (lv_at hl 0 rfl) ?_
  refine lv_iload_n hx hb dX5_character_1 rfl (lv_at hl 1 rfl) ?_
  refine lv_iconst (v := 0) hx hb dX5_character_2 (by decide) ?_
  refine lv_aload_n hx hb dX5_character_3 rfl (lv_at hl 0 rfl) ?_
  refine zt_get hx hb hts hown hI 8 (v := .int (S 0 8)) (by decide) q3640 rfl rfl dX5_character_4 ?_
  refine lv_iconst (v := 1) hx hb dX5_character_7 (by decide) ?_
  refine lv_isub hx hb dX5_character_8 ?_
  refine zt_callS (As := [.int p1, .int (0 : Int32), .int ((S 0 8) - (1 : Int32))]) (rest := [.ref g.2.1]) ⟨hx, hb, hml, hown, hts⟩ (zm_in l p1 (0 : Int32) ((S 0 8) - (1 : Int32)) _ hw) (va_cwS 3 hts (lw_S q3693 q3694 q113 q3695) rfl rfl rfl hdT_in ⟨Nat.le_of_ble_eq_true rfl, Nat.le_of_ble_eq_true rfl⟩) rfl hl.1 rfl (lv_room (Nat.le_of_ble_eq_true rfl)) dX5_character_9 ⟨Nat.le_refl _, Nat.le_refl _⟩ (fun r_1 hw => ?_)
  refine lv_if_eq (tgt := 19) hx hb dX5_character_12 (by decide) (fun hc_2 => ?_) (fun hc_2 => ?_)
  · have hw := hw.1 hc_2
    refine lv_iconst (v := 1) hx hb dX5_character_19 (by decide) ?_
    exact zj_character_20 g post (1 : Int32) p1 S ⟨hx, hb, hml, hown, hts, hr, hlk⟩ hw hI (lv_sub hl [0, 1] rfl)
  · have hw := hw.2 hc_2
    refine lv_iconst (v := 0) hx hb dX5_character_15 (by decide) ?_
    refine lv_goto (tgt := 20) hx hb dX5_character_16 (by decide) ?_
    exact zj_character_20 g post (0 : Int32) p1 S ⟨hx, hb, hml, hown, hts, hr, hlk⟩ hw hI (lv_sub hl [0, 1] rfl)
theorem hdT_character : yX5_character.cls = RX5 ∧ yX5_character.cls ≠ "java/lang/invoke/MethodHandle" ∧ yX5_character.cls ≠ "java/lang/invoke/VarHandle" ∧ (parseMethodDescriptor yX5_character.desc).map (fun d => d.parameters.length) = some 1 := by decide +kernel
def zw_onShelves (S : zt_S) (post : Int32 → zt_S → Prop) : Prop :=
  ∃ (In_1 : Int32 → Int32 → zt_S → Prop) (mu_1 : Int32 → Int32 → zt_S → Nat), In_1 (0 : Int32) (0 : Int32) S ∧ ∀ (x1_1 : Int32) (x2_1 : Int32) (S_1 : zt_S), In_1 x1_1 x2_1 S_1 → (vp_in (5 : Int32) 3810 ∧ ((S_1 1 (5 : Int32).toNatClampNeg ≤ x2_1 → (post x1_1 S_1)) ∧ (¬ S_1 1 (5 : Int32).toNatClampNeg ≤ x2_1 → (zw_r x2_1 (4 : Int32) S_1 (fun (r_4 : Int32) (S_3 : zt_S) => (¬ r_4 = (-1 : Int32) → (In_1 (x1_1 + (1 : Int32)) (x2_1 + (1 : Int32)) S_3 ∧ mu_1 (x1_1 + (1 : Int32)) (x2_1 + (1 : Int32)) S_3 < mu_1 x1_1 x2_1 S_1)) ∧ (r_4 = (-1 : Int32) → (In_1 (x1_1 + (0 : Int32)) (x2_1 + (1 : Int32)) S_3 ∧ mu_1 (x1_1 + (0 : Int32)) (x2_1 + (1 : Int32)) S_3 < mu_1 x1_1 x2_1 S_1)))))))
set_option maxHeartbeats 4000000 in
theorem zm_onShelves (l : Launch) (g : zt_G) (S : zt_S) (post : Int32 → zt_S → Prop) (hw : zw_onShelves S post) : Met l yX5_onShelves (ws_ yX5_onShelves cX5_onShelves 3 (some .int)) ({ frames := 1, cells := 0, slots := 0, locals := 22 } : Room) (va_Pc (.ref g.2.1 :: []) (zt_B g S)) (va_Qi post (zt_B g) (zt_A g)) 0 0 (zt_A g) := by
  refine zt_met (by decide) rfl (Nat.le_of_ble_eq_true rfl) (fun p e s m below meth c ls hC hI hl => ?_)
  generalize (Value.ref g.2.1 :: ([] : List Value)).toArray = args at hC ⊢
  obtain ⟨hx, hb, hml, hown, hts, hr, hlk⟩ := hC
  have hl : lv_has ls 3 [(0, .ref g.2.1)] := hl
  unfold zw_onShelves at hw
  obtain ⟨H, eH⟩ : ∃ z, z = s.heap := ⟨_, rfl⟩
  obtain ⟨locs, elo⟩ : ∃ z : List Loc, z = [] := ⟨_, rfl⟩
  rw [← eH, ← elo] at hI ⊢
  refine lv_iconst (v := 0) hx hb dX5_onShelves_0 (by decide) ?_
  refine lv_istore_n (lv' := [(1, .int (0 : Int32)), (0, .ref g.2.1)]) hx hb dX5_onShelves_1 rfl hl (by decide) rfl (fun ls hl => ?_)
  refine lv_iconst (v := 0) hx hb dX5_onShelves_2 (by decide) ?_
  refine lv_istore_n (lv' := [(2, .int (0 : Int32)), (1, .int (0 : Int32)), (0, .ref g.2.1)]) hx hb dX5_onShelves_3 rfl hl (by decide) rfl (fun ls hl => ?_)
  obtain ⟨In_1, mu_1, h0_1, hw⟩ := hw
  have hL_1 : ∀ (n : Nat) (x1_1 : Int32) (x2_1 : Int32) (S_1 : zt_S) (H : Heap) (locs : List Loc) (ls : Array Slot), mu_1 x1_1 x2_1 S_1 < n → In_1 x1_1 x2_1 S_1 → zt_I g S_1 s H locs → lv_has ls 3 [(0, .ref g.2.1), (1, .int x1_1), (2, .int x2_1)] → W p l e ({ frames := 1, cells := 0, slots := 0, locals := 22 } : Room) s m args below meth c H locs 0 0 (MQ below (va_Qi post (zt_B g) (zt_A g)) args s 0 0 (zt_A g)) (F0 m 4 ls []) := by
    intro n
    induction n with
    | zero => intro x1_1 x2_1 S_1 H locs ls hn _ _ _; exact absurd hn (Nat.not_lt_zero _)
    | succ n ih_1 =>
      intro x1_1 x2_1 S_1 H locs ls hn_1 hi_1 hI hl
      have hw := hw x1_1 x2_1 S_1 hi_1
      refine lv_iload_n hx hb dX5_onShelves_4 rfl (lv_at hl 2 rfl) ?_
      refine lv_aload_n hx hb dX5_onShelves_5 rfl (lv_at hl 0 rfl) ?_
      refine zt_get hx hb hts hown hI 1 (v := .ref g.2.2.1) (by decide) q3633 rfl rfl dX5_onShelves_6 ?_
      refine lv_iconst (v := 5) hx hb dX5_onShelves_9 (by decide) ?_
      refine zt_ld1 hx hb hI hw.1 dX5_onShelves_10 ?_
      have hw := hw.2
      refine lv_icmp_ge (tgt := 38) hx hb dX5_onShelves_11 (by decide) (fun hc_2 => ?_) (fun hc_2 => ?_)
      · have hw := hw.1 hc_2
        refine lv_iload_n hx hb dX5_onShelves_38 rfl (lv_at hl 1 rfl) ?_
        exact zt_iret hx hb hr hlk hI hw dX5_onShelves_39
      · have hw := hw.2 hc_2
        refine lv_iload_n hx hb dX5_onShelves_14 rfl (lv_at hl 1 rfl) ?_
        refine lv_aload_n hx hb dX5_onShelves_15 rfl (lv_at hl 0 rfl) ?_
        refine lv_iload_n hx hb dX5_onShelves_16 rfl (lv_at hl 2 rfl) ?_
        refine lv_iconst (v := 4) hx hb dX5_onShelves_17 (by decide) ?_
        refine zt_calli (As := [.int x2_1, .int (4 : Int32)]) (rest := [.int x1_1]) ⟨hx, hb, hml, hown, hts⟩ hI (zm_r l g x2_1 (4 : Int32) S_1 _ hw) (cwV 2 hts (lw_V q3761 q3763 qs49 q113 q3764) rfl rfl rfl hdT_r ⟨Nat.le_of_ble_eq_true rfl, Nat.le_of_ble_eq_true rfl⟩) rfl hl.1 rfl (lv_room (Nat.le_of_ble_eq_true rfl)) dX5_onShelves_18 ⟨Nat.le_refl _, Nat.le_refl _⟩ (fun r_4 S_3 H locs hw hI => ?_)
        refine lv_iconst (v := -1) hx hb dX5_onShelves_21 (by decide) ?_
        refine lv_icmp_ne (tgt := 29) hx hb dX5_onShelves_22 (by decide) (fun hc_5 => ?_) (fun hc_5 => ?_)
        · have hw := hw.1 hc_5
          refine lv_iconst (v := 1) hx hb dX5_onShelves_29 (by decide) ?_
          refine lv_iadd hx hb dX5_onShelves_30 ?_
          refine lv_istore_n (lv' := [(1, .int (x1_1 + (1 : Int32))), (0, .ref g.2.1), (2, .int x2_1)]) hx hb dX5_onShelves_31 rfl hl (by decide) rfl (fun ls hl => ?_)
          refine lv_iinc (v := x2_1 + (1 : Int32)) (lv' := [(2, .int (x2_1 + (1 : Int32))), (1, .int (x1_1 + (1 : Int32))), (0, .ref g.2.1)]) hx hb dX5_onShelves_32 hl (k := 2) rfl rfl (by decide) rfl (fun ls hl => ?_)
          refine lv_goto (tgt := 4) hx hb dX5_onShelves_35 (by decide) ?_
          exact ih_1 _ _ _ H locs ls (Nat.lt_of_lt_of_le hw.2 (Nat.le_of_lt_succ hn_1)) hw.1 hI (lv_sub hl [2, 1, 0] rfl)
        · have hw := hw.2 hc_5
          refine lv_iconst (v := 0) hx hb dX5_onShelves_25 (by decide) ?_
          refine lv_goto (tgt := 30) hx hb dX5_onShelves_26 (by decide) ?_
          refine lv_iadd hx hb dX5_onShelves_30 ?_
          refine lv_istore_n (lv' := [(1, .int (x1_1 + (0 : Int32))), (0, .ref g.2.1), (2, .int x2_1)]) hx hb dX5_onShelves_31 rfl hl (by decide) rfl (fun ls hl => ?_)
          refine lv_iinc (v := x2_1 + (1 : Int32)) (lv' := [(2, .int (x2_1 + (1 : Int32))), (1, .int (x1_1 + (0 : Int32))), (0, .ref g.2.1)]) hx hb dX5_onShelves_32 hl (k := 2) rfl rfl (by decide) rfl (fun ls hl => ?_)
          refine lv_goto (tgt := 4) hx hb dX5_onShelves_35 (by decide) ?_
          exact ih_1 _ _ _ H locs ls (Nat.lt_of_lt_of_le hw.2 (Nat.le_of_lt_succ hn_1)) hw.1 hI (lv_sub hl [2, 1, 0] rfl)
  exact hL_1 _ _ _ _ H locs ls (Nat.lt_succ_self _) h0_1 hI (lv_sub hl [2, 1, 0] rfl)
theorem hdT_onShelves : yX5_onShelves.cls = RX5 ∧ yX5_onShelves.cls ≠ "java/lang/invoke/MethodHandle" ∧ yX5_onShelves.cls ≠ "java/lang/invoke/VarHandle" ∧ (parseMethodDescriptor yX5_onShelves.desc).map (fun d => d.parameters.length) = some 0 := by decide +kernel
def zw_meanDamp_56 (post : UInt32 → zt_S → Prop) (t0 : Int32) (v1 : Int32) (S : zt_S) : Prop :=
  ∀ S_6 : zt_S, S_6 = zt_us S 0 0 t0 → ((¬ S_6 0 0 = (0 : Int32) → (post (0 : UInt32) S_6)) ∧ (S_6 0 0 = (0 : Int32) → (zw_onShelves S_6 (fun (r_9 : Int32) (S_8 : zt_S) => vf_n32 (FP.fdiv (FP.i2f v1) (FP.i2f r_9)) ∧ (post (FP.fdiv (FP.i2f v1) (FP.i2f r_9)) S_8)))))
set_option maxHeartbeats 4000000 in
theorem zj_meanDamp_56 {p : Program} {l : Launch} {e : Env} {s : State} {m : MethodId} {args : Array Value} {below : List Frame} {meth : Method} {c : Code} {H : Heap} {locs : List Loc} {ls : Array Slot} (g : zt_G) (post : UInt32 → zt_S → Prop) (t0 : Int32) (v1 : Int32) (S : zt_S) (hC : zt_C p s m args meth c cX5_meanDamp 3 (some .float)) (hw : zw_meanDamp_56 post t0 v1 S) (hI : zt_I g S s H locs) (hl : lv_has ls 3 [(0, .ref g.2.1), (1, .int v1)]) : W p l e ({ frames := 2, cells := 0, slots := 0, locals := 44 } : Room) s m args below meth c H locs 0 0 (MQ below (va_Qf post (zt_B g) (zt_A g)) args s 0 0 (zt_A g)) (F0 m 56 ls [.int t0, .ref g.2.1]) := by
  obtain ⟨hx, hb, hml, hown, hts, hr, hlk⟩ := hC
  unfold zw_meanDamp_56 at hw
  refine zt_put hx hb hts hown hI 0 (v := t0) (ty := .int) (by decide) q3632 rfl rfl (by decide +kernel) rfl rfl rfl dX5_meanDamp_56 (fun H locs hI => ?_)
  obtain ⟨S_6, eS_6⟩ : ∃ z, z = zt_us S 0 0 t0 := ⟨_, rfl⟩
  rw [← eS_6] at hI
  have hw := hw S_6 eS_6
  refine lv_aload_n hx hb dX5_meanDamp_59 rfl (lv_at hl 0 rfl) ?_
  refine zt_get hx hb hts hown hI 0 (v := .int (S_6 0 0)) (by decide) q3632 rfl rfl dX5_meanDamp_60 ?_
  refine lv_if_ne (tgt := 77) hx hb dX5_meanDamp_63 (by decide) (fun hc_7 => ?_) (fun hc_7 => ?_)
  · have hw := hw.1 hc_7
    refine lv_fconst0 hx hb dX5_meanDamp_77 ?_
    exact zt_fret hx hb hr hlk hI hw dX5_meanDamp_78
  · have hw := hw.2 hc_7
    refine lv_iload_n hx hb dX5_meanDamp_66 rfl (lv_at hl 1 rfl) ?_
    refine lv_i2f hx hb dX5_meanDamp_67 ?_
    refine lv_aload_n hx hb dX5_meanDamp_68 rfl (lv_at hl 0 rfl) ?_
    refine zt_calli (As := []) (rest := [.float (FP.i2f v1)]) ⟨hx, hb, hml, hown, hts⟩ hI (zm_onShelves l g S_6 _ hw) (cwV 0 hts (lw_V q4011 q4013 qs84 q113 q4014) rfl rfl rfl hdT_onShelves ⟨Nat.le_of_ble_eq_true rfl, Nat.le_of_ble_eq_true rfl⟩) rfl hl.1 rfl (lv_room (Nat.le_of_ble_eq_true rfl)) dX5_meanDamp_69 ⟨Nat.le_refl _, Nat.le_refl _⟩ (fun r_9 S_8 H locs hw hI => ?_)
    refine lv_i2f hx hb dX5_meanDamp_72 ?_
    refine lv_fdiv hx hb dX5_meanDamp_73 hw.1 ?_
    have hw := hw.2
    refine lv_goto (tgt := 78) hx hb dX5_meanDamp_74 (by decide) ?_
    exact zt_fret hx hb hr hlk hI hw dX5_meanDamp_78
def zw_meanDamp (S : zt_S) (post : UInt32 → zt_S → Prop) : Prop :=
  ∃ (In_1 : Int32 → Int32 → zt_S → Prop) (mu_1 : Int32 → Int32 → zt_S → Nat), In_1 (0 : Int32) (0 : Int32) S ∧ ∀ (x1_1 : Int32) (x2_1 : Int32) (S_1 : zt_S), In_1 x1_1 x2_1 S_1 → (vp_in (5 : Int32) 3810 ∧ ((S_1 1 (5 : Int32).toNatClampNeg ≤ x2_1 → (zw_onShelves S_1 (fun (r_4 : Int32) (S_3 : zt_S) => (¬ r_4 = (0 : Int32) → (zw_meanDamp_56 post (0 : Int32) x1_1 S_3)) ∧ (r_4 = (0 : Int32) → (zw_meanDamp_56 post (1 : Int32) x1_1 S_3))))) ∧ (¬ S_1 1 (5 : Int32).toNatClampNeg ≤ x2_1 → (zw_r x2_1 (4 : Int32) S_1 (fun (r_11 : Int32) (S_10 : zt_S) => (¬ r_11 = (-1 : Int32) → (zw_r x2_1 (3 : Int32) S_10 (fun (r_14 : Int32) (S_13 : zt_S) => In_1 (x1_1 + r_14) (x2_1 + (1 : Int32)) S_13 ∧ mu_1 (x1_1 + r_14) (x2_1 + (1 : Int32)) S_13 < mu_1 x1_1 x2_1 S_1))) ∧ (r_11 = (-1 : Int32) → (In_1 (x1_1 + (0 : Int32)) (x2_1 + (1 : Int32)) S_10 ∧ mu_1 (x1_1 + (0 : Int32)) (x2_1 + (1 : Int32)) S_10 < mu_1 x1_1 x2_1 S_1)))))))
set_option maxHeartbeats 4000000 in
theorem zm_meanDamp (l : Launch) (g : zt_G) (S : zt_S) (post : UInt32 → zt_S → Prop) (hw : zw_meanDamp S post) : Met l yX5_meanDamp (ws_ yX5_meanDamp cX5_meanDamp 3 (some .float)) ({ frames := 2, cells := 0, slots := 0, locals := 44 } : Room) (va_Pc (.ref g.2.1 :: []) (zt_B g S)) (va_Qf post (zt_B g) (zt_A g)) 0 0 (zt_A g) := by
  refine zt_met (by decide) rfl (Nat.le_of_ble_eq_true rfl) (fun p e s m below meth c ls hC hI hl => ?_)
  generalize (Value.ref g.2.1 :: ([] : List Value)).toArray = args at hC ⊢
  obtain ⟨hx, hb, hml, hown, hts, hr, hlk⟩ := hC
  have hl : lv_has ls 3 [(0, .ref g.2.1)] := hl
  unfold zw_meanDamp at hw
  obtain ⟨H, eH⟩ : ∃ z, z = s.heap := ⟨_, rfl⟩
  obtain ⟨locs, elo⟩ : ∃ z : List Loc, z = [] := ⟨_, rfl⟩
  rw [← eH, ← elo] at hI ⊢
  refine lv_iconst (v := 0) hx hb dX5_meanDamp_0 (by decide) ?_
  refine lv_istore_n (lv' := [(1, .int (0 : Int32)), (0, .ref g.2.1)]) hx hb dX5_meanDamp_1 rfl hl (by decide) rfl (fun ls hl => ?_)
  refine lv_iconst (v := 0) hx hb dX5_meanDamp_2 (by decide) ?_
  refine lv_istore_n (lv' := [(2, .int (0 : Int32)), (1, .int (0 : Int32)), (0, .ref g.2.1)]) hx hb dX5_meanDamp_3 rfl hl (by decide) rfl (fun ls hl => ?_)
  obtain ⟨In_1, mu_1, h0_1, hw⟩ := hw
  have hL_1 : ∀ (n : Nat) (x1_1 : Int32) (x2_1 : Int32) (S_1 : zt_S) (H : Heap) (locs : List Loc) (ls : Array Slot), mu_1 x1_1 x2_1 S_1 < n → In_1 x1_1 x2_1 S_1 → zt_I g S_1 s H locs → lv_has ls 3 [(0, .ref g.2.1), (1, .int x1_1), (2, .int x2_1)] → W p l e ({ frames := 2, cells := 0, slots := 0, locals := 44 } : Room) s m args below meth c H locs 0 0 (MQ below (va_Qf post (zt_B g) (zt_A g)) args s 0 0 (zt_A g)) (F0 m 4 ls []) := by
    intro n
    induction n with
    | zero => intro x1_1 x2_1 S_1 H locs ls hn _ _ _; exact absurd hn (Nat.not_lt_zero _)
    | succ n ih_1 =>
      intro x1_1 x2_1 S_1 H locs ls hn_1 hi_1 hI hl
      have hw := hw x1_1 x2_1 S_1 hi_1
      refine lv_iload_n hx hb dX5_meanDamp_4 rfl (lv_at hl 2 rfl) ?_
      refine lv_aload_n hx hb dX5_meanDamp_5 rfl (lv_at hl 0 rfl) ?_
      refine zt_get hx hb hts hown hI 1 (v := .ref g.2.2.1) (by decide) q3633 rfl rfl dX5_meanDamp_6 ?_
      refine lv_iconst (v := 5) hx hb dX5_meanDamp_9 (by decide) ?_
      refine zt_ld1 hx hb hI hw.1 dX5_meanDamp_10 ?_
      have hw := hw.2
      refine lv_icmp_ge (tgt := 43) hx hb dX5_meanDamp_11 (by decide) (fun hc_2 => ?_) (fun hc_2 => ?_)
      · have hw := hw.1 hc_2
        refine lv_aload_n hx hb dX5_meanDamp_43 rfl (lv_at hl 0 rfl) ?_
        refine lv_aload_n hx hb dX5_meanDamp_44 rfl (lv_at hl 0 rfl) ?_
        refine zt_calli (As := []) (rest := [.ref g.2.1]) ⟨hx, hb, hml, hown, hts⟩ hI (zm_onShelves l g S_1 _ hw) (cwV 0 hts (lw_V q4011 q4013 qs84 q113 q4014) rfl rfl rfl hdT_onShelves ⟨Nat.le_of_ble_eq_true rfl, Nat.le_of_ble_eq_true rfl⟩) rfl hl.1 rfl (lv_room (Nat.le_of_ble_eq_true rfl)) dX5_meanDamp_45 ⟨Nat.le_refl _, Nat.le_refl _⟩ (fun r_4 S_3 H locs hw hI => ?_)
        refine lv_if_ne (tgt := 55) hx hb dX5_meanDamp_48 (by decide) (fun hc_5 => ?_) (fun hc_5 => ?_)
        · have hw := hw.1 hc_5
          refine lv_iconst (v := 0) hx hb dX5_meanDamp_55 (by decide) ?_
          exact zj_meanDamp_56 g post (0 : Int32) x1_1 S_3 ⟨hx, hb, hml, hown, hts, hr, hlk⟩ hw hI (lv_sub hl [0, 1] rfl)
        · have hw := hw.2 hc_5
          refine lv_iconst (v := 1) hx hb dX5_meanDamp_51 (by decide) ?_
          refine lv_goto (tgt := 56) hx hb dX5_meanDamp_52 (by decide) ?_
          exact zj_meanDamp_56 g post (1 : Int32) x1_1 S_3 ⟨hx, hb, hml, hown, hts, hr, hlk⟩ hw hI (lv_sub hl [0, 1] rfl)
      · have hw := hw.2 hc_2
        refine lv_iload_n hx hb dX5_meanDamp_14 rfl (lv_at hl 1 rfl) ?_
        refine lv_aload_n hx hb dX5_meanDamp_15 rfl (lv_at hl 0 rfl) ?_
        refine lv_iload_n hx hb dX5_meanDamp_16 rfl (lv_at hl 2 rfl) ?_
        refine lv_iconst (v := 4) hx hb dX5_meanDamp_17 (by decide) ?_
        refine zt_calli (As := [.int x2_1, .int (4 : Int32)]) (rest := [.int x1_1]) ⟨hx, hb, hml, hown, hts⟩ hI (zm_r l g x2_1 (4 : Int32) S_1 _ hw) (cwV 2 hts (lw_V q3761 q3763 qs49 q113 q3764) rfl rfl rfl hdT_r ⟨Nat.le_of_ble_eq_true rfl, Nat.le_of_ble_eq_true rfl⟩) rfl hl.1 rfl (lv_room (Nat.le_of_ble_eq_true rfl)) dX5_meanDamp_18 ⟨Nat.le_refl _, Nat.le_refl _⟩ (fun r_11 S_10 H locs hw hI => ?_)
        refine lv_iconst (v := -1) hx hb dX5_meanDamp_21 (by decide) ?_
        refine lv_icmp_ne (tgt := 29) hx hb dX5_meanDamp_22 (by decide) (fun hc_12 => ?_) (fun hc_12 => ?_)
        · have hw := hw.1 hc_12
          refine lv_aload_n hx hb dX5_meanDamp_29 rfl (lv_at hl 0 rfl) ?_
          refine lv_iload_n hx hb dX5_meanDamp_30 rfl (lv_at hl 2 rfl) ?_
          refine lv_iconst (v := 3) hx hb dX5_meanDamp_31 (by decide) ?_
          refine zt_calli (As := [.int x2_1, .int (3 : Int32)]) (rest := [.int x1_1]) ⟨hx, hb, hml, hown, hts⟩ hI (zm_r l g x2_1 (3 : Int32) S_10 _ hw) (cwV 2 hts (lw_V q3761 q3763 qs49 q113 q3764) rfl rfl rfl hdT_r ⟨Nat.le_of_ble_eq_true rfl, Nat.le_of_ble_eq_true rfl⟩) rfl hl.1 rfl (lv_room (Nat.le_of_ble_eq_true rfl)) dX5_meanDamp_32 ⟨Nat.le_refl _, Nat.le_refl _⟩ (fun r_14 S_13 H locs hw hI => ?_)
          refine lv_iadd hx hb dX5_meanDamp_35 ?_
          refine lv_istore_n (lv' := [(1, .int (x1_1 + r_14)), (0, .ref g.2.1), (2, .int x2_1)]) hx hb dX5_meanDamp_36 rfl hl (by decide) rfl (fun ls hl => ?_)
          refine lv_iinc (v := x2_1 + (1 : Int32)) (lv' := [(2, .int (x2_1 + (1 : Int32))), (1, .int (x1_1 + r_14)), (0, .ref g.2.1)]) hx hb dX5_meanDamp_37 hl (k := 2) rfl rfl (by decide) rfl (fun ls hl => ?_)
          refine lv_goto (tgt := 4) hx hb dX5_meanDamp_40 (by decide) ?_
          exact ih_1 _ _ _ H locs ls (Nat.lt_of_lt_of_le hw.2 (Nat.le_of_lt_succ hn_1)) hw.1 hI (lv_sub hl [2, 1, 0] rfl)
        · have hw := hw.2 hc_12
          refine lv_iconst (v := 0) hx hb dX5_meanDamp_25 (by decide) ?_
          refine lv_goto (tgt := 35) hx hb dX5_meanDamp_26 (by decide) ?_
          refine lv_iadd hx hb dX5_meanDamp_35 ?_
          refine lv_istore_n (lv' := [(1, .int (x1_1 + (0 : Int32))), (0, .ref g.2.1), (2, .int x2_1)]) hx hb dX5_meanDamp_36 rfl hl (by decide) rfl (fun ls hl => ?_)
          refine lv_iinc (v := x2_1 + (1 : Int32)) (lv' := [(2, .int (x2_1 + (1 : Int32))), (1, .int (x1_1 + (0 : Int32))), (0, .ref g.2.1)]) hx hb dX5_meanDamp_37 hl (k := 2) rfl rfl (by decide) rfl (fun ls hl => ?_)
          refine lv_goto (tgt := 4) hx hb dX5_meanDamp_40 (by decide) ?_
          exact ih_1 _ _ _ H locs ls (Nat.lt_of_lt_of_le hw.2 (Nat.le_of_lt_succ hn_1)) hw.1 hI (lv_sub hl [2, 1, 0] rfl)
  exact hL_1 _ _ _ _ H locs ls (Nat.lt_succ_self _) h0_1 hI (lv_sub hl [2, 1, 0] rfl)
theorem hdT_meanDamp : yX5_meanDamp.cls = RX5 ∧ yX5_meanDamp.cls ≠ "java/lang/invoke/MethodHandle" ∧ yX5_meanDamp.cls ≠ "java/lang/invoke/VarHandle" ∧ (parseMethodDescriptor yX5_meanDamp.desc).map (fun d => d.parameters.length) = some 0 := by decide +kernel
def zw_eatenShare_15 (post : UInt64 → zt_S → Prop) (t0 : Int32) (S : zt_S) : Prop :=
  ∀ S_2 : zt_S, S_2 = zt_us S 0 0 t0 → ((¬ S_2 0 0 = (0 : Int32) → (post (0 : UInt64) S_2)) ∧ (S_2 0 0 = (0 : Int32) → (vp_in (1 : Int32) 3810 ∧ (vp_in (5 : Int32) 3810 ∧ (vf_n64 (FP.ddiv (FP.i2d (S_2 1 (1 : Int32).toNatClampNeg)) (FP.i2d ((20 : Int32) * (S_2 1 (5 : Int32).toNatClampNeg)))) ∧ (post (FP.ddiv (FP.i2d (S_2 1 (1 : Int32).toNatClampNeg)) (FP.i2d ((20 : Int32) * (S_2 1 (5 : Int32).toNatClampNeg)))) S_2))))))
set_option maxHeartbeats 4000000 in
theorem zj_eatenShare_15 {p : Program} {l : Launch} {e : Env} {s : State} {m : MethodId} {args : Array Value} {below : List Frame} {meth : Method} {c : Code} {H : Heap} {locs : List Loc} {ls : Array Slot} (g : zt_G) (post : UInt64 → zt_S → Prop) (t0 : Int32) (S : zt_S) (hC : zt_C p s m args meth c cX5_eatenShare 1 (some .double)) (hw : zw_eatenShare_15 post t0 S) (hI : zt_I g S s H locs) (hl : lv_has ls 1 [(0, .ref g.2.1)]) : W p l e ({ frames := 0, cells := 0, slots := 0, locals := 0 } : Room) s m args below meth c H locs 0 0 (MQ below (va_Qd post (zt_B g) (zt_A g)) args s 0 0 (zt_A g)) (F0 m 15 ls [.int t0, .ref g.2.1]) := by
  obtain ⟨hx, hb, hml, hown, hts, hr, hlk⟩ := hC
  unfold zw_eatenShare_15 at hw
  refine zt_put hx hb hts hown hI 0 (v := t0) (ty := .int) (by decide) q3632 rfl rfl (by decide +kernel) rfl rfl rfl dX5_eatenShare_15 (fun H locs hI => ?_)
  obtain ⟨S_2, eS_2⟩ : ∃ z, z = zt_us S 0 0 t0 := ⟨_, rfl⟩
  rw [← eS_2] at hI
  have hw := hw S_2 eS_2
  refine lv_aload_n hx hb dX5_eatenShare_18 rfl (lv_at hl 0 rfl) ?_
  refine zt_get hx hb hts hown hI 0 (v := .int (S_2 0 0)) (by decide) q3632 rfl rfl dX5_eatenShare_19 ?_
  refine lv_if_ne (tgt := 46) hx hb dX5_eatenShare_22 (by decide) (fun hc_3 => ?_) (fun hc_3 => ?_)
  · have hw := hw.1 hc_3
    refine lv_dconst0 hx hb dX5_eatenShare_46 ?_
    exact zt_dret hx hb hr hlk hI hw dX5_eatenShare_47
  · have hw := hw.2 hc_3
    refine lv_aload_n hx hb dX5_eatenShare_25 rfl (lv_at hl 0 rfl) ?_
    refine zt_get hx hb hts hown hI 1 (v := .ref g.2.2.1) (by decide) q3633 rfl rfl dX5_eatenShare_26 ?_
    refine lv_iconst (v := 1) hx hb dX5_eatenShare_29 (by decide) ?_
    refine zt_ld1 hx hb hI hw.1 dX5_eatenShare_30 ?_
    have hw := hw.2
    refine lv_i2d hx hb dX5_eatenShare_31 ?_
    refine lv_bipush (v := 20) hx hb dX5_eatenShare_32 (by decide) ?_
    refine lv_aload_n hx hb dX5_eatenShare_34 rfl (lv_at hl 0 rfl) ?_
    refine zt_get hx hb hts hown hI 1 (v := .ref g.2.2.1) (by decide) q3633 rfl rfl dX5_eatenShare_35 ?_
    refine lv_iconst (v := 5) hx hb dX5_eatenShare_38 (by decide) ?_
    refine zt_ld1 hx hb hI hw.1 dX5_eatenShare_39 ?_
    have hw := hw.2
    refine lv_imul hx hb dX5_eatenShare_40 ?_
    refine lv_i2d hx hb dX5_eatenShare_41 ?_
    refine lv_ddiv hx hb dX5_eatenShare_42 hw.1 ?_
    have hw := hw.2
    refine lv_goto (tgt := 47) hx hb dX5_eatenShare_43 (by decide) ?_
    exact zt_dret hx hb hr hlk hI hw dX5_eatenShare_47
def zw_eatenShare (S : zt_S) (post : UInt64 → zt_S → Prop) : Prop :=
  vp_in (5 : Int32) 3810 ∧ ((¬ S 1 (5 : Int32).toNatClampNeg = (0 : Int32) → (zw_eatenShare_15 post (0 : Int32) S)) ∧ (S 1 (5 : Int32).toNatClampNeg = (0 : Int32) → (zw_eatenShare_15 post (1 : Int32) S)))
set_option maxHeartbeats 4000000 in
theorem zm_eatenShare (l : Launch) (g : zt_G) (S : zt_S) (post : UInt64 → zt_S → Prop) (hw : zw_eatenShare S post) : Met l yX5_eatenShare (ws_ yX5_eatenShare cX5_eatenShare 1 (some .double)) ({ frames := 0, cells := 0, slots := 0, locals := 0 } : Room) (va_Pc (.ref g.2.1 :: []) (zt_B g S)) (va_Qd post (zt_B g) (zt_A g)) 0 0 (zt_A g) := by
  refine zt_met (by decide) rfl (Nat.le_of_ble_eq_true rfl) (fun p e s m below meth c ls hC hI hl => ?_)
  generalize (Value.ref g.2.1 :: ([] : List Value)).toArray = args at hC ⊢
  obtain ⟨hx, hb, hml, hown, hts, hr, hlk⟩ := hC
  have hl : lv_has ls 1 [(0, .ref g.2.1)] := hl
  unfold zw_eatenShare at hw
  obtain ⟨H, eH⟩ : ∃ z, z = s.heap := ⟨_, rfl⟩
  obtain ⟨locs, elo⟩ : ∃ z : List Loc, z = [] := ⟨_, rfl⟩
  rw [← eH, ← elo] at hI ⊢
  refine lv_aload_n hx hb dX5_eatenShare_0 rfl (lv_at hl 0 rfl) ?_
  refine lv_aload_n hx hb dX5_eatenShare_1 rfl (lv_at hl 0 rfl) ?_
  refine zt_get hx hb hts hown hI 1 (v := .ref g.2.2.1) (by decide) q3633 rfl rfl dX5_eatenShare_2 ?_
  refine lv_iconst (v := 5) hx hb dX5_eatenShare_5 (by decide) ?_
  refine zt_ld1 hx hb hI hw.1 dX5_eatenShare_6 ?_
  have hw := hw.2
  refine lv_if_ne (tgt := 14) hx hb dX5_eatenShare_7 (by decide) (fun hc_1 => ?_) (fun hc_1 => ?_)
  · have hw := hw.1 hc_1
    refine lv_iconst (v := 0) hx hb dX5_eatenShare_14 (by decide) ?_
    exact zj_eatenShare_15 g post (0 : Int32) S ⟨hx, hb, hml, hown, hts, hr, hlk⟩ hw hI (lv_sub hl [0] rfl)
  · have hw := hw.2 hc_1
    refine lv_iconst (v := 1) hx hb dX5_eatenShare_10 (by decide) ?_
    refine lv_goto (tgt := 15) hx hb dX5_eatenShare_11 (by decide) ?_
    exact zj_eatenShare_15 g post (1 : Int32) S ⟨hx, hb, hml, hown, hts, hr, hlk⟩ hw hI (lv_sub hl [0] rfl)
theorem hdT_eatenShare : yX5_eatenShare.cls = RX5 ∧ yX5_eatenShare.cls ≠ "java/lang/invoke/MethodHandle" ∧ yX5_eatenShare.cls ≠ "java/lang/invoke/VarHandle" ∧ (parseMethodDescriptor yX5_eatenShare.desc).map (fun d => d.parameters.length) = some 0 := by decide +kernel
def zw_quires (S : zt_S) (post : Int32 → zt_S → Prop) : Prop :=
  ∃ (In_1 : Int32 → Int32 → zt_S → Prop) (mu_1 : Int32 → Int32 → zt_S → Nat), In_1 (0 : Int32) (0 : Int32) S ∧ ∀ (x1_1 : Int32) (x2_1 : Int32) (S_1 : zt_S), In_1 x1_1 x2_1 S_1 → (vp_in (5 : Int32) 3810 ∧ ((S_1 1 (5 : Int32).toNatClampNeg ≤ x2_1 → (post x1_1 S_1)) ∧ (¬ S_1 1 (5 : Int32).toNatClampNeg ≤ x2_1 → (zw_r x2_1 (2 : Int32) S_1 (fun (r_4 : Int32) (S_3 : zt_S) => In_1 (x1_1 + r_4) (x2_1 + (1 : Int32)) S_3 ∧ mu_1 (x1_1 + r_4) (x2_1 + (1 : Int32)) S_3 < mu_1 x1_1 x2_1 S_1)))))
set_option maxHeartbeats 4000000 in
theorem zm_quires (l : Launch) (g : zt_G) (S : zt_S) (post : Int32 → zt_S → Prop) (hw : zw_quires S post) : Met l yX5_quires (ws_ yX5_quires cX5_quires 3 (some .int)) ({ frames := 1, cells := 0, slots := 0, locals := 22 } : Room) (va_Pc (.ref g.2.1 :: []) (zt_B g S)) (va_Qi post (zt_B g) (zt_A g)) 0 0 (zt_A g) := by
  refine zt_met (by decide) rfl (Nat.le_of_ble_eq_true rfl) (fun p e s m below meth c ls hC hI hl => ?_)
  generalize (Value.ref g.2.1 :: ([] : List Value)).toArray = args at hC ⊢
  obtain ⟨hx, hb, hml, hown, hts, hr, hlk⟩ := hC
  have hl : lv_has ls 3 [(0, .ref g.2.1)] := hl
  unfold zw_quires at hw
  obtain ⟨H, eH⟩ : ∃ z, z = s.heap := ⟨_, rfl⟩
  obtain ⟨locs, elo⟩ : ∃ z : List Loc, z = [] := ⟨_, rfl⟩
  rw [← eH, ← elo] at hI ⊢
  refine lv_iconst (v := 0) hx hb dX5_quires_0 (by decide) ?_
  refine lv_istore_n (lv' := [(1, .int (0 : Int32)), (0, .ref g.2.1)]) hx hb dX5_quires_1 rfl hl (by decide) rfl (fun ls hl => ?_)
  refine lv_iconst (v := 0) hx hb dX5_quires_2 (by decide) ?_
  refine lv_istore_n (lv' := [(2, .int (0 : Int32)), (1, .int (0 : Int32)), (0, .ref g.2.1)]) hx hb dX5_quires_3 rfl hl (by decide) rfl (fun ls hl => ?_)
  obtain ⟨In_1, mu_1, h0_1, hw⟩ := hw
  have hL_1 : ∀ (n : Nat) (x1_1 : Int32) (x2_1 : Int32) (S_1 : zt_S) (H : Heap) (locs : List Loc) (ls : Array Slot), mu_1 x1_1 x2_1 S_1 < n → In_1 x1_1 x2_1 S_1 → zt_I g S_1 s H locs → lv_has ls 3 [(0, .ref g.2.1), (1, .int x1_1), (2, .int x2_1)] → W p l e ({ frames := 1, cells := 0, slots := 0, locals := 22 } : Room) s m args below meth c H locs 0 0 (MQ below (va_Qi post (zt_B g) (zt_A g)) args s 0 0 (zt_A g)) (F0 m 4 ls []) := by
    intro n
    induction n with
    | zero => intro x1_1 x2_1 S_1 H locs ls hn _ _ _; exact absurd hn (Nat.not_lt_zero _)
    | succ n ih_1 =>
      intro x1_1 x2_1 S_1 H locs ls hn_1 hi_1 hI hl
      have hw := hw x1_1 x2_1 S_1 hi_1
      refine lv_iload_n hx hb dX5_quires_4 rfl (lv_at hl 2 rfl) ?_
      refine lv_aload_n hx hb dX5_quires_5 rfl (lv_at hl 0 rfl) ?_
      refine zt_get hx hb hts hown hI 1 (v := .ref g.2.2.1) (by decide) q3633 rfl rfl dX5_quires_6 ?_
      refine lv_iconst (v := 5) hx hb dX5_quires_9 (by decide) ?_
      refine zt_ld1 hx hb hI hw.1 dX5_quires_10 ?_
      have hw := hw.2
      refine lv_icmp_ge (tgt := 29) hx hb dX5_quires_11 (by decide) (fun hc_2 => ?_) (fun hc_2 => ?_)
      · have hw := hw.1 hc_2
        refine lv_iload_n hx hb dX5_quires_29 rfl (lv_at hl 1 rfl) ?_
        exact zt_iret hx hb hr hlk hI hw dX5_quires_30
      · have hw := hw.2 hc_2
        refine lv_iload_n hx hb dX5_quires_14 rfl (lv_at hl 1 rfl) ?_
        refine lv_aload_n hx hb dX5_quires_15 rfl (lv_at hl 0 rfl) ?_
        refine lv_iload_n hx hb dX5_quires_16 rfl (lv_at hl 2 rfl) ?_
        refine lv_iconst (v := 2) hx hb dX5_quires_17 (by decide) ?_
        refine zt_calli (As := [.int x2_1, .int (2 : Int32)]) (rest := [.int x1_1]) ⟨hx, hb, hml, hown, hts⟩ hI (zm_r l g x2_1 (2 : Int32) S_1 _ hw) (cwV 2 hts (lw_V q3761 q3763 qs49 q113 q3764) rfl rfl rfl hdT_r ⟨Nat.le_of_ble_eq_true rfl, Nat.le_of_ble_eq_true rfl⟩) rfl hl.1 rfl (lv_room (Nat.le_of_ble_eq_true rfl)) dX5_quires_18 ⟨Nat.le_refl _, Nat.le_refl _⟩ (fun r_4 S_3 H locs hw hI => ?_)
        refine lv_iadd hx hb dX5_quires_21 ?_
        refine lv_istore_n (lv' := [(1, .int (x1_1 + r_4)), (0, .ref g.2.1), (2, .int x2_1)]) hx hb dX5_quires_22 rfl hl (by decide) rfl (fun ls hl => ?_)
        refine lv_iinc (v := x2_1 + (1 : Int32)) (lv' := [(2, .int (x2_1 + (1 : Int32))), (1, .int (x1_1 + r_4)), (0, .ref g.2.1)]) hx hb dX5_quires_23 hl (k := 2) rfl rfl (by decide) rfl (fun ls hl => ?_)
        refine lv_goto (tgt := 4) hx hb dX5_quires_26 (by decide) ?_
        exact ih_1 _ _ _ H locs ls (Nat.lt_of_lt_of_le hw.2 (Nat.le_of_lt_succ hn_1)) hw.1 hI (lv_sub hl [2, 1, 0] rfl)
  exact hL_1 _ _ _ _ H locs ls (Nat.lt_succ_self _) h0_1 hI (lv_sub hl [2, 1, 0] rfl)
theorem hdT_quires : yX5_quires.cls = RX5 ∧ yX5_quires.cls ≠ "java/lang/invoke/MethodHandle" ∧ yX5_quires.cls ≠ "java/lang/invoke/VarHandle" ∧ (parseMethodDescriptor yX5_quires.desc).map (fun d => d.parameters.length) = some 0 := by decide +kernel
def zw_wavy (S : zt_S) (post : Int32 → zt_S → Prop) : Prop :=
  ∃ (In_1 : Int32 → Int32 → zt_S → Prop) (mu_1 : Int32 → Int32 → zt_S → Nat), In_1 (0 : Int32) (0 : Int32) S ∧ ∀ (x1_1 : Int32) (x2_1 : Int32) (S_1 : zt_S), In_1 x1_1 x2_1 S_1 → (vp_in (5 : Int32) 3810 ∧ ((S_1 1 (5 : Int32).toNatClampNeg ≤ x2_1 → (post x1_1 S_1)) ∧ (¬ S_1 1 (5 : Int32).toNatClampNeg ≤ x2_1 → (zw_r x2_1 (4 : Int32) S_1 (fun (r_4 : Int32) (S_3 : zt_S) => (r_4 = (-1 : Int32) → (In_1 (x1_1 + (0 : Int32)) (x2_1 + (1 : Int32)) S_3 ∧ mu_1 (x1_1 + (0 : Int32)) (x2_1 + (1 : Int32)) S_3 < mu_1 x1_1 x2_1 S_1)) ∧ (¬ r_4 = (-1 : Int32) → (zw_isWavy x2_1 S_3 (fun (r_7 : Int32) (S_6 : zt_S) => (r_7 = (0 : Int32) → (In_1 (x1_1 + (0 : Int32)) (x2_1 + (1 : Int32)) S_6 ∧ mu_1 (x1_1 + (0 : Int32)) (x2_1 + (1 : Int32)) S_6 < mu_1 x1_1 x2_1 S_1)) ∧ (¬ r_7 = (0 : Int32) → (In_1 (x1_1 + (1 : Int32)) (x2_1 + (1 : Int32)) S_6 ∧ mu_1 (x1_1 + (1 : Int32)) (x2_1 + (1 : Int32)) S_6 < mu_1 x1_1 x2_1 S_1))))))))))
set_option maxHeartbeats 4000000 in
theorem zm_wavy (l : Launch) (g : zt_G) (S : zt_S) (post : Int32 → zt_S → Prop) (hw : zw_wavy S post) : Met l yX5_wavy (ws_ yX5_wavy cX5_wavy 3 (some .int)) ({ frames := 2, cells := 0, slots := 0, locals := 43 } : Room) (va_Pc (.ref g.2.1 :: []) (zt_B g S)) (va_Qi post (zt_B g) (zt_A g)) 0 0 (zt_A g) := by
  refine zt_met (by decide) rfl (Nat.le_of_ble_eq_true rfl) (fun p e s m below meth c ls hC hI hl => ?_)
  generalize (Value.ref g.2.1 :: ([] : List Value)).toArray = args at hC ⊢
  obtain ⟨hx, hb, hml, hown, hts, hr, hlk⟩ := hC
  have hl : lv_has ls 3 [(0, .ref g.2.1)] := hl
  unfold zw_wavy at hw
  obtain ⟨H, eH⟩ : ∃ z, z = s.heap := ⟨_, rfl⟩
  obtain ⟨locs, elo⟩ : ∃ z : List Loc, z = [] := ⟨_, rfl⟩
  rw [← eH, ← elo] at hI ⊢
  refine lv_iconst (v := 0) hx hb dX5_wavy_0 (by decide) ?_
  refine lv_istore_n (lv' := [(1, .int (0 : Int32)), (0, .ref g.2.1)]) hx hb dX5_wavy_1 rfl hl (by decide) rfl (fun ls hl => ?_)
  refine lv_iconst (v := 0) hx hb dX5_wavy_2 (by decide) ?_
  refine lv_istore_n (lv' := [(2, .int (0 : Int32)), (1, .int (0 : Int32)), (0, .ref g.2.1)]) hx hb dX5_wavy_3 rfl hl (by decide) rfl (fun ls hl => ?_)
  obtain ⟨In_1, mu_1, h0_1, hw⟩ := hw
  have hL_1 : ∀ (n : Nat) (x1_1 : Int32) (x2_1 : Int32) (S_1 : zt_S) (H : Heap) (locs : List Loc) (ls : Array Slot), mu_1 x1_1 x2_1 S_1 < n → In_1 x1_1 x2_1 S_1 → zt_I g S_1 s H locs → lv_has ls 3 [(0, .ref g.2.1), (1, .int x1_1), (2, .int x2_1)] → W p l e ({ frames := 2, cells := 0, slots := 0, locals := 43 } : Room) s m args below meth c H locs 0 0 (MQ below (va_Qi post (zt_B g) (zt_A g)) args s 0 0 (zt_A g)) (F0 m 4 ls []) := by
    intro n
    induction n with
    | zero => intro x1_1 x2_1 S_1 H locs ls hn _ _ _; exact absurd hn (Nat.not_lt_zero _)
    | succ n ih_1 =>
      intro x1_1 x2_1 S_1 H locs ls hn_1 hi_1 hI hl
      have hw := hw x1_1 x2_1 S_1 hi_1
      refine lv_iload_n hx hb dX5_wavy_4 rfl (lv_at hl 2 rfl) ?_
      refine lv_aload_n hx hb dX5_wavy_5 rfl (lv_at hl 0 rfl) ?_
      refine zt_get hx hb hts hown hI 1 (v := .ref g.2.2.1) (by decide) q3633 rfl rfl dX5_wavy_6 ?_
      refine lv_iconst (v := 5) hx hb dX5_wavy_9 (by decide) ?_
      refine zt_ld1 hx hb hI hw.1 dX5_wavy_10 ?_
      have hw := hw.2
      refine lv_icmp_ge (tgt := 46) hx hb dX5_wavy_11 (by decide) (fun hc_2 => ?_) (fun hc_2 => ?_)
      · have hw := hw.1 hc_2
        refine lv_iload_n hx hb dX5_wavy_46 rfl (lv_at hl 1 rfl) ?_
        exact zt_iret hx hb hr hlk hI hw dX5_wavy_47
      · have hw := hw.2 hc_2
        refine lv_iload_n hx hb dX5_wavy_14 rfl (lv_at hl 1 rfl) ?_
        refine lv_aload_n hx hb dX5_wavy_15 rfl (lv_at hl 0 rfl) ?_
        refine lv_iload_n hx hb dX5_wavy_16 rfl (lv_at hl 2 rfl) ?_
        refine lv_iconst (v := 4) hx hb dX5_wavy_17 (by decide) ?_
        refine zt_calli (As := [.int x2_1, .int (4 : Int32)]) (rest := [.int x1_1]) ⟨hx, hb, hml, hown, hts⟩ hI (zm_r l g x2_1 (4 : Int32) S_1 _ hw) (cwV 2 hts (lw_V q3761 q3763 qs49 q113 q3764) rfl rfl rfl hdT_r ⟨Nat.le_of_ble_eq_true rfl, Nat.le_of_ble_eq_true rfl⟩) rfl hl.1 rfl (lv_room (Nat.le_of_ble_eq_true rfl)) dX5_wavy_18 ⟨Nat.le_refl _, Nat.le_refl _⟩ (fun r_4 S_3 H locs hw hI => ?_)
        refine lv_iconst (v := -1) hx hb dX5_wavy_21 (by decide) ?_
        refine lv_icmp_eq (tgt := 37) hx hb dX5_wavy_22 (by decide) (fun hc_5 => ?_) (fun hc_5 => ?_)
        · have hw := hw.1 hc_5
          refine lv_iconst (v := 0) hx hb dX5_wavy_37 (by decide) ?_
          refine lv_iadd hx hb dX5_wavy_38 ?_
          refine lv_istore_n (lv' := [(1, .int (x1_1 + (0 : Int32))), (0, .ref g.2.1), (2, .int x2_1)]) hx hb dX5_wavy_39 rfl hl (by decide) rfl (fun ls hl => ?_)
          refine lv_iinc (v := x2_1 + (1 : Int32)) (lv' := [(2, .int (x2_1 + (1 : Int32))), (1, .int (x1_1 + (0 : Int32))), (0, .ref g.2.1)]) hx hb dX5_wavy_40 hl (k := 2) rfl rfl (by decide) rfl (fun ls hl => ?_)
          refine lv_goto (tgt := 4) hx hb dX5_wavy_43 (by decide) ?_
          exact ih_1 _ _ _ H locs ls (Nat.lt_of_lt_of_le hw.2 (Nat.le_of_lt_succ hn_1)) hw.1 hI (lv_sub hl [2, 1, 0] rfl)
        · have hw := hw.2 hc_5
          refine lv_aload_n hx hb dX5_wavy_25 rfl (lv_at hl 0 rfl) ?_
          refine lv_iload_n hx hb dX5_wavy_26 rfl (lv_at hl 2 rfl) ?_
          refine zt_calli (As := [.int x2_1]) (rest := [.int x1_1]) ⟨hx, hb, hml, hown, hts⟩ hI (zm_isWavy l g x2_1 S_3 _ hw) (cwV 1 hts (lw_V q3793 q3795 qs54 q113 q3796) rfl rfl rfl hdT_isWavy ⟨Nat.le_of_ble_eq_true rfl, Nat.le_of_ble_eq_true rfl⟩) rfl hl.1 rfl (lv_room (Nat.le_of_ble_eq_true rfl)) dX5_wavy_27 ⟨Nat.le_refl _, Nat.le_refl _⟩ (fun r_7 S_6 H locs hw hI => ?_)
          refine lv_if_eq (tgt := 37) hx hb dX5_wavy_30 (by decide) (fun hc_8 => ?_) (fun hc_8 => ?_)
          · have hw := hw.1 hc_8
            refine lv_iconst (v := 0) hx hb dX5_wavy_37 (by decide) ?_
            refine lv_iadd hx hb dX5_wavy_38 ?_
            refine lv_istore_n (lv' := [(1, .int (x1_1 + (0 : Int32))), (0, .ref g.2.1), (2, .int x2_1)]) hx hb dX5_wavy_39 rfl hl (by decide) rfl (fun ls hl => ?_)
            refine lv_iinc (v := x2_1 + (1 : Int32)) (lv' := [(2, .int (x2_1 + (1 : Int32))), (1, .int (x1_1 + (0 : Int32))), (0, .ref g.2.1)]) hx hb dX5_wavy_40 hl (k := 2) rfl rfl (by decide) rfl (fun ls hl => ?_)
            refine lv_goto (tgt := 4) hx hb dX5_wavy_43 (by decide) ?_
            exact ih_1 _ _ _ H locs ls (Nat.lt_of_lt_of_le hw.2 (Nat.le_of_lt_succ hn_1)) hw.1 hI (lv_sub hl [2, 1, 0] rfl)
          · have hw := hw.2 hc_8
            refine lv_iconst (v := 1) hx hb dX5_wavy_33 (by decide) ?_
            refine lv_goto (tgt := 38) hx hb dX5_wavy_34 (by decide) ?_
            refine lv_iadd hx hb dX5_wavy_38 ?_
            refine lv_istore_n (lv' := [(1, .int (x1_1 + (1 : Int32))), (0, .ref g.2.1), (2, .int x2_1)]) hx hb dX5_wavy_39 rfl hl (by decide) rfl (fun ls hl => ?_)
            refine lv_iinc (v := x2_1 + (1 : Int32)) (lv' := [(2, .int (x2_1 + (1 : Int32))), (1, .int (x1_1 + (1 : Int32))), (0, .ref g.2.1)]) hx hb dX5_wavy_40 hl (k := 2) rfl rfl (by decide) rfl (fun ls hl => ?_)
            refine lv_goto (tgt := 4) hx hb dX5_wavy_43 (by decide) ?_
            exact ih_1 _ _ _ H locs ls (Nat.lt_of_lt_of_le hw.2 (Nat.le_of_lt_succ hn_1)) hw.1 hI (lv_sub hl [2, 1, 0] rfl)
  exact hL_1 _ _ _ _ H locs ls (Nat.lt_succ_self _) h0_1 hI (lv_sub hl [2, 1, 0] rfl)
theorem hdT_wavy : yX5_wavy.cls = RX5 ∧ yX5_wavy.cls ≠ "java/lang/invoke/MethodHandle" ∧ yX5_wavy.cls ≠ "java/lang/invoke/VarHandle" ∧ (parseMethodDescriptor yX5_wavy.desc).map (fun d => d.parameters.length) = some 0 := by decide +kernel
def zw_onCarts (S : zt_S) (post : Int32 → zt_S → Prop) : Prop :=
  ∃ (In_1 : Int32 → Int32 → zt_S → Prop) (mu_1 : Int32 → Int32 → zt_S → Nat), In_1 (0 : Int32) (0 : Int32) S ∧ ∀ (x1_1 : Int32) (x2_1 : Int32) (S_1 : zt_S), In_1 x1_1 x2_1 S_1 → (vp_in (8 : Int32) 3810 ∧ ((S_1 1 (8 : Int32).toNatClampNeg ≤ x2_1 → (post x1_1 S_1)) ∧ (¬ S_1 1 (8 : Int32).toNatClampNeg ≤ x2_1 → (zw_c x2_1 (1 : Int32) S_1 (fun (r_4 : Int32) (S_3 : zt_S) => In_1 (x1_1 + r_4) (x2_1 + (1 : Int32)) S_3 ∧ mu_1 (x1_1 + r_4) (x2_1 + (1 : Int32)) S_3 < mu_1 x1_1 x2_1 S_1)))))
set_option maxHeartbeats 4000000 in
theorem zm_onCarts (l : Launch) (g : zt_G) (S : zt_S) (post : Int32 → zt_S → Prop) (hw : zw_onCarts S post) : Met l yX5_onCarts (ws_ yX5_onCarts cX5_onCarts 3 (some .int)) ({ frames := 1, cells := 0, slots := 0, locals := 22 } : Room) (va_Pc (.ref g.2.1 :: []) (zt_B g S)) (va_Qi post (zt_B g) (zt_A g)) 0 0 (zt_A g) := by
  refine zt_met (by decide) rfl (Nat.le_of_ble_eq_true rfl) (fun p e s m below meth c ls hC hI hl => ?_)
  generalize (Value.ref g.2.1 :: ([] : List Value)).toArray = args at hC ⊢
  obtain ⟨hx, hb, hml, hown, hts, hr, hlk⟩ := hC
  have hl : lv_has ls 3 [(0, .ref g.2.1)] := hl
  unfold zw_onCarts at hw
  obtain ⟨H, eH⟩ : ∃ z, z = s.heap := ⟨_, rfl⟩
  obtain ⟨locs, elo⟩ : ∃ z : List Loc, z = [] := ⟨_, rfl⟩
  rw [← eH, ← elo] at hI ⊢
  refine lv_iconst (v := 0) hx hb dX5_onCarts_0 (by decide) ?_
  refine lv_istore_n (lv' := [(1, .int (0 : Int32)), (0, .ref g.2.1)]) hx hb dX5_onCarts_1 rfl hl (by decide) rfl (fun ls hl => ?_)
  refine lv_iconst (v := 0) hx hb dX5_onCarts_2 (by decide) ?_
  refine lv_istore_n (lv' := [(2, .int (0 : Int32)), (1, .int (0 : Int32)), (0, .ref g.2.1)]) hx hb dX5_onCarts_3 rfl hl (by decide) rfl (fun ls hl => ?_)
  obtain ⟨In_1, mu_1, h0_1, hw⟩ := hw
  have hL_1 : ∀ (n : Nat) (x1_1 : Int32) (x2_1 : Int32) (S_1 : zt_S) (H : Heap) (locs : List Loc) (ls : Array Slot), mu_1 x1_1 x2_1 S_1 < n → In_1 x1_1 x2_1 S_1 → zt_I g S_1 s H locs → lv_has ls 3 [(0, .ref g.2.1), (1, .int x1_1), (2, .int x2_1)] → W p l e ({ frames := 1, cells := 0, slots := 0, locals := 22 } : Room) s m args below meth c H locs 0 0 (MQ below (va_Qi post (zt_B g) (zt_A g)) args s 0 0 (zt_A g)) (F0 m 4 ls []) := by
    intro n
    induction n with
    | zero => intro x1_1 x2_1 S_1 H locs ls hn _ _ _; exact absurd hn (Nat.not_lt_zero _)
    | succ n ih_1 =>
      intro x1_1 x2_1 S_1 H locs ls hn_1 hi_1 hI hl
      have hw := hw x1_1 x2_1 S_1 hi_1
      refine lv_iload_n hx hb dX5_onCarts_4 rfl (lv_at hl 2 rfl) ?_
      refine lv_aload_n hx hb dX5_onCarts_5 rfl (lv_at hl 0 rfl) ?_
      refine zt_get hx hb hts hown hI 1 (v := .ref g.2.2.1) (by decide) q3633 rfl rfl dX5_onCarts_6 ?_
      refine lv_bipush (v := 8) hx hb dX5_onCarts_9 (by decide) ?_
      refine zt_ld1 hx hb hI hw.1 dX5_onCarts_11 ?_
      have hw := hw.2
      refine lv_icmp_ge (tgt := 30) hx hb dX5_onCarts_12 (by decide) (fun hc_2 => ?_) (fun hc_2 => ?_)
      · have hw := hw.1 hc_2
        refine lv_iload_n hx hb dX5_onCarts_30 rfl (lv_at hl 1 rfl) ?_
        exact zt_iret hx hb hr hlk hI hw dX5_onCarts_31
      · have hw := hw.2 hc_2
        refine lv_iload_n hx hb dX5_onCarts_15 rfl (lv_at hl 1 rfl) ?_
        refine lv_aload_n hx hb dX5_onCarts_16 rfl (lv_at hl 0 rfl) ?_
        refine lv_iload_n hx hb dX5_onCarts_17 rfl (lv_at hl 2 rfl) ?_
        refine lv_iconst (v := 1) hx hb dX5_onCarts_18 (by decide) ?_
        refine zt_calli (As := [.int x2_1, .int (1 : Int32)]) (rest := [.int x1_1]) ⟨hx, hb, hml, hown, hts⟩ hI (zm_c l g x2_1 (1 : Int32) S_1 _ hw) (cwV 2 hts (lw_V q3903 q3905 qs72 q113 q3906) rfl rfl rfl hdT_c ⟨Nat.le_of_ble_eq_true rfl, Nat.le_of_ble_eq_true rfl⟩) rfl hl.1 rfl (lv_room (Nat.le_of_ble_eq_true rfl)) dX5_onCarts_19 ⟨Nat.le_refl _, Nat.le_refl _⟩ (fun r_4 S_3 H locs hw hI => ?_)
        refine lv_iadd hx hb dX5_onCarts_22 ?_
        refine lv_istore_n (lv' := [(1, .int (x1_1 + r_4)), (0, .ref g.2.1), (2, .int x2_1)]) hx hb dX5_onCarts_23 rfl hl (by decide) rfl (fun ls hl => ?_)
        refine lv_iinc (v := x2_1 + (1 : Int32)) (lv' := [(2, .int (x2_1 + (1 : Int32))), (1, .int (x1_1 + r_4)), (0, .ref g.2.1)]) hx hb dX5_onCarts_24 hl (k := 2) rfl rfl (by decide) rfl (fun ls hl => ?_)
        refine lv_goto (tgt := 4) hx hb dX5_onCarts_27 (by decide) ?_
        exact ih_1 _ _ _ H locs ls (Nat.lt_of_lt_of_le hw.2 (Nat.le_of_lt_succ hn_1)) hw.1 hI (lv_sub hl [2, 1, 0] rfl)
  exact hL_1 _ _ _ _ H locs ls (Nat.lt_succ_self _) h0_1 hI (lv_sub hl [2, 1, 0] rfl)
theorem hdT_onCarts : yX5_onCarts.cls = RX5 ∧ yX5_onCarts.cls ≠ "java/lang/invoke/MethodHandle" ∧ yX5_onCarts.cls ≠ "java/lang/invoke/VarHandle" ∧ (parseMethodDescriptor yX5_onCarts.desc).map (fun d => d.parameters.length) = some 0 := by decide +kernel
def zw_sentInAll (S : zt_S) (post : Int32 → zt_S → Prop) : Prop :=
  ∃ (In_1 : Int32 → Int32 → Prop) (mu_1 : Int32 → Int32 → Nat), In_1 (0 : Int32) (0 : Int32) ∧ ∀ (x1_1 : Int32) (x2_1 : Int32), In_1 x1_1 x2_1 → (((12 : Int32) ≤ x2_1 → (post x1_1 S)) ∧ (¬ (12 : Int32) ≤ x2_1 → (vp_in ((369 : Int32) + x2_1) 3810 ∧ (∀ x_3 : Int32, x_3 = x1_1 + (S 1 ((369 : Int32) + x2_1).toNatClampNeg) → (In_1 x_3 (x2_1 + (1 : Int32)) ∧ mu_1 x_3 (x2_1 + (1 : Int32)) < mu_1 x1_1 x2_1)))))
set_option maxHeartbeats 4000000 in
theorem zm_sentInAll (l : Launch) (g : zt_G) (S : zt_S) (post : Int32 → zt_S → Prop) (hw : zw_sentInAll S post) : Met l yX5_sentInAll (ws_ yX5_sentInAll cX5_sentInAll 3 (some .int)) ({ frames := 0, cells := 0, slots := 0, locals := 0 } : Room) (va_Pc (.ref g.2.1 :: []) (zt_B g S)) (va_Qi post (zt_B g) (zt_A g)) 0 0 (zt_A g) := by
  refine zt_met (by decide) rfl (Nat.le_of_ble_eq_true rfl) (fun p e s m below meth c ls hC hI hl => ?_)
  generalize (Value.ref g.2.1 :: ([] : List Value)).toArray = args at hC ⊢
  obtain ⟨hx, hb, hml, hown, hts, hr, hlk⟩ := hC
  have hl : lv_has ls 3 [(0, .ref g.2.1)] := hl
  unfold zw_sentInAll at hw
  obtain ⟨H, eH⟩ : ∃ z, z = s.heap := ⟨_, rfl⟩
  obtain ⟨locs, elo⟩ : ∃ z : List Loc, z = [] := ⟨_, rfl⟩
  rw [← eH, ← elo] at hI ⊢
  refine lv_iconst (v := 0) hx hb dX5_sentInAll_0 (by decide) ?_
  refine lv_istore_n (lv' := [(1, .int (0 : Int32)), (0, .ref g.2.1)]) hx hb dX5_sentInAll_1 rfl hl (by decide) rfl (fun ls hl => ?_)
  refine lv_iconst (v := 0) hx hb dX5_sentInAll_2 (by decide) ?_
  refine lv_istore_n (lv' := [(2, .int (0 : Int32)), (1, .int (0 : Int32)), (0, .ref g.2.1)]) hx hb dX5_sentInAll_3 rfl hl (by decide) rfl (fun ls hl => ?_)
  obtain ⟨In_1, mu_1, h0_1, hw⟩ := hw
  have hL_1 : ∀ (n : Nat) (x1_1 : Int32) (x2_1 : Int32) (ls : Array Slot), mu_1 x1_1 x2_1 < n → In_1 x1_1 x2_1 → lv_has ls 3 [(0, .ref g.2.1), (1, .int x1_1), (2, .int x2_1)] → W p l e ({ frames := 0, cells := 0, slots := 0, locals := 0 } : Room) s m args below meth c H locs 0 0 (MQ below (va_Qi post (zt_B g) (zt_A g)) args s 0 0 (zt_A g)) (F0 m 4 ls []) := by
    intro n
    induction n with
    | zero => intro x1_1 x2_1 ls hn _ _; exact absurd hn (Nat.not_lt_zero _)
    | succ n ih_1 =>
      intro x1_1 x2_1 ls hn_1 hi_1 hl
      have hw := hw x1_1 x2_1 hi_1
      refine lv_iload_n hx hb dX5_sentInAll_4 rfl (lv_at hl 2 rfl) ?_
      refine lv_bipush (v := 12) hx hb dX5_sentInAll_5 (by decide) ?_
      refine lv_icmp_ge (tgt := 29) hx hb dX5_sentInAll_7 (by decide) (fun hc_2 => ?_) (fun hc_2 => ?_)
      · have hw := hw.1 hc_2
        refine lv_iload_n hx hb dX5_sentInAll_29 rfl (lv_at hl 1 rfl) ?_
        exact zt_iret hx hb hr hlk hI hw dX5_sentInAll_30
      · have hw := hw.2 hc_2
        refine lv_iload_n hx hb dX5_sentInAll_10 rfl (lv_at hl 1 rfl) ?_
        refine lv_aload_n hx hb dX5_sentInAll_11 rfl (lv_at hl 0 rfl) ?_
        refine zt_get hx hb hts hown hI 1 (v := .ref g.2.2.1) (by decide) q3633 rfl rfl dX5_sentInAll_12 ?_
        refine lv_sipush (v := 369) hx hb dX5_sentInAll_15 (by decide) ?_
        refine lv_iload_n hx hb dX5_sentInAll_18 rfl (lv_at hl 2 rfl) ?_
        refine lv_iadd hx hb dX5_sentInAll_19 ?_
        refine zt_ld1 hx hb hI hw.1 dX5_sentInAll_20 ?_
        have hw := hw.2
        refine lv_iadd hx hb dX5_sentInAll_21 ?_
        refine lv_topi (fun x_3 ex_3 => ?_)
        have hw := hw x_3 ex_3
        refine lv_istore_n (lv' := [(1, .int x_3), (0, .ref g.2.1), (2, .int x2_1)]) hx hb dX5_sentInAll_22 rfl hl (by decide) rfl (fun ls hl => ?_)
        refine lv_iinc (v := x2_1 + (1 : Int32)) (lv' := [(2, .int (x2_1 + (1 : Int32))), (1, .int x_3), (0, .ref g.2.1)]) hx hb dX5_sentInAll_23 hl (k := 2) rfl rfl (by decide) rfl (fun ls hl => ?_)
        refine lv_goto (tgt := 4) hx hb dX5_sentInAll_26 (by decide) ?_
        exact ih_1 _ _ ls (Nat.lt_of_lt_of_le hw.2 (Nat.le_of_lt_succ hn_1)) hw.1 (lv_sub hl [2, 1, 0] rfl)
  exact hL_1 _ _ _ ls (Nat.lt_succ_self _) h0_1 (lv_sub hl [2, 1, 0] rfl)
theorem hdT_sentInAll : yX5_sentInAll.cls = RX5 ∧ yX5_sentInAll.cls ≠ "java/lang/invoke/MethodHandle" ∧ yX5_sentInAll.cls ≠ "java/lang/invoke/VarHandle" ∧ (parseMethodDescriptor yX5_sentInAll.desc).map (fun d => d.parameters.length) = some 0 := by decide +kernel
def zw_ordersThat (p1 : Int32) (S : zt_S) (post : Int32 → zt_S → Prop) : Prop :=
  ∃ (In_1 : Int32 → Int32 → zt_S → Prop) (mu_1 : Int32 → Int32 → zt_S → Nat), In_1 (0 : Int32) (0 : Int32) S ∧ ∀ (x2_1 : Int32) (x3_1 : Int32) (S_1 : zt_S), In_1 x2_1 x3_1 S_1 → (vp_in (7 : Int32) 3810 ∧ ((S_1 1 (7 : Int32).toNatClampNeg ≤ x3_1 → (post x2_1 S_1)) ∧ (¬ S_1 1 (7 : Int32).toNatClampNeg ≤ x3_1 → (zw_o x3_1 (3 : Int32) S_1 (fun (r_4 : Int32) (S_3 : zt_S) => (¬ r_4 = p1 → (In_1 (x2_1 + (0 : Int32)) (x3_1 + (1 : Int32)) S_3 ∧ mu_1 (x2_1 + (0 : Int32)) (x3_1 + (1 : Int32)) S_3 < mu_1 x2_1 x3_1 S_1)) ∧ (r_4 = p1 → (In_1 (x2_1 + (1 : Int32)) (x3_1 + (1 : Int32)) S_3 ∧ mu_1 (x2_1 + (1 : Int32)) (x3_1 + (1 : Int32)) S_3 < mu_1 x2_1 x3_1 S_1)))))))
set_option maxHeartbeats 4000000 in
theorem zm_ordersThat (l : Launch) (g : zt_G) (p1 : Int32) (S : zt_S) (post : Int32 → zt_S → Prop) (hw : zw_ordersThat p1 S post) : Met l yX5_ordersThat (ws_ yX5_ordersThat cX5_ordersThat 4 (some .int)) ({ frames := 1, cells := 0, slots := 0, locals := 22 } : Room) (va_Pc (.ref g.2.1 :: [.int p1]) (zt_B g S)) (va_Qi post (zt_B g) (zt_A g)) 0 0 (zt_A g) := by
  refine zt_met (by decide) rfl (Nat.le_of_ble_eq_true rfl) (fun p e s m below meth c ls hC hI hl => ?_)
  generalize (Value.ref g.2.1 :: ([.int p1] : List Value)).toArray = args at hC ⊢
  obtain ⟨hx, hb, hml, hown, hts, hr, hlk⟩ := hC
  have hl : lv_has ls 4 [(0, .ref g.2.1), (1, .int p1)] := hl
  unfold zw_ordersThat at hw
  obtain ⟨H, eH⟩ : ∃ z, z = s.heap := ⟨_, rfl⟩
  obtain ⟨locs, elo⟩ : ∃ z : List Loc, z = [] := ⟨_, rfl⟩
  rw [← eH, ← elo] at hI ⊢
  refine lv_iconst (v := 0) hx hb dX5_ordersThat_0 (by decide) ?_
  refine lv_istore_n (lv' := [(2, .int (0 : Int32)), (0, .ref g.2.1), (1, .int p1)]) hx hb dX5_ordersThat_1 rfl hl (by decide) rfl (fun ls hl => ?_)
  refine lv_iconst (v := 0) hx hb dX5_ordersThat_2 (by decide) ?_
  refine lv_istore_n (lv' := [(3, .int (0 : Int32)), (2, .int (0 : Int32)), (0, .ref g.2.1), (1, .int p1)]) hx hb dX5_ordersThat_3 rfl hl (by decide) rfl (fun ls hl => ?_)
  obtain ⟨In_1, mu_1, h0_1, hw⟩ := hw
  have hL_1 : ∀ (n : Nat) (x2_1 : Int32) (x3_1 : Int32) (S_1 : zt_S) (H : Heap) (locs : List Loc) (ls : Array Slot), mu_1 x2_1 x3_1 S_1 < n → In_1 x2_1 x3_1 S_1 → zt_I g S_1 s H locs → lv_has ls 4 [(0, .ref g.2.1), (1, .int p1), (2, .int x2_1), (3, .int x3_1)] → W p l e ({ frames := 1, cells := 0, slots := 0, locals := 22 } : Room) s m args below meth c H locs 0 0 (MQ below (va_Qi post (zt_B g) (zt_A g)) args s 0 0 (zt_A g)) (F0 m 4 ls []) := by
    intro n
    induction n with
    | zero => intro x2_1 x3_1 S_1 H locs ls hn _ _ _; exact absurd hn (Nat.not_lt_zero _)
    | succ n ih_1 =>
      intro x2_1 x3_1 S_1 H locs ls hn_1 hi_1 hI hl
      have hw := hw x2_1 x3_1 S_1 hi_1
      refine lv_iload_n hx hb dX5_ordersThat_4 rfl (lv_at hl 3 rfl) ?_
      refine lv_aload_n hx hb dX5_ordersThat_5 rfl (lv_at hl 0 rfl) ?_
      refine zt_get hx hb hts hown hI 1 (v := .ref g.2.2.1) (by decide) q3633 rfl rfl dX5_ordersThat_6 ?_
      refine lv_bipush (v := 7) hx hb dX5_ordersThat_9 (by decide) ?_
      refine zt_ld1 hx hb hI hw.1 dX5_ordersThat_11 ?_
      have hw := hw.2
      refine lv_icmp_ge (tgt := 39) hx hb dX5_ordersThat_12 (by decide) (fun hc_2 => ?_) (fun hc_2 => ?_)
      · have hw := hw.1 hc_2
        refine lv_iload_n hx hb dX5_ordersThat_39 rfl (lv_at hl 2 rfl) ?_
        exact zt_iret hx hb hr hlk hI hw dX5_ordersThat_40
      · have hw := hw.2 hc_2
        refine lv_iload_n hx hb dX5_ordersThat_15 rfl (lv_at hl 2 rfl) ?_
        refine lv_aload_n hx hb dX5_ordersThat_16 rfl (lv_at hl 0 rfl) ?_
        refine lv_iload_n hx hb dX5_ordersThat_17 rfl (lv_at hl 3 rfl) ?_
        refine lv_iconst (v := 3) hx hb dX5_ordersThat_18 (by decide) ?_
        refine zt_calli (As := [.int x3_1, .int (3 : Int32)]) (rest := [.int x2_1]) ⟨hx, hb, hml, hown, hts⟩ hI (zm_o l g x3_1 (3 : Int32) S_1 _ hw) (cwV 2 hts (lw_V q3895 q3897 qs70 q113 q3898) rfl rfl rfl hdT_o ⟨Nat.le_of_ble_eq_true rfl, Nat.le_of_ble_eq_true rfl⟩) rfl hl.1 rfl (lv_room (Nat.le_of_ble_eq_true rfl)) dX5_ordersThat_19 ⟨Nat.le_refl _, Nat.le_refl _⟩ (fun r_4 S_3 H locs hw hI => ?_)
        refine lv_iload_n hx hb dX5_ordersThat_22 rfl (lv_at hl 1 rfl) ?_
        refine lv_icmp_ne (tgt := 30) hx hb dX5_ordersThat_23 (by decide) (fun hc_5 => ?_) (fun hc_5 => ?_)
        · have hw := hw.1 hc_5
          refine lv_iconst (v := 0) hx hb dX5_ordersThat_30 (by decide) ?_
          refine lv_iadd hx hb dX5_ordersThat_31 ?_
          refine lv_istore_n (lv' := [(2, .int (x2_1 + (0 : Int32))), (0, .ref g.2.1), (1, .int p1), (3, .int x3_1)]) hx hb dX5_ordersThat_32 rfl hl (by decide) rfl (fun ls hl => ?_)
          refine lv_iinc (v := x3_1 + (1 : Int32)) (lv' := [(3, .int (x3_1 + (1 : Int32))), (2, .int (x2_1 + (0 : Int32))), (0, .ref g.2.1), (1, .int p1)]) hx hb dX5_ordersThat_33 hl (k := 3) rfl rfl (by decide) rfl (fun ls hl => ?_)
          refine lv_goto (tgt := 4) hx hb dX5_ordersThat_36 (by decide) ?_
          exact ih_1 _ _ _ H locs ls (Nat.lt_of_lt_of_le hw.2 (Nat.le_of_lt_succ hn_1)) hw.1 hI (lv_sub hl [2, 3, 1, 0] rfl)
        · have hw := hw.2 hc_5
          refine lv_iconst (v := 1) hx hb dX5_ordersThat_26 (by decide) ?_
          refine lv_goto (tgt := 31) hx hb dX5_ordersThat_27 (by decide) ?_
          refine lv_iadd hx hb dX5_ordersThat_31 ?_
          refine lv_istore_n (lv' := [(2, .int (x2_1 + (1 : Int32))), (0, .ref g.2.1), (1, .int p1), (3, .int x3_1)]) hx hb dX5_ordersThat_32 rfl hl (by decide) rfl (fun ls hl => ?_)
          refine lv_iinc (v := x3_1 + (1 : Int32)) (lv' := [(3, .int (x3_1 + (1 : Int32))), (2, .int (x2_1 + (1 : Int32))), (0, .ref g.2.1), (1, .int p1)]) hx hb dX5_ordersThat_33 hl (k := 3) rfl rfl (by decide) rfl (fun ls hl => ?_)
          refine lv_goto (tgt := 4) hx hb dX5_ordersThat_36 (by decide) ?_
          exact ih_1 _ _ _ H locs ls (Nat.lt_of_lt_of_le hw.2 (Nat.le_of_lt_succ hn_1)) hw.1 hI (lv_sub hl [2, 3, 1, 0] rfl)
  exact hL_1 _ _ _ _ H locs ls (Nat.lt_succ_self _) h0_1 hI (lv_sub hl [2, 3, 1, 0] rfl)
theorem hdT_ordersThat : yX5_ordersThat.cls = RX5 ∧ yX5_ordersThat.cls ≠ "java/lang/invoke/MethodHandle" ∧ yX5_ordersThat.cls ≠ "java/lang/invoke/VarHandle" ∧ (parseMethodDescriptor yX5_ordersThat.desc).map (fun d => d.parameters.length) = some 1 := by decide +kernel
def zw_miceInAll (S : zt_S) (post : Int32 → zt_S → Prop) : Prop :=
  ∃ (In_1 : Int32 → Int32 → zt_S → Prop) (mu_1 : Int32 → Int32 → zt_S → Nat), In_1 (0 : Int32) (0 : Int32) S ∧ ∀ (x1_1 : Int32) (x2_1 : Int32) (S_1 : zt_S), In_1 x1_1 x2_1 S_1 → (((5 : Int32) ≤ x2_1 → (post x1_1 S_1)) ∧ (¬ (5 : Int32) ≤ x2_1 → (zw_a x2_1 (1 : Int32) S_1 (fun (r_4 : Int32) (S_3 : zt_S) => In_1 (x1_1 + r_4) (x2_1 + (1 : Int32)) S_3 ∧ mu_1 (x1_1 + r_4) (x2_1 + (1 : Int32)) S_3 < mu_1 x1_1 x2_1 S_1))))
set_option maxHeartbeats 4000000 in
theorem zm_miceInAll (l : Launch) (g : zt_G) (S : zt_S) (post : Int32 → zt_S → Prop) (hw : zw_miceInAll S post) : Met l yX5_miceInAll (ws_ yX5_miceInAll cX5_miceInAll 3 (some .int)) ({ frames := 1, cells := 0, slots := 0, locals := 22 } : Room) (va_Pc (.ref g.2.1 :: []) (zt_B g S)) (va_Qi post (zt_B g) (zt_A g)) 0 0 (zt_A g) := by
  refine zt_met (by decide) rfl (Nat.le_of_ble_eq_true rfl) (fun p e s m below meth c ls hC hI hl => ?_)
  generalize (Value.ref g.2.1 :: ([] : List Value)).toArray = args at hC ⊢
  obtain ⟨hx, hb, hml, hown, hts, hr, hlk⟩ := hC
  have hl : lv_has ls 3 [(0, .ref g.2.1)] := hl
  unfold zw_miceInAll at hw
  obtain ⟨H, eH⟩ : ∃ z, z = s.heap := ⟨_, rfl⟩
  obtain ⟨locs, elo⟩ : ∃ z : List Loc, z = [] := ⟨_, rfl⟩
  rw [← eH, ← elo] at hI ⊢
  refine lv_iconst (v := 0) hx hb dX5_miceInAll_0 (by decide) ?_
  refine lv_istore_n (lv' := [(1, .int (0 : Int32)), (0, .ref g.2.1)]) hx hb dX5_miceInAll_1 rfl hl (by decide) rfl (fun ls hl => ?_)
  refine lv_iconst (v := 0) hx hb dX5_miceInAll_2 (by decide) ?_
  refine lv_istore_n (lv' := [(2, .int (0 : Int32)), (1, .int (0 : Int32)), (0, .ref g.2.1)]) hx hb dX5_miceInAll_3 rfl hl (by decide) rfl (fun ls hl => ?_)
  obtain ⟨In_1, mu_1, h0_1, hw⟩ := hw
  have hL_1 : ∀ (n : Nat) (x1_1 : Int32) (x2_1 : Int32) (S_1 : zt_S) (H : Heap) (locs : List Loc) (ls : Array Slot), mu_1 x1_1 x2_1 S_1 < n → In_1 x1_1 x2_1 S_1 → zt_I g S_1 s H locs → lv_has ls 3 [(0, .ref g.2.1), (1, .int x1_1), (2, .int x2_1)] → W p l e ({ frames := 1, cells := 0, slots := 0, locals := 22 } : Room) s m args below meth c H locs 0 0 (MQ below (va_Qi post (zt_B g) (zt_A g)) args s 0 0 (zt_A g)) (F0 m 4 ls []) := by
    intro n
    induction n with
    | zero => intro x1_1 x2_1 S_1 H locs ls hn _ _ _; exact absurd hn (Nat.not_lt_zero _)
    | succ n ih_1 =>
      intro x1_1 x2_1 S_1 H locs ls hn_1 hi_1 hI hl
      have hw := hw x1_1 x2_1 S_1 hi_1
      refine lv_iload_n hx hb dX5_miceInAll_4 rfl (lv_at hl 2 rfl) ?_
      refine lv_iconst (v := 5) hx hb dX5_miceInAll_5 (by decide) ?_
      refine lv_icmp_ge (tgt := 24) hx hb dX5_miceInAll_6 (by decide) (fun hc_2 => ?_) (fun hc_2 => ?_)
      · have hw := hw.1 hc_2
        refine lv_iload_n hx hb dX5_miceInAll_24 rfl (lv_at hl 1 rfl) ?_
        exact zt_iret hx hb hr hlk hI hw dX5_miceInAll_25
      · have hw := hw.2 hc_2
        refine lv_iload_n hx hb dX5_miceInAll_9 rfl (lv_at hl 1 rfl) ?_
        refine lv_aload_n hx hb dX5_miceInAll_10 rfl (lv_at hl 0 rfl) ?_
        refine lv_iload_n hx hb dX5_miceInAll_11 rfl (lv_at hl 2 rfl) ?_
        refine lv_iconst (v := 1) hx hb dX5_miceInAll_12 (by decide) ?_
        refine zt_calli (As := [.int x2_1, .int (1 : Int32)]) (rest := [.int x1_1]) ⟨hx, hb, hml, hown, hts⟩ hI (zm_a l g x2_1 (1 : Int32) S_1 _ hw) (cwV 2 hts (lw_V q3797 q3799 qs55 q113 q3800) rfl rfl rfl hdT_a ⟨Nat.le_of_ble_eq_true rfl, Nat.le_of_ble_eq_true rfl⟩) rfl hl.1 rfl (lv_room (Nat.le_of_ble_eq_true rfl)) dX5_miceInAll_13 ⟨Nat.le_refl _, Nat.le_refl _⟩ (fun r_4 S_3 H locs hw hI => ?_)
        refine lv_iadd hx hb dX5_miceInAll_16 ?_
        refine lv_istore_n (lv' := [(1, .int (x1_1 + r_4)), (0, .ref g.2.1), (2, .int x2_1)]) hx hb dX5_miceInAll_17 rfl hl (by decide) rfl (fun ls hl => ?_)
        refine lv_iinc (v := x2_1 + (1 : Int32)) (lv' := [(2, .int (x2_1 + (1 : Int32))), (1, .int (x1_1 + r_4)), (0, .ref g.2.1)]) hx hb dX5_miceInAll_18 hl (k := 2) rfl rfl (by decide) rfl (fun ls hl => ?_)
        refine lv_goto (tgt := 4) hx hb dX5_miceInAll_21 (by decide) ?_
        exact ih_1 _ _ _ H locs ls (Nat.lt_of_lt_of_le hw.2 (Nat.le_of_lt_succ hn_1)) hw.1 hI (lv_sub hl [2, 1, 0] rfl)
  exact hL_1 _ _ _ _ H locs ls (Nat.lt_succ_self _) h0_1 hI (lv_sub hl [2, 1, 0] rfl)
theorem hdT_miceInAll : yX5_miceInAll.cls = RX5 ∧ yX5_miceInAll.cls ≠ "java/lang/invoke/MethodHandle" ∧ yX5_miceInAll.cls ≠ "java/lang/invoke/VarHandle" ∧ (parseMethodDescriptor yX5_miceInAll.desc).map (fun d => d.parameters.length) = some 0 := by decide +kernel
def zw_account_16 (post : Int32 → zt_S → Prop) (t0 : Int32) (v1 : Int32) (S : zt_S) : Prop :=
  ∀ S_3 : zt_S, S_3 = zt_us S 0 0 t0 → ((S_3 0 0 = (0 : Int32) → ((v1 = (0 : Int32) → (vp_in (5 : Int32) 3810 ∧ (post (S_3 1 (5 : Int32).toNatClampNeg) S_3))) ∧ (¬ v1 = (0 : Int32) → ((v1 = (1 : Int32) → (zw_onShelves S_3 (fun (r_8 : Int32) (S_7 : zt_S) => post r_8 S_7))) ∧ (¬ v1 = (1 : Int32) → ((v1 = (2 : Int32) → (zw_quires S_3 (fun (r_11 : Int32) (S_10 : zt_S) => post r_11 S_10))) ∧ (¬ v1 = (2 : Int32) → ((v1 = (3 : Int32) → (zw_wavy S_3 (fun (r_14 : Int32) (S_13 : zt_S) => post r_14 S_13))) ∧ (¬ v1 = (3 : Int32) → ((v1 = (4 : Int32) → (zw_onCarts S_3 (fun (r_17 : Int32) (S_16 : zt_S) => post r_17 S_16))) ∧ (¬ v1 = (4 : Int32) → ((v1 = (5 : Int32) → (zw_sentInAll S_3 (fun (r_20 : Int32) (S_19 : zt_S) => post r_20 S_19))) ∧ (¬ v1 = (5 : Int32) → ((v1 = (6 : Int32) → (vp_in (1 : Int32) 3810 ∧ (post (S_3 1 (1 : Int32).toNatClampNeg) S_3))) ∧ (¬ v1 = (6 : Int32) → ((v1 = (7 : Int32) → (vp_in (2 : Int32) 3810 ∧ (post (S_3 1 (2 : Int32).toNatClampNeg) S_3))) ∧ (¬ v1 = (7 : Int32) → ((v1 = (8 : Int32) → (vp_in (6 : Int32) 3810 ∧ (post (S_3 1 (6 : Int32).toNatClampNeg) S_3))) ∧ (¬ v1 = (8 : Int32) → ((v1 = (9 : Int32) → (vp_in (8 : Int32) 3810 ∧ (post (S_3 1 (8 : Int32).toNatClampNeg) S_3))) ∧ (¬ v1 = (9 : Int32) → ((v1 = (10 : Int32) → (vp_in (7 : Int32) 3810 ∧ (post (S_3 1 (7 : Int32).toNatClampNeg) S_3))) ∧ (¬ v1 = (10 : Int32) → ((v1 = (11 : Int32) → (zw_ordersThat (0 : Int32) S_3 (fun (r_28 : Int32) (S_27 : zt_S) => post r_28 S_27))) ∧ (¬ v1 = (11 : Int32) → ((v1 = (12 : Int32) → (zw_ordersThat (1 : Int32) S_3 (fun (r_31 : Int32) (S_30 : zt_S) => post r_31 S_30))) ∧ (¬ v1 = (12 : Int32) → ((v1 = (13 : Int32) → (zw_ordersThat (2 : Int32) S_3 (fun (r_34 : Int32) (S_33 : zt_S) => post r_34 S_33))) ∧ (¬ v1 = (13 : Int32) → ((v1 = (14 : Int32) → (vp_in (3 : Int32) 3810 ∧ (post (S_3 1 (3 : Int32).toNatClampNeg) S_3))) ∧ (¬ v1 = (14 : Int32) → ((v1 = (15 : Int32) → (zw_miceInAll S_3 (fun (r_38 : Int32) (S_37 : zt_S) => post r_38 S_37))) ∧ (¬ v1 = (15 : Int32) → ((v1 = (16 : Int32) → (vp_in (4 : Int32) 3810 ∧ (post (S_3 1 (4 : Int32).toNatClampNeg) S_3))) ∧ (¬ v1 = (16 : Int32) → ((v1 = (17 : Int32) → (vp_in (0 : Int32) 3810 ∧ (post (S_3 1 (0 : Int32).toNatClampNeg) S_3))) ∧ (¬ v1 = (17 : Int32) → ((v1 = (18 : Int32) → (post (S_3 0 10) S_3)) ∧ (¬ v1 = (18 : Int32) → (post (S_3 0 2) S_3)))))))))))))))))))))))))))))))))))))))) ∧ (¬ S_3 0 0 = (0 : Int32) → (post (0 : Int32) S_3)))
set_option maxHeartbeats 4000000 in
theorem zj_account_16 {p : Program} {l : Launch} {e : Env} {s : State} {m : MethodId} {args : Array Value} {below : List Frame} {meth : Method} {c : Code} {H : Heap} {locs : List Loc} {ls : Array Slot} (g : zt_G) (post : Int32 → zt_S → Prop) (t0 : Int32) (v1 : Int32) (S : zt_S) (hC : zt_C p s m args meth c cX5_account 2 (some .int)) (hw : zw_account_16 post t0 v1 S) (hI : zt_I g S s H locs) (hl : lv_has ls 2 [(0, .ref g.2.1), (1, .int v1)]) : W p l e ({ frames := 3, cells := 0, slots := 0, locals := 65 } : Room) s m args below meth c H locs 0 0 (MQ below (va_Qi post (zt_B g) (zt_A g)) args s 0 0 (zt_A g)) (F0 m 16 ls [.int t0, .ref g.2.1]) := by
  obtain ⟨hx, hb, hml, hown, hts, hr, hlk⟩ := hC
  unfold zw_account_16 at hw
  refine zt_put hx hb hts hown hI 0 (v := t0) (ty := .int) (by decide) q3632 rfl rfl (by decide +kernel) rfl rfl rfl dX5_account_16 (fun H locs hI => ?_)
  obtain ⟨S_3, eS_3⟩ : ∃ z, z = zt_us S 0 0 t0 := ⟨_, rfl⟩
  rw [← eS_3] at hI
  have hw := hw S_3 eS_3
  refine lv_aload_n hx hb dX5_account_19 rfl (lv_at hl 0 rfl) ?_
  refine zt_get hx hb hts hown hI 0 (v := .int (S_3 0 0)) (by decide) q3632 rfl rfl dX5_account_20 ?_
  refine lv_if_eq (tgt := 28) hx hb dX5_account_23 (by decide) (fun hc_4 => ?_) (fun hc_4 => ?_)
  · have hw := hw.1 hc_4
    refine lv_iload_n hx hb dX5_account_28 rfl (lv_at hl 1 rfl) ?_
    by_cases hc_5 : v1 = (0 : Int32)
    · have hw := hw.1 hc_5
      refine lv_tableIn (tgt := 120) hx hb dX5_account_29 (by rw [hc_5]; decide) (by rw [hc_5]; decide) (off := 91) (by rw [hc_5]; rfl) (by decide) ?_
      refine lv_aload_n hx hb dX5_account_120 rfl (lv_at hl 0 rfl) ?_
      refine zt_get hx hb hts hown hI 1 (v := .ref g.2.2.1) (by decide) q3633 rfl rfl dX5_account_121 ?_
      refine lv_iconst (v := 5) hx hb dX5_account_124 (by decide) ?_
      refine zt_ld1 hx hb hI hw.1 dX5_account_125 ?_
      have hw := hw.2
      exact zt_iret hx hb hr hlk hI hw dX5_account_126
    have hw := hw.2 hc_5
    by_cases hc_6 : v1 = (1 : Int32)
    · have hw := hw.1 hc_6
      refine lv_tableIn (tgt := 127) hx hb dX5_account_29 (by rw [hc_6]; decide) (by rw [hc_6]; decide) (off := 98) (by rw [hc_6]; rfl) (by decide) ?_
      refine lv_aload_n hx hb dX5_account_127 rfl (lv_at hl 0 rfl) ?_
      refine zt_calli (As := []) (rest := []) ⟨hx, hb, hml, hown, hts⟩ hI (zm_onShelves l g S_3 _ hw) (cwV 0 hts (lw_V q4011 q4013 qs84 q113 q4014) rfl rfl rfl hdT_onShelves ⟨Nat.le_of_ble_eq_true rfl, Nat.le_of_ble_eq_true rfl⟩) rfl hl.1 rfl (lv_room (Nat.le_of_ble_eq_true rfl)) dX5_account_128 ⟨Nat.le_refl _, Nat.le_refl _⟩ (fun r_8 S_7 H locs hw hI => ?_)
      exact zt_iret hx hb hr hlk hI hw dX5_account_131
    have hw := hw.2 hc_6
    by_cases hc_9 : v1 = (2 : Int32)
    · have hw := hw.1 hc_9
      refine lv_tableIn (tgt := 132) hx hb dX5_account_29 (by rw [hc_9]; decide) (by rw [hc_9]; decide) (off := 103) (by rw [hc_9]; rfl) (by decide) ?_
      refine lv_aload_n hx hb dX5_account_132 rfl (lv_at hl 0 rfl) ?_
      refine zt_calli (As := []) (rest := []) ⟨hx, hb, hml, hown, hts⟩ hI (zm_quires l g S_3 _ hw) (cwV 0 hts (lw_V q4023 q4025 qs85 q113 q4026) rfl rfl rfl hdT_quires ⟨Nat.le_of_ble_eq_true rfl, Nat.le_of_ble_eq_true rfl⟩) rfl hl.1 rfl (lv_room (Nat.le_of_ble_eq_true rfl)) dX5_account_133 ⟨Nat.le_refl _, Nat.le_refl _⟩ (fun r_11 S_10 H locs hw hI => ?_)
      exact zt_iret hx hb hr hlk hI hw dX5_account_136
    have hw := hw.2 hc_9
    by_cases hc_12 : v1 = (3 : Int32)
    · have hw := hw.1 hc_12
      refine lv_tableIn (tgt := 137) hx hb dX5_account_29 (by rw [hc_12]; decide) (by rw [hc_12]; decide) (off := 108) (by rw [hc_12]; rfl) (by decide) ?_
      refine lv_aload_n hx hb dX5_account_137 rfl (lv_at hl 0 rfl) ?_
      refine zt_calli (As := []) (rest := []) ⟨hx, hb, hml, hown, hts⟩ hI (zm_wavy l g S_3 _ hw) (cwV 0 hts (lw_V q4027 q4029 qs86 q113 q4030) rfl rfl rfl hdT_wavy ⟨Nat.le_of_ble_eq_true rfl, Nat.le_of_ble_eq_true rfl⟩) rfl hl.1 rfl (lv_room (Nat.le_of_ble_eq_true rfl)) dX5_account_138 ⟨Nat.le_refl _, Nat.le_refl _⟩ (fun r_14 S_13 H locs hw hI => ?_)
      exact zt_iret hx hb hr hlk hI hw dX5_account_141
    have hw := hw.2 hc_12
    by_cases hc_15 : v1 = (4 : Int32)
    · have hw := hw.1 hc_15
      refine lv_tableIn (tgt := 142) hx hb dX5_account_29 (by rw [hc_15]; decide) (by rw [hc_15]; decide) (off := 113) (by rw [hc_15]; rfl) (by decide) ?_
      refine lv_aload_n hx hb dX5_account_142 rfl (lv_at hl 0 rfl) ?_
      refine zt_calli (As := []) (rest := []) ⟨hx, hb, hml, hown, hts⟩ hI (zm_onCarts l g S_3 _ hw) (cwV 0 hts (lw_V q4031 q4033 qs87 q113 q4034) rfl rfl rfl hdT_onCarts ⟨Nat.le_of_ble_eq_true rfl, Nat.le_of_ble_eq_true rfl⟩) rfl hl.1 rfl (lv_room (Nat.le_of_ble_eq_true rfl)) dX5_account_143 ⟨Nat.le_refl _, Nat.le_refl _⟩ (fun r_17 S_16 H locs hw hI => ?_)
      exact zt_iret hx hb hr hlk hI hw dX5_account_146
    have hw := hw.2 hc_15
    by_cases hc_18 : v1 = (5 : Int32)
    · have hw := hw.1 hc_18
      refine lv_tableIn (tgt := 147) hx hb dX5_account_29 (by rw [hc_18]; decide) (by rw [hc_18]; decide) (off := 118) (by rw [hc_18]; rfl) (by decide) ?_
      refine lv_aload_n hx hb dX5_account_147 rfl (lv_at hl 0 rfl) ?_
      refine zt_calli (As := []) (rest := []) ⟨hx, hb, hml, hown, hts⟩ hI (zm_sentInAll l g S_3 _ hw) (cwV 0 hts (lw_V q4035 q4037 qs88 q113 q4038) rfl rfl rfl hdT_sentInAll ⟨Nat.le_of_ble_eq_true rfl, Nat.le_of_ble_eq_true rfl⟩) rfl hl.1 rfl (lv_room (Nat.le_of_ble_eq_true rfl)) dX5_account_148 ⟨Nat.le_refl _, Nat.le_refl _⟩ (fun r_20 S_19 H locs hw hI => ?_)
      exact zt_iret hx hb hr hlk hI hw dX5_account_151
    have hw := hw.2 hc_18
    by_cases hc_21 : v1 = (6 : Int32)
    · have hw := hw.1 hc_21
      refine lv_tableIn (tgt := 152) hx hb dX5_account_29 (by rw [hc_21]; decide) (by rw [hc_21]; decide) (off := 123) (by rw [hc_21]; rfl) (by decide) ?_
      refine lv_aload_n hx hb dX5_account_152 rfl (lv_at hl 0 rfl) ?_
      refine zt_get hx hb hts hown hI 1 (v := .ref g.2.2.1) (by decide) q3633 rfl rfl dX5_account_153 ?_
      refine lv_iconst (v := 1) hx hb dX5_account_156 (by decide) ?_
      refine zt_ld1 hx hb hI hw.1 dX5_account_157 ?_
      have hw := hw.2
      exact zt_iret hx hb hr hlk hI hw dX5_account_158
    have hw := hw.2 hc_21
    by_cases hc_22 : v1 = (7 : Int32)
    · have hw := hw.1 hc_22
      refine lv_tableIn (tgt := 159) hx hb dX5_account_29 (by rw [hc_22]; decide) (by rw [hc_22]; decide) (off := 130) (by rw [hc_22]; rfl) (by decide) ?_
      refine lv_aload_n hx hb dX5_account_159 rfl (lv_at hl 0 rfl) ?_
      refine zt_get hx hb hts hown hI 1 (v := .ref g.2.2.1) (by decide) q3633 rfl rfl dX5_account_160 ?_
      refine lv_iconst (v := 2) hx hb dX5_account_163 (by decide) ?_
      refine zt_ld1 hx hb hI hw.1 dX5_account_164 ?_
      have hw := hw.2
      exact zt_iret hx hb hr hlk hI hw dX5_account_165
    have hw := hw.2 hc_22
    by_cases hc_23 : v1 = (8 : Int32)
    · have hw := hw.1 hc_23
      refine lv_tableIn (tgt := 166) hx hb dX5_account_29 (by rw [hc_23]; decide) (by rw [hc_23]; decide) (off := 137) (by rw [hc_23]; rfl) (by decide) ?_
      refine lv_aload_n hx hb dX5_account_166 rfl (lv_at hl 0 rfl) ?_
      refine zt_get hx hb hts hown hI 1 (v := .ref g.2.2.1) (by decide) q3633 rfl rfl dX5_account_167 ?_
      refine lv_bipush (v := 6) hx hb dX5_account_170 (by decide) ?_
      refine zt_ld1 hx hb hI hw.1 dX5_account_172 ?_
      have hw := hw.2
      exact zt_iret hx hb hr hlk hI hw dX5_account_173
    have hw := hw.2 hc_23
    by_cases hc_24 : v1 = (9 : Int32)
    · have hw := hw.1 hc_24
      refine lv_tableIn (tgt := 174) hx hb dX5_account_29 (by rw [hc_24]; decide) (by rw [hc_24]; decide) (off := 145) (by rw [hc_24]; rfl) (by decide) ?_
      refine lv_aload_n hx hb dX5_account_174 rfl (lv_at hl 0 rfl) ?_
      refine zt_get hx hb hts hown hI 1 (v := .ref g.2.2.1) (by decide) q3633 rfl rfl dX5_account_175 ?_
      refine lv_bipush (v := 8) hx hb dX5_account_178 (by decide) ?_
      refine zt_ld1 hx hb hI hw.1 dX5_account_180 ?_
      have hw := hw.2
      exact zt_iret hx hb hr hlk hI hw dX5_account_181
    have hw := hw.2 hc_24
    by_cases hc_25 : v1 = (10 : Int32)
    · have hw := hw.1 hc_25
      refine lv_tableIn (tgt := 182) hx hb dX5_account_29 (by rw [hc_25]; decide) (by rw [hc_25]; decide) (off := 153) (by rw [hc_25]; rfl) (by decide) ?_
      refine lv_aload_n hx hb dX5_account_182 rfl (lv_at hl 0 rfl) ?_
      refine zt_get hx hb hts hown hI 1 (v := .ref g.2.2.1) (by decide) q3633 rfl rfl dX5_account_183 ?_
      refine lv_bipush (v := 7) hx hb dX5_account_186 (by decide) ?_
      refine zt_ld1 hx hb hI hw.1 dX5_account_188 ?_
      have hw := hw.2
      exact zt_iret hx hb hr hlk hI hw dX5_account_189
    have hw := hw.2 hc_25
    by_cases hc_26 : v1 = (11 : Int32)
    · have hw := hw.1 hc_26
      refine lv_tableIn (tgt := 190) hx hb dX5_account_29 (by rw [hc_26]; decide) (by rw [hc_26]; decide) (off := 161) (by rw [hc_26]; rfl) (by decide) ?_
      refine lv_aload_n hx hb dX5_account_190 rfl (lv_at hl 0 rfl) ?_
      refine lv_iconst (v := 0) hx hb dX5_account_191 (by decide) ?_
      refine zt_calli (As := [.int (0 : Int32)]) (rest := []) ⟨hx, hb, hml, hown, hts⟩ hI (zm_ordersThat l g (0 : Int32) S_3 _ hw) (cwV 1 hts (lw_V q4039 q4041 qs89 q113 q4042) rfl rfl rfl hdT_ordersThat ⟨Nat.le_of_ble_eq_true rfl, Nat.le_of_ble_eq_true rfl⟩) rfl hl.1 rfl (lv_room (Nat.le_of_ble_eq_true rfl)) dX5_account_192 ⟨Nat.le_refl _, Nat.le_refl _⟩ (fun r_28 S_27 H locs hw hI => ?_)
      exact zt_iret hx hb hr hlk hI hw dX5_account_195
    have hw := hw.2 hc_26
    by_cases hc_29 : v1 = (12 : Int32)
    · have hw := hw.1 hc_29
      refine lv_tableIn (tgt := 196) hx hb dX5_account_29 (by rw [hc_29]; decide) (by rw [hc_29]; decide) (off := 167) (by rw [hc_29]; rfl) (by decide) ?_
      refine lv_aload_n hx hb dX5_account_196 rfl (lv_at hl 0 rfl) ?_
      refine lv_iconst (v := 1) hx hb dX5_account_197 (by decide) ?_
      refine zt_calli (As := [.int (1 : Int32)]) (rest := []) ⟨hx, hb, hml, hown, hts⟩ hI (zm_ordersThat l g (1 : Int32) S_3 _ hw) (cwV 1 hts (lw_V q4039 q4041 qs89 q113 q4042) rfl rfl rfl hdT_ordersThat ⟨Nat.le_of_ble_eq_true rfl, Nat.le_of_ble_eq_true rfl⟩) rfl hl.1 rfl (lv_room (Nat.le_of_ble_eq_true rfl)) dX5_account_198 ⟨Nat.le_refl _, Nat.le_refl _⟩ (fun r_31 S_30 H locs hw hI => ?_)
      exact zt_iret hx hb hr hlk hI hw dX5_account_201
    have hw := hw.2 hc_29
    by_cases hc_32 : v1 = (13 : Int32)
    · have hw := hw.1 hc_32
      refine lv_tableIn (tgt := 202) hx hb dX5_account_29 (by rw [hc_32]; decide) (by rw [hc_32]; decide) (off := 173) (by rw [hc_32]; rfl) (by decide) ?_
      refine lv_aload_n hx hb dX5_account_202 rfl (lv_at hl 0 rfl) ?_
      refine lv_iconst (v := 2) hx hb dX5_account_203 (by decide) ?_
      refine zt_calli (As := [.int (2 : Int32)]) (rest := []) ⟨hx, hb, hml, hown, hts⟩ hI (zm_ordersThat l g (2 : Int32) S_3 _ hw) (cwV 1 hts (lw_V q4039 q4041 qs89 q113 q4042) rfl rfl rfl hdT_ordersThat ⟨Nat.le_of_ble_eq_true rfl, Nat.le_of_ble_eq_true rfl⟩) rfl hl.1 rfl (lv_room (Nat.le_of_ble_eq_true rfl)) dX5_account_204 ⟨Nat.le_refl _, Nat.le_refl _⟩ (fun r_34 S_33 H locs hw hI => ?_)
      exact zt_iret hx hb hr hlk hI hw dX5_account_207
    have hw := hw.2 hc_32
    by_cases hc_35 : v1 = (14 : Int32)
    · have hw := hw.1 hc_35
      refine lv_tableIn (tgt := 208) hx hb dX5_account_29 (by rw [hc_35]; decide) (by rw [hc_35]; decide) (off := 179) (by rw [hc_35]; rfl) (by decide) ?_
      refine lv_aload_n hx hb dX5_account_208 rfl (lv_at hl 0 rfl) ?_
      refine zt_get hx hb hts hown hI 1 (v := .ref g.2.2.1) (by decide) q3633 rfl rfl dX5_account_209 ?_
      refine lv_iconst (v := 3) hx hb dX5_account_212 (by decide) ?_
      refine zt_ld1 hx hb hI hw.1 dX5_account_213 ?_
      have hw := hw.2
      exact zt_iret hx hb hr hlk hI hw dX5_account_214
    have hw := hw.2 hc_35
    by_cases hc_36 : v1 = (15 : Int32)
    · have hw := hw.1 hc_36
      refine lv_tableIn (tgt := 215) hx hb dX5_account_29 (by rw [hc_36]; decide) (by rw [hc_36]; decide) (off := 186) (by rw [hc_36]; rfl) (by decide) ?_
      refine lv_aload_n hx hb dX5_account_215 rfl (lv_at hl 0 rfl) ?_
      refine zt_calli (As := []) (rest := []) ⟨hx, hb, hml, hown, hts⟩ hI (zm_miceInAll l g S_3 _ hw) (cwV 0 hts (lw_V q4043 q4045 qs90 q113 q4046) rfl rfl rfl hdT_miceInAll ⟨Nat.le_of_ble_eq_true rfl, Nat.le_of_ble_eq_true rfl⟩) rfl hl.1 rfl (lv_room (Nat.le_of_ble_eq_true rfl)) dX5_account_216 ⟨Nat.le_refl _, Nat.le_refl _⟩ (fun r_38 S_37 H locs hw hI => ?_)
      exact zt_iret hx hb hr hlk hI hw dX5_account_219
    have hw := hw.2 hc_36
    by_cases hc_39 : v1 = (16 : Int32)
    · have hw := hw.1 hc_39
      refine lv_tableIn (tgt := 220) hx hb dX5_account_29 (by rw [hc_39]; decide) (by rw [hc_39]; decide) (off := 191) (by rw [hc_39]; rfl) (by decide) ?_
      refine lv_aload_n hx hb dX5_account_220 rfl (lv_at hl 0 rfl) ?_
      refine zt_get hx hb hts hown hI 1 (v := .ref g.2.2.1) (by decide) q3633 rfl rfl dX5_account_221 ?_
      refine lv_iconst (v := 4) hx hb dX5_account_224 (by decide) ?_
      refine zt_ld1 hx hb hI hw.1 dX5_account_225 ?_
      have hw := hw.2
      exact zt_iret hx hb hr hlk hI hw dX5_account_226
    have hw := hw.2 hc_39
    by_cases hc_40 : v1 = (17 : Int32)
    · have hw := hw.1 hc_40
      refine lv_tableIn (tgt := 227) hx hb dX5_account_29 (by rw [hc_40]; decide) (by rw [hc_40]; decide) (off := 198) (by rw [hc_40]; rfl) (by decide) ?_
      refine lv_aload_n hx hb dX5_account_227 rfl (lv_at hl 0 rfl) ?_
      refine zt_get hx hb hts hown hI 1 (v := .ref g.2.2.1) (by decide) q3633 rfl rfl dX5_account_228 ?_
      refine lv_iconst (v := 0) hx hb dX5_account_231 (by decide) ?_
      refine zt_ld1 hx hb hI hw.1 dX5_account_232 ?_
      have hw := hw.2
      exact zt_iret hx hb hr hlk hI hw dX5_account_233
    have hw := hw.2 hc_40
    by_cases hc_41 : v1 = (18 : Int32)
    · have hw := hw.1 hc_41
      refine lv_tableIn (tgt := 234) hx hb dX5_account_29 (by rw [hc_41]; decide) (by rw [hc_41]; decide) (off := 205) (by rw [hc_41]; rfl) (by decide) ?_
      refine lv_aload_n hx hb dX5_account_234 rfl (lv_at hl 0 rfl) ?_
      refine zt_get hx hb hts hown hI 10 (v := .int (S_3 0 10)) (by decide) q3642 rfl rfl dX5_account_235 ?_
      exact zt_iret hx hb hr hlk hI hw dX5_account_238
    have hw := hw.2 hc_41
    refine lv_tableOut (tgt := 239) hx hb dX5_account_29 (zs_out 0 18 19 [0, 1, 2, 3, 4, 5, 6, 7, 8, 9, 10, 11, 12, 13, 14, 15, 16, 17, 18] (by decide) (by decide) (List.forall_mem_cons.mpr ⟨hc_5, List.forall_mem_cons.mpr ⟨hc_6, List.forall_mem_cons.mpr ⟨hc_9, List.forall_mem_cons.mpr ⟨hc_12, List.forall_mem_cons.mpr ⟨hc_15, List.forall_mem_cons.mpr ⟨hc_18, List.forall_mem_cons.mpr ⟨hc_21, List.forall_mem_cons.mpr ⟨hc_22, List.forall_mem_cons.mpr ⟨hc_23, List.forall_mem_cons.mpr ⟨hc_24, List.forall_mem_cons.mpr ⟨hc_25, List.forall_mem_cons.mpr ⟨hc_26, List.forall_mem_cons.mpr ⟨hc_29, List.forall_mem_cons.mpr ⟨hc_32, List.forall_mem_cons.mpr ⟨hc_35, List.forall_mem_cons.mpr ⟨hc_36, List.forall_mem_cons.mpr ⟨hc_39, List.forall_mem_cons.mpr ⟨hc_40, List.forall_mem_cons.mpr ⟨hc_41, fun _ h => absurd h List.not_mem_nil⟩⟩⟩⟩⟩⟩⟩⟩⟩⟩⟩⟩⟩⟩⟩⟩⟩⟩⟩)) (by decide) ?_
    refine lv_aload_n hx hb dX5_account_239 rfl (lv_at hl 0 rfl) ?_
    refine zt_get hx hb hts hown hI 2 (v := .int (S_3 0 2)) (by decide) q3634 rfl rfl dX5_account_240 ?_
    exact zt_iret hx hb hr hlk hI hw dX5_account_243
  · have hw := hw.2 hc_4
    refine lv_iconst (v := 0) hx hb dX5_account_26 (by decide) ?_
    exact zt_iret hx hb hr hlk hI hw dX5_account_27
def zw_account (p1 : Int32) (S : zt_S) (post : Int32 → zt_S → Prop) : Prop :=
  zw_in p1 (0 : Int32) (19 : Int32) (fun (r_1 : Int32) => (r_1 = (0 : Int32) → (zw_account_16 post (1 : Int32) p1 S)) ∧ (¬ r_1 = (0 : Int32) → (zw_account_16 post (0 : Int32) p1 S)))
set_option maxHeartbeats 4000000 in
theorem zm_account (l : Launch) (g : zt_G) (p1 : Int32) (S : zt_S) (post : Int32 → zt_S → Prop) (hw : zw_account p1 S post) : Met l yX5_account (ws_ yX5_account cX5_account 2 (some .int)) ({ frames := 3, cells := 0, slots := 0, locals := 65 } : Room) (va_Pc (.ref g.2.1 :: [.int p1]) (zt_B g S)) (va_Qi post (zt_B g) (zt_A g)) 0 0 (zt_A g) := by
  refine zt_met (by decide) rfl (Nat.le_of_ble_eq_true rfl) (fun p e s m below meth c ls hC hI hl => ?_)
  generalize (Value.ref g.2.1 :: ([.int p1] : List Value)).toArray = args at hC ⊢
  obtain ⟨hx, hb, hml, hown, hts, hr, hlk⟩ := hC
  have hl : lv_has ls 2 [(0, .ref g.2.1), (1, .int p1)] := hl
  unfold zw_account at hw
  obtain ⟨H, eH⟩ : ∃ z, z = s.heap := ⟨_, rfl⟩
  obtain ⟨locs, elo⟩ : ∃ z : List Loc, z = [] := ⟨_, rfl⟩
  rw [← eH, ← elo] at hI ⊢
  refine lv_aload_n hx hb dX5_account_0 rfl (lv_at hl 0 rfl) ?_
  refine lv_iload_n hx hb dX5_account_1 rfl (lv_at hl 1 rfl) ?_
  refine lv_iconst (v := 0) hx hb dX5_account_2 (by decide) ?_
  refine lv_bipush (v := 19) hx hb dX5_account_3 (by decide) ?_
  refine zt_callS (As := [.int p1, .int (0 : Int32), .int (19 : Int32)]) (rest := [.ref g.2.1]) ⟨hx, hb, hml, hown, hts⟩ (zm_in l p1 (0 : Int32) (19 : Int32) _ hw) (va_cwS 3 hts (lw_S q3693 q3694 q113 q3695) rfl rfl rfl hdT_in ⟨Nat.le_of_ble_eq_true rfl, Nat.le_of_ble_eq_true rfl⟩) rfl hl.1 rfl (lv_room (Nat.le_of_ble_eq_true rfl)) dX5_account_5 ⟨Nat.le_refl _, Nat.le_refl _⟩ (fun r_1 hw => ?_)
  refine lv_if_eq (tgt := 15) hx hb dX5_account_8 (by decide) (fun hc_2 => ?_) (fun hc_2 => ?_)
  · have hw := hw.1 hc_2
    refine lv_iconst (v := 1) hx hb dX5_account_15 (by decide) ?_
    exact zj_account_16 g post (1 : Int32) p1 S ⟨hx, hb, hml, hown, hts, hr, hlk⟩ hw hI (lv_sub hl [0, 1] rfl)
  · have hw := hw.2 hc_2
    refine lv_iconst (v := 0) hx hb dX5_account_11 (by decide) ?_
    refine lv_goto (tgt := 16) hx hb dX5_account_12 (by decide) ?_
    exact zj_account_16 g post (0 : Int32) p1 S ⟨hx, hb, hml, hown, hts, hr, hlk⟩ hw hI (lv_sub hl [0, 1] rfl)
theorem hdT_account : yX5_account.cls = RX5 ∧ yX5_account.cls ≠ "java/lang/invoke/MethodHandle" ∧ yX5_account.cls ≠ "java/lang/invoke/VarHandle" ∧ (parseMethodDescriptor yX5_account.desc).map (fun d => d.parameters.length) = some 1 := by decide +kernel
def zw_quiresAgain (S : zt_S) (post : Int32 → zt_S → Prop) : Prop :=
  ∀ S_1 : zt_S, S_1 = zt_us S 0 0 (0 : Int32) → (vp_in (5 : Int32) 3810 ∧ (zw_onCarts S_1 (fun (r_3 : Int32) (S_2 : zt_S) => zw_sentInAll S_2 (fun (r_5 : Int32) (S_4 : zt_S) => vp_in (1 : Int32) 3810 ∧ (vp_in (2 : Int32) 3810 ∧ (post ((((((20 : Int32) * (S_1 1 (5 : Int32).toNatClampNeg)) - r_3) - r_5) - (S_4 1 (1 : Int32).toNatClampNeg)) - (S_4 1 (2 : Int32).toNatClampNeg)) S_4))))))
set_option maxHeartbeats 4000000 in
theorem zm_quiresAgain (l : Launch) (g : zt_G) (S : zt_S) (post : Int32 → zt_S → Prop) (hw : zw_quiresAgain S post) : Met l yX5_quiresAgain (ws_ yX5_quiresAgain cX5_quiresAgain 1 (some .int)) ({ frames := 2, cells := 0, slots := 0, locals := 44 } : Room) (va_Pc (.ref g.2.1 :: []) (zt_B g S)) (va_Qi post (zt_B g) (zt_A g)) 0 0 (zt_A g) := by
  refine zt_met (by decide) rfl (Nat.le_of_ble_eq_true rfl) (fun p e s m below meth c ls hC hI hl => ?_)
  generalize (Value.ref g.2.1 :: ([] : List Value)).toArray = args at hC ⊢
  obtain ⟨hx, hb, hml, hown, hts, hr, hlk⟩ := hC
  have hl : lv_has ls 1 [(0, .ref g.2.1)] := hl
  unfold zw_quiresAgain at hw
  obtain ⟨H, eH⟩ : ∃ z, z = s.heap := ⟨_, rfl⟩
  obtain ⟨locs, elo⟩ : ∃ z : List Loc, z = [] := ⟨_, rfl⟩
  rw [← eH, ← elo] at hI ⊢
  refine lv_aload_n hx hb dX5_quiresAgain_0 rfl (lv_at hl 0 rfl) ?_
  refine lv_iconst (v := 0) hx hb dX5_quiresAgain_1 (by decide) ?_
  refine zt_put hx hb hts hown hI 0 (v := (0 : Int32)) (ty := .int) (by decide) q3632 rfl rfl (by decide +kernel) rfl rfl rfl dX5_quiresAgain_2 (fun H locs hI => ?_)
  obtain ⟨S_1, eS_1⟩ : ∃ z, z = zt_us S 0 0 (0 : Int32) := ⟨_, rfl⟩
  rw [← eS_1] at hI
  have hw := hw S_1 eS_1
  refine lv_bipush (v := 20) hx hb dX5_quiresAgain_5 (by decide) ?_
  refine lv_aload_n hx hb dX5_quiresAgain_7 rfl (lv_at hl 0 rfl) ?_
  refine zt_get hx hb hts hown hI 1 (v := .ref g.2.2.1) (by decide) q3633 rfl rfl dX5_quiresAgain_8 ?_
  refine lv_iconst (v := 5) hx hb dX5_quiresAgain_11 (by decide) ?_
  refine zt_ld1 hx hb hI hw.1 dX5_quiresAgain_12 ?_
  have hw := hw.2
  refine lv_imul hx hb dX5_quiresAgain_13 ?_
  refine lv_aload_n hx hb dX5_quiresAgain_14 rfl (lv_at hl 0 rfl) ?_
  refine zt_calli (As := []) (rest := [.int ((20 : Int32) * (S_1 1 (5 : Int32).toNatClampNeg))]) ⟨hx, hb, hml, hown, hts⟩ hI (zm_onCarts l g S_1 _ hw) (cwV 0 hts (lw_V q4031 q4033 qs87 q113 q4034) rfl rfl rfl hdT_onCarts ⟨Nat.le_of_ble_eq_true rfl, Nat.le_of_ble_eq_true rfl⟩) rfl hl.1 rfl (lv_room (Nat.le_of_ble_eq_true rfl)) dX5_quiresAgain_15 ⟨Nat.le_refl _, Nat.le_refl _⟩ (fun r_3 S_2 H locs hw hI => ?_)
  refine lv_isub hx hb dX5_quiresAgain_18 ?_
  refine lv_aload_n hx hb dX5_quiresAgain_19 rfl (lv_at hl 0 rfl) ?_
  refine zt_calli (As := []) (rest := [.int (((20 : Int32) * (S_1 1 (5 : Int32).toNatClampNeg)) - r_3)]) ⟨hx, hb, hml, hown, hts⟩ hI (zm_sentInAll l g S_2 _ hw) (cwV 0 hts (lw_V q4035 q4037 qs88 q113 q4038) rfl rfl rfl hdT_sentInAll ⟨Nat.le_of_ble_eq_true rfl, Nat.le_of_ble_eq_true rfl⟩) rfl hl.1 rfl (lv_room (Nat.le_of_ble_eq_true rfl)) dX5_quiresAgain_20 ⟨Nat.le_refl _, Nat.le_refl _⟩ (fun r_5 S_4 H locs hw hI => ?_)
  refine lv_isub hx hb dX5_quiresAgain_23 ?_
  refine lv_aload_n hx hb dX5_quiresAgain_24 rfl (lv_at hl 0 rfl) ?_
  refine zt_get hx hb hts hown hI 1 (v := .ref g.2.2.1) (by decide) q3633 rfl rfl dX5_quiresAgain_25 ?_
  refine lv_iconst (v := 1) hx hb dX5_quiresAgain_28 (by decide) ?_
  refine zt_ld1 hx hb hI hw.1 dX5_quiresAgain_29 ?_
  have hw := hw.2
  refine lv_isub hx hb dX5_quiresAgain_30 ?_
  refine lv_aload_n hx hb dX5_quiresAgain_31 rfl (lv_at hl 0 rfl) ?_
  refine zt_get hx hb hts hown hI 1 (v := .ref g.2.2.1) (by decide) q3633 rfl rfl dX5_quiresAgain_32 ?_
  refine lv_iconst (v := 2) hx hb dX5_quiresAgain_35 (by decide) ?_
  refine zt_ld1 hx hb hI hw.1 dX5_quiresAgain_36 ?_
  have hw := hw.2
  refine lv_isub hx hb dX5_quiresAgain_37 ?_
  exact zt_iret hx hb hr hlk hI hw dX5_quiresAgain_38
theorem hdT_quiresAgain : yX5_quiresAgain.cls = RX5 ∧ yX5_quiresAgain.cls ≠ "java/lang/invoke/MethodHandle" ∧ yX5_quiresAgain.cls ≠ "java/lang/invoke/VarHandle" ∧ (parseMethodDescriptor yX5_quiresAgain.desc).map (fun d => d.parameters.length) = some 0 := by decide +kernel
def zw_append_30 (post : Int32 → zt_S → Prop) (t0 : Int32) (v1 : Int32) (S : zt_S) : Prop :=
  ∀ S_4 : zt_S, S_4 = zt_us S 0 0 t0 → ((S_4 0 0 = (0 : Int32) → (vp_in (S_4 0 10) 60 ∧ ∀ S_6 : zt_S, S_6 = zt_us S_4 3 (S_4 0 10).toNatClampNeg (vp_nar .char v1) → (∀ S_7 : zt_S, S_7 = zt_us S_6 0 10 ((S_6 0 10) + (1 : Int32)) → (post (S_7 0 10) S_7)))) ∧ (¬ S_4 0 0 = (0 : Int32) → (post (0 : Int32) S_4)))
set_option maxHeartbeats 4000000 in
theorem zj_append_30 {p : Program} {l : Launch} {e : Env} {s : State} {m : MethodId} {args : Array Value} {below : List Frame} {meth : Method} {c : Code} {H : Heap} {locs : List Loc} {ls : Array Slot} (g : zt_G) (post : Int32 → zt_S → Prop) (t0 : Int32) (v1 : Int32) (S : zt_S) (hC : zt_C p s m args meth c cX5_append 2 (some .int)) (hw : zw_append_30 post t0 v1 S) (hI : zt_I g S s H locs) (hl : lv_has ls 2 [(0, .ref g.2.1), (1, .int v1)]) : W p l e ({ frames := 1, cells := 0, slots := 0, locals := 22 } : Room) s m args below meth c H locs 0 0 (MQ below (va_Qi post (zt_B g) (zt_A g)) args s 0 0 (zt_A g)) (F0 m 30 ls [.int t0, .ref g.2.1]) := by
  obtain ⟨hx, hb, hml, hown, hts, hr, hlk⟩ := hC
  unfold zw_append_30 at hw
  refine zt_put hx hb hts hown hI 0 (v := t0) (ty := .int) (by decide) q3632 rfl rfl (by decide +kernel) rfl rfl rfl dX5_append_30 (fun H locs hI => ?_)
  obtain ⟨S_4, eS_4⟩ : ∃ z, z = zt_us S 0 0 t0 := ⟨_, rfl⟩
  rw [← eS_4] at hI
  have hw := hw S_4 eS_4
  refine lv_aload_n hx hb dX5_append_33 rfl (lv_at hl 0 rfl) ?_
  refine zt_get hx hb hts hown hI 0 (v := .int (S_4 0 0)) (by decide) q3632 rfl rfl dX5_append_34 ?_
  refine lv_if_eq (tgt := 42) hx hb dX5_append_37 (by decide) (fun hc_5 => ?_) (fun hc_5 => ?_)
  · have hw := hw.1 hc_5
    refine lv_aload_n hx hb dX5_append_42 rfl (lv_at hl 0 rfl) ?_
    refine zt_get hx hb hts hown hI 9 (v := .ref g.2.2.2.2.1) (by decide) q3641 rfl rfl dX5_append_43 ?_
    refine lv_aload_n hx hb dX5_append_46 rfl (lv_at hl 0 rfl) ?_
    refine zt_get hx hb hts hown hI 10 (v := .int (S_4 0 10)) (by decide) q3642 rfl rfl dX5_append_47 ?_
    refine lv_iload_n hx hb dX5_append_50 rfl (lv_at hl 1 rfl) ?_
    refine zt_st3 hx hb hI hw.1 dX5_append_51 (fun H locs hI => ?_)
    obtain ⟨S_6, eS_6⟩ : ∃ z, z = zt_us S_4 3 (S_4 0 10).toNatClampNeg (vp_nar .char v1) := ⟨_, rfl⟩
    rw [← eS_6] at hI
    have hw := hw.2 S_6 eS_6
    refine lv_aload_n hx hb dX5_append_52 rfl (lv_at hl 0 rfl) ?_
    refine lv_dup hx hb dX5_append_53 rfl ?_
    refine zt_get hx hb hts hown hI 10 (v := .int (S_6 0 10)) (by decide) q3642 rfl rfl dX5_append_54 ?_
    refine lv_iconst (v := 1) hx hb dX5_append_57 (by decide) ?_
    refine lv_iadd hx hb dX5_append_58 ?_
    refine zt_put hx hb hts hown hI 10 (v := (S_6 0 10) + (1 : Int32)) (ty := .int) (by decide) q3642 rfl rfl (by decide +kernel) rfl rfl rfl dX5_append_59 (fun H locs hI => ?_)
    obtain ⟨S_7, eS_7⟩ : ∃ z, z = zt_us S_6 0 10 ((S_6 0 10) + (1 : Int32)) := ⟨_, rfl⟩
    rw [← eS_7] at hI
    have hw := hw S_7 eS_7
    refine lv_aload_n hx hb dX5_append_62 rfl (lv_at hl 0 rfl) ?_
    refine zt_get hx hb hts hown hI 10 (v := .int (S_7 0 10)) (by decide) q3642 rfl rfl dX5_append_63 ?_
    exact zt_iret hx hb hr hlk hI hw dX5_append_66
  · have hw := hw.2 hc_5
    refine lv_iconst (v := 0) hx hb dX5_append_40 (by decide) ?_
    exact zt_iret hx hb hr hlk hI hw dX5_append_41
def zw_append (p1 : Int32) (S : zt_S) (post : Int32 → zt_S → Prop) : Prop :=
  zw_in p1 (32 : Int32) (126 : Int32) (fun (r_1 : Int32) => (¬ r_1 = (0 : Int32) → ((¬ S 0 10 = (60 : Int32) → (zw_append_30 post (0 : Int32) p1 S)) ∧ (S 0 10 = (60 : Int32) → (zw_append_30 post (2 : Int32) p1 S)))) ∧ (r_1 = (0 : Int32) → (zw_append_30 post (1 : Int32) p1 S)))
set_option maxHeartbeats 4000000 in
theorem zm_append (l : Launch) (g : zt_G) (p1 : Int32) (S : zt_S) (post : Int32 → zt_S → Prop) (hw : zw_append p1 S post) : Met l yX5_append (ws_ yX5_append cX5_append 2 (some .int)) ({ frames := 1, cells := 0, slots := 0, locals := 22 } : Room) (va_Pc (.ref g.2.1 :: [.int p1]) (zt_B g S)) (va_Qi post (zt_B g) (zt_A g)) 0 0 (zt_A g) := by
  refine zt_met (by decide) rfl (Nat.le_of_ble_eq_true rfl) (fun p e s m below meth c ls hC hI hl => ?_)
  generalize (Value.ref g.2.1 :: ([.int p1] : List Value)).toArray = args at hC ⊢
  obtain ⟨hx, hb, hml, hown, hts, hr, hlk⟩ := hC
  have hl : lv_has ls 2 [(0, .ref g.2.1), (1, .int p1)] := hl
  unfold zw_append at hw
  obtain ⟨H, eH⟩ : ∃ z, z = s.heap := ⟨_, rfl⟩
  obtain ⟨locs, elo⟩ : ∃ z : List Loc, z = [] := ⟨_, rfl⟩
  rw [← eH, ← elo] at hI ⊢
  refine lv_aload_n hx hb dX5_append_0 rfl (lv_at hl 0 rfl) ?_
  refine lv_iload_n hx hb dX5_append_1 rfl (lv_at hl 1 rfl) ?_
  refine lv_bipush (v := 32) hx hb dX5_append_2 (by decide) ?_
  refine lv_bipush (v := 126) hx hb dX5_append_4 (by decide) ?_
  refine zt_callS (As := [.int p1, .int (32 : Int32), .int (126 : Int32)]) (rest := [.ref g.2.1]) ⟨hx, hb, hml, hown, hts⟩ (zm_in l p1 (32 : Int32) (126 : Int32) _ hw) (va_cwS 3 hts (lw_S q3693 q3694 q113 q3695) rfl rfl rfl hdT_in ⟨Nat.le_of_ble_eq_true rfl, Nat.le_of_ble_eq_true rfl⟩) rfl hl.1 rfl (lv_room (Nat.le_of_ble_eq_true rfl)) dX5_append_6 ⟨Nat.le_refl _, Nat.le_refl _⟩ (fun r_1 hw => ?_)
  refine lv_if_ne (tgt := 16) hx hb dX5_append_9 (by decide) (fun hc_2 => ?_) (fun hc_2 => ?_)
  · have hw := hw.1 hc_2
    refine lv_aload_n hx hb dX5_append_16 rfl (lv_at hl 0 rfl) ?_
    refine zt_get hx hb hts hown hI 10 (v := .int (S 0 10)) (by decide) q3642 rfl rfl dX5_append_17 ?_
    refine lv_bipush (v := 60) hx hb dX5_append_20 (by decide) ?_
    refine lv_icmp_ne (tgt := 29) hx hb dX5_append_22 (by decide) (fun hc_3 => ?_) (fun hc_3 => ?_)
    · have hw := hw.1 hc_3
      refine lv_iconst (v := 0) hx hb dX5_append_29 (by decide) ?_
      exact zj_append_30 g post (0 : Int32) p1 S ⟨hx, hb, hml, hown, hts, hr, hlk⟩ hw hI (lv_sub hl [0, 1] rfl)
    · have hw := hw.2 hc_3
      refine lv_iconst (v := 2) hx hb dX5_append_25 (by decide) ?_
      refine lv_goto (tgt := 30) hx hb dX5_append_26 (by decide) ?_
      exact zj_append_30 g post (2 : Int32) p1 S ⟨hx, hb, hml, hown, hts, hr, hlk⟩ hw hI (lv_sub hl [0, 1] rfl)
  · have hw := hw.2 hc_2
    refine lv_iconst (v := 1) hx hb dX5_append_12 (by decide) ?_
    refine lv_goto (tgt := 30) hx hb dX5_append_13 (by decide) ?_
    exact zj_append_30 g post (1 : Int32) p1 S ⟨hx, hb, hml, hown, hts, hr, hlk⟩ hw hI (lv_sub hl [0, 1] rfl)
theorem hdT_append : yX5_append.cls = RX5 ∧ yX5_append.cls ≠ "java/lang/invoke/MethodHandle" ∧ yX5_append.cls ≠ "java/lang/invoke/VarHandle" ∧ (parseMethodDescriptor yX5_append.desc).map (fun d => d.parameters.length) = some 1 := by decide +kernel
def zw_sign (S : zt_S) (post : Int32 → zt_S → Prop) : Prop :=
  (S 0 10 ≤ S 0 11 → (post (-1 : Int32) S)) ∧ (¬ S 0 10 ≤ S 0 11 → (vp_in (S 0 11) 60 ∧ (post (S 3 (S 0 11).toNatClampNeg) S)))
set_option maxHeartbeats 4000000 in
theorem zm_sign (l : Launch) (g : zt_G) (S : zt_S) (post : Int32 → zt_S → Prop) (hw : zw_sign S post) : Met l yX5_sign (ws_ yX5_sign cX5_sign 1 (some .int)) ({ frames := 0, cells := 0, slots := 0, locals := 0 } : Room) (va_Pc (.ref g.2.1 :: []) (zt_B g S)) (va_Qi post (zt_B g) (zt_A g)) 0 0 (zt_A g) := by
  refine zt_met (by decide) rfl (Nat.le_of_ble_eq_true rfl) (fun p e s m below meth c ls hC hI hl => ?_)
  generalize (Value.ref g.2.1 :: ([] : List Value)).toArray = args at hC ⊢
  obtain ⟨hx, hb, hml, hown, hts, hr, hlk⟩ := hC
  have hl : lv_has ls 1 [(0, .ref g.2.1)] := hl
  unfold zw_sign at hw
  obtain ⟨H, eH⟩ : ∃ z, z = s.heap := ⟨_, rfl⟩
  obtain ⟨locs, elo⟩ : ∃ z : List Loc, z = [] := ⟨_, rfl⟩
  rw [← eH, ← elo] at hI ⊢
  refine lv_aload_n hx hb dX5_sign_0 rfl (lv_at hl 0 rfl) ?_
  refine zt_get hx hb hts hown hI 11 (v := .int (S 0 11)) (by decide) q3643 rfl rfl dX5_sign_1 ?_
  refine lv_aload_n hx hb dX5_sign_4 rfl (lv_at hl 0 rfl) ?_
  refine zt_get hx hb hts hown hI 10 (v := .int (S 0 10)) (by decide) q3642 rfl rfl dX5_sign_5 ?_
  refine lv_icmp_ge (tgt := 23) hx hb dX5_sign_8 (by decide) (fun hc_1 => ?_) (fun hc_1 => ?_)
  · have hw := hw.1 hc_1
    refine lv_iconst (v := -1) hx hb dX5_sign_23 (by decide) ?_
    exact zt_iret hx hb hr hlk hI hw dX5_sign_24
  · have hw := hw.2 hc_1
    refine lv_aload_n hx hb dX5_sign_11 rfl (lv_at hl 0 rfl) ?_
    refine zt_get hx hb hts hown hI 9 (v := .ref g.2.2.2.2.1) (by decide) q3641 rfl rfl dX5_sign_12 ?_
    refine lv_aload_n hx hb dX5_sign_15 rfl (lv_at hl 0 rfl) ?_
    refine zt_get hx hb hts hown hI 11 (v := .int (S 0 11)) (by decide) q3643 rfl rfl dX5_sign_16 ?_
    refine zt_ld3 hx hb hI hw.1 dX5_sign_19 ?_
    have hw := hw.2
    refine lv_goto (tgt := 24) hx hb dX5_sign_20 (by decide) ?_
    exact zt_iret hx hb hr hlk hI hw dX5_sign_24
theorem hdT_sign : yX5_sign.cls = RX5 ∧ yX5_sign.cls ≠ "java/lang/invoke/MethodHandle" ∧ yX5_sign.cls ≠ "java/lang/invoke/VarHandle" ∧ (parseMethodDescriptor yX5_sign.desc).map (fun d => d.parameters.length) = some 0 := by decide +kernel
def zw_takes (p1 : Int32) (S : zt_S) (post : zt_S → Prop) : Prop :=
  (S 0 12 < (0 : Int32) → (zw_sign S (fun (r_3 : Int32) (S_2 : zt_S) => (r_3 = p1 → (∀ S_5 : zt_S, S_5 = zt_us S_2 0 11 ((S_2 0 11) + (1 : Int32)) → (post S_5))) ∧ (¬ r_3 = p1 → (∀ S_6 : zt_S, S_6 = zt_us S_2 0 12 (S_2 0 11) → (post S_6)))))) ∧ (¬ S 0 12 < (0 : Int32) → (post S))
set_option maxHeartbeats 4000000 in
theorem zm_takes (l : Launch) (g : zt_G) (p1 : Int32) (S : zt_S) (post : zt_S → Prop) (hw : zw_takes p1 S post) : Met l yX5_takes (ws_ yX5_takes cX5_takes 2 none) ({ frames := 1, cells := 0, slots := 0, locals := 20 } : Room) (va_Pc (.ref g.2.1 :: [.int p1]) (zt_B g S)) (va_Qv post (zt_B g) (zt_A g)) 0 0 (zt_A g) := by
  refine zt_met (by decide) rfl (Nat.le_of_ble_eq_true rfl) (fun p e s m below meth c ls hC hI hl => ?_)
  generalize (Value.ref g.2.1 :: ([.int p1] : List Value)).toArray = args at hC ⊢
  obtain ⟨hx, hb, hml, hown, hts, hr, hlk⟩ := hC
  have hl : lv_has ls 2 [(0, .ref g.2.1), (1, .int p1)] := hl
  unfold zw_takes at hw
  obtain ⟨H, eH⟩ : ∃ z, z = s.heap := ⟨_, rfl⟩
  obtain ⟨locs, elo⟩ : ∃ z : List Loc, z = [] := ⟨_, rfl⟩
  rw [← eH, ← elo] at hI ⊢
  refine lv_aload_n hx hb dX5_takes_0 rfl (lv_at hl 0 rfl) ?_
  refine zt_get hx hb hts hown hI 12 (v := .int (S 0 12)) (by decide) q3644 rfl rfl dX5_takes_1 ?_
  refine lv_if_lt (tgt := 8) hx hb dX5_takes_4 (by decide) (fun hc_1 => ?_) (fun hc_1 => ?_)
  · have hw := hw.1 hc_1
    refine lv_aload_n hx hb dX5_takes_8 rfl (lv_at hl 0 rfl) ?_
    refine zt_calli (As := []) (rest := []) ⟨hx, hb, hml, hown, hts⟩ hI (zm_sign l g S _ hw) (cwV 0 hts (lw_V q4071 q4073 qs94 q113 q4074) rfl rfl rfl hdT_sign ⟨Nat.le_of_ble_eq_true rfl, Nat.le_of_ble_eq_true rfl⟩) rfl hl.1 rfl (lv_room (Nat.le_of_ble_eq_true rfl)) dX5_takes_9 ⟨Nat.le_refl _, Nat.le_refl _⟩ (fun r_3 S_2 H locs hw hI => ?_)
    refine lv_iload_n hx hb dX5_takes_12 rfl (lv_at hl 1 rfl) ?_
    refine lv_icmp_eq (tgt := 25) hx hb dX5_takes_13 (by decide) (fun hc_4 => ?_) (fun hc_4 => ?_)
    · have hw := hw.1 hc_4
      refine lv_aload_n hx hb dX5_takes_25 rfl (lv_at hl 0 rfl) ?_
      refine lv_dup hx hb dX5_takes_26 rfl ?_
      refine zt_get hx hb hts hown hI 11 (v := .int (S_2 0 11)) (by decide) q3643 rfl rfl dX5_takes_27 ?_
      refine lv_iconst (v := 1) hx hb dX5_takes_30 (by decide) ?_
      refine lv_iadd hx hb dX5_takes_31 ?_
      refine zt_put hx hb hts hown hI 11 (v := (S_2 0 11) + (1 : Int32)) (ty := .int) (by decide) q3643 rfl rfl (by decide +kernel) rfl rfl rfl dX5_takes_32 (fun H locs hI => ?_)
      obtain ⟨S_5, eS_5⟩ : ∃ z, z = zt_us S_2 0 11 ((S_2 0 11) + (1 : Int32)) := ⟨_, rfl⟩
      rw [← eS_5] at hI
      have hw := hw S_5 eS_5
      exact zt_vret hx hb hr hlk hI hw dX5_takes_35
    · have hw := hw.2 hc_4
      refine lv_aload_n hx hb dX5_takes_16 rfl (lv_at hl 0 rfl) ?_
      refine lv_aload_n hx hb dX5_takes_17 rfl (lv_at hl 0 rfl) ?_
      refine zt_get hx hb hts hown hI 11 (v := .int (S_2 0 11)) (by decide) q3643 rfl rfl dX5_takes_18 ?_
      refine zt_put hx hb hts hown hI 12 (v := S_2 0 11) (ty := .int) (by decide) q3644 rfl rfl (by decide +kernel) rfl rfl rfl dX5_takes_21 (fun H locs hI => ?_)
      obtain ⟨S_6, eS_6⟩ : ∃ z, z = zt_us S_2 0 12 (S_2 0 11) := ⟨_, rfl⟩
      rw [← eS_6] at hI
      have hw := hw S_6 eS_6
      exact zt_vret hx hb hr hlk hI hw dX5_takes_24
  · have hw := hw.2 hc_1
    exact zt_vret hx hb hr hlk hI hw dX5_takes_7
theorem hdT_takes : yX5_takes.cls = RX5 ∧ yX5_takes.cls ≠ "java/lang/invoke/MethodHandle" ∧ yX5_takes.cls ≠ "java/lang/invoke/VarHandle" ∧ (parseMethodDescriptor yX5_takes.desc).map (fun d => d.parameters.length) = some 1 := by decide +kernel
def zw_letters (p1 : Int32) (p2 : Int32) (p3 : Int32) (S : zt_S) (post : zt_S → Prop) : Prop :=
  zw_takes p1 S (fun (S_1 : zt_S) => zw_takes p2 S_1 (fun (S_2 : zt_S) => zw_takes p3 S_2 (fun (S_3 : zt_S) => post S_3)))
set_option maxHeartbeats 4000000 in
theorem zm_letters (l : Launch) (g : zt_G) (p1 : Int32) (p2 : Int32) (p3 : Int32) (S : zt_S) (post : zt_S → Prop) (hw : zw_letters p1 p2 p3 S post) : Met l yX5_letters (ws_ yX5_letters cX5_letters 4 none) ({ frames := 2, cells := 0, slots := 0, locals := 41 } : Room) (va_Pc (.ref g.2.1 :: [.int p1, .int p2, .int p3]) (zt_B g S)) (va_Qv post (zt_B g) (zt_A g)) 0 0 (zt_A g) := by
  refine zt_met (by decide) rfl (Nat.le_of_ble_eq_true rfl) (fun p e s m below meth c ls hC hI hl => ?_)
  generalize (Value.ref g.2.1 :: ([.int p1, .int p2, .int p3] : List Value)).toArray = args at hC ⊢
  obtain ⟨hx, hb, hml, hown, hts, hr, hlk⟩ := hC
  have hl : lv_has ls 4 [(0, .ref g.2.1), (1, .int p1), (2, .int p2), (3, .int p3)] := hl
  unfold zw_letters at hw
  obtain ⟨H, eH⟩ : ∃ z, z = s.heap := ⟨_, rfl⟩
  obtain ⟨locs, elo⟩ : ∃ z : List Loc, z = [] := ⟨_, rfl⟩
  rw [← eH, ← elo] at hI ⊢
  refine lv_aload_n hx hb dX5_letters_0 rfl (lv_at hl 0 rfl) ?_
  refine lv_iload_n hx hb dX5_letters_1 rfl (lv_at hl 1 rfl) ?_
  refine zt_callv (As := [.int p1]) (rest := []) ⟨hx, hb, hml, hown, hts⟩ hI (zm_takes l g p1 S _ hw) (cwV 1 hts (lw_V q4079 q4081 qs96 q113 q4082) rfl rfl rfl hdT_takes ⟨Nat.le_of_ble_eq_true rfl, Nat.le_of_ble_eq_true rfl⟩) rfl hl.1 rfl (lv_room (Nat.le_of_ble_eq_true rfl)) dX5_letters_2 ⟨Nat.le_refl _, Nat.le_refl _⟩ (fun S_1 H locs hw hI => ?_)
  refine lv_aload_n hx hb dX5_letters_5 rfl (lv_at hl 0 rfl) ?_
  refine lv_iload_n hx hb dX5_letters_6 rfl (lv_at hl 2 rfl) ?_
  refine zt_callv (As := [.int p2]) (rest := []) ⟨hx, hb, hml, hown, hts⟩ hI (zm_takes l g p2 S_1 _ hw) (cwV 1 hts (lw_V q4079 q4081 qs96 q113 q4082) rfl rfl rfl hdT_takes ⟨Nat.le_of_ble_eq_true rfl, Nat.le_of_ble_eq_true rfl⟩) rfl hl.1 rfl (lv_room (Nat.le_of_ble_eq_true rfl)) dX5_letters_7 ⟨Nat.le_refl _, Nat.le_refl _⟩ (fun S_2 H locs hw hI => ?_)
  refine lv_aload_n hx hb dX5_letters_10 rfl (lv_at hl 0 rfl) ?_
  refine lv_iload_n hx hb dX5_letters_11 rfl (lv_at hl 3 rfl) ?_
  refine zt_callv (As := [.int p3]) (rest := []) ⟨hx, hb, hml, hown, hts⟩ hI (zm_takes l g p3 S_2 _ hw) (cwV 1 hts (lw_V q4079 q4081 qs96 q113 q4082) rfl rfl rfl hdT_takes ⟨Nat.le_of_ble_eq_true rfl, Nat.le_of_ble_eq_true rfl⟩) rfl hl.1 rfl (lv_room (Nat.le_of_ble_eq_true rfl)) dX5_letters_12 ⟨Nat.le_refl _, Nat.le_refl _⟩ (fun S_3 H locs hw hI => ?_)
  exact zt_vret hx hb hr hlk hI hw dX5_letters_15
theorem hdT_letters : yX5_letters.cls = RX5 ∧ yX5_letters.cls ≠ "java/lang/invoke/MethodHandle" ∧ yX5_letters.cls ≠ "java/lang/invoke/VarHandle" ∧ (parseMethodDescriptor yX5_letters.desc).map (fun d => d.parameters.length) = some 3 := by decide +kernel
def zw_word_155 (post : Int32 → zt_S → Prop) (v1 : Int32) (S : zt_S) : Prop :=
  (¬ v1 = (100 : Int32) → (post v1 S)) ∧ (v1 = (100 : Int32) → (zw_letters (97 : Int32) (121 : Int32) (115 : Int32) S (fun (S_11 : zt_S) => post v1 S_11)))
set_option maxHeartbeats 4000000 in
theorem zj_word_155 {p : Program} {l : Launch} {e : Env} {s : State} {m : MethodId} {args : Array Value} {below : List Frame} {meth : Method} {c : Code} {H : Heap} {locs : List Loc} {ls : Array Slot} (g : zt_G) (post : Int32 → zt_S → Prop) (v1 : Int32) (S : zt_S) (hC : zt_C p s m args meth c cX5_word 2 (some .int)) (hw : zw_word_155 post v1 S) (hI : zt_I g S s H locs) (hl : lv_has ls 2 [(0, .ref g.2.1), (1, .int v1)]) : W p l e ({ frames := 3, cells := 0, slots := 0, locals := 64 } : Room) s m args below meth c H locs 0 0 (MQ below (va_Qi post (zt_B g) (zt_A g)) args s 0 0 (zt_A g)) (F0 m 155 ls []) := by
  obtain ⟨hx, hb, hml, hown, hts, hr, hlk⟩ := hC
  unfold zw_word_155 at hw
  refine lv_iload_n hx hb dX5_word_155 rfl (lv_at hl 1 rfl) ?_
  refine lv_bipush (v := 100) hx hb dX5_word_156 (by decide) ?_
  refine lv_icmp_ne (tgt := 171) hx hb dX5_word_158 (by decide) (fun hc_10 => ?_) (fun hc_10 => ?_)
  · have hw := hw.1 hc_10
    refine lv_iload_n hx hb dX5_word_171 rfl (lv_at hl 1 rfl) ?_
    exact zt_iret hx hb hr hlk hI hw dX5_word_172
  · have hw := hw.2 hc_10
    refine lv_aload_n hx hb dX5_word_161 rfl (lv_at hl 0 rfl) ?_
    refine lv_bipush (v := 97) hx hb dX5_word_162 (by decide) ?_
    refine lv_bipush (v := 121) hx hb dX5_word_164 (by decide) ?_
    refine lv_bipush (v := 115) hx hb dX5_word_166 (by decide) ?_
    refine zt_callv (As := [.int (97 : Int32), .int (121 : Int32), .int (115 : Int32)]) (rest := []) ⟨hx, hb, hml, hown, hts⟩ hI (zm_letters l g (97 : Int32) (121 : Int32) (115 : Int32) S _ hw) (cwV 3 hts (lw_V q4075 q4077 qs95 q113 q4078) rfl rfl rfl hdT_letters ⟨Nat.le_of_ble_eq_true rfl, Nat.le_of_ble_eq_true rfl⟩) rfl hl.1 rfl (lv_room (Nat.le_of_ble_eq_true rfl)) dX5_word_168 ⟨Nat.le_refl _, Nat.le_refl _⟩ (fun S_11 H locs hw hI => ?_)
    refine lv_iload_n hx hb dX5_word_171 rfl (lv_at hl 1 rfl) ?_
    exact zt_iret hx hb hr hlk hI hw dX5_word_172
def zw_word_137 (post : Int32 → zt_S → Prop) (v1 : Int32) (S : zt_S) : Prop :=
  (¬ v1 = (97 : Int32) → (zw_word_155 post v1 S)) ∧ (v1 = (97 : Int32) → (zw_takes (105 : Int32) S (fun (S_12 : zt_S) => zw_takes (114 : Int32) S_12 (fun (S_13 : zt_S) => zw_word_155 post v1 S_13))))
set_option maxHeartbeats 4000000 in
theorem zj_word_137 {p : Program} {l : Launch} {e : Env} {s : State} {m : MethodId} {args : Array Value} {below : List Frame} {meth : Method} {c : Code} {H : Heap} {locs : List Loc} {ls : Array Slot} (g : zt_G) (post : Int32 → zt_S → Prop) (v1 : Int32) (S : zt_S) (hC : zt_C p s m args meth c cX5_word 2 (some .int)) (hw : zw_word_137 post v1 S) (hI : zt_I g S s H locs) (hl : lv_has ls 2 [(0, .ref g.2.1), (1, .int v1)]) : W p l e ({ frames := 3, cells := 0, slots := 0, locals := 64 } : Room) s m args below meth c H locs 0 0 (MQ below (va_Qi post (zt_B g) (zt_A g)) args s 0 0 (zt_A g)) (F0 m 137 ls []) := by
  obtain ⟨hx, hb, hml, hown, hts, hr, hlk⟩ := hC
  unfold zw_word_137 at hw
  refine lv_iload_n hx hb dX5_word_137 rfl (lv_at hl 1 rfl) ?_
  refine lv_bipush (v := 97) hx hb dX5_word_138 (by decide) ?_
  refine lv_icmp_ne (tgt := 155) hx hb dX5_word_140 (by decide) (fun hc_9 => ?_) (fun hc_9 => ?_)
  · have hw := hw.1 hc_9
    exact zj_word_155 g post v1 S ⟨hx, hb, hml, hown, hts, hr, hlk⟩ hw hI (lv_sub hl [0, 1] rfl)
  · have hw := hw.2 hc_9
    refine lv_aload_n hx hb dX5_word_143 rfl (lv_at hl 0 rfl) ?_
    refine lv_bipush (v := 105) hx hb dX5_word_144 (by decide) ?_
    refine zt_callv (As := [.int (105 : Int32)]) (rest := []) ⟨hx, hb, hml, hown, hts⟩ hI (zm_takes l g (105 : Int32) S _ hw) (cwV 1 hts (lw_V q4079 q4081 qs96 q113 q4082) rfl rfl rfl hdT_takes ⟨Nat.le_of_ble_eq_true rfl, Nat.le_of_ble_eq_true rfl⟩) rfl hl.1 rfl (lv_room (Nat.le_of_ble_eq_true rfl)) dX5_word_146 ⟨Nat.le_refl _, Nat.le_refl _⟩ (fun S_12 H locs hw hI => ?_)
    refine lv_aload_n hx hb dX5_word_149 rfl (lv_at hl 0 rfl) ?_
    refine lv_bipush (v := 114) hx hb dX5_word_150 (by decide) ?_
    refine zt_callv (As := [.int (114 : Int32)]) (rest := []) ⟨hx, hb, hml, hown, hts⟩ hI (zm_takes l g (114 : Int32) S_12 _ hw) (cwV 1 hts (lw_V q4079 q4081 qs96 q113 q4082) rfl rfl rfl hdT_takes ⟨Nat.le_of_ble_eq_true rfl, Nat.le_of_ble_eq_true rfl⟩) rfl hl.1 rfl (lv_room (Nat.le_of_ble_eq_true rfl)) dX5_word_152 ⟨Nat.le_refl _, Nat.le_refl _⟩ (fun S_13 H locs hw hI => ?_)
    exact zj_word_155 g post v1 S_13 ⟨hx, hb, hml, hown, hts, hr, hlk⟩ hw hI (lv_sub hl [0, 1] rfl)
def zw_word_121 (post : Int32 → zt_S → Prop) (v1 : Int32) (S : zt_S) : Prop :=
  (¬ v1 = (116 : Int32) → (zw_word_137 post v1 S)) ∧ (v1 = (116 : Int32) → (zw_letters (114 : Int32) (97 : Int32) (112 : Int32) S (fun (S_14 : zt_S) => zw_word_137 post v1 S_14)))
set_option maxHeartbeats 4000000 in
theorem zj_word_121 {p : Program} {l : Launch} {e : Env} {s : State} {m : MethodId} {args : Array Value} {below : List Frame} {meth : Method} {c : Code} {H : Heap} {locs : List Loc} {ls : Array Slot} (g : zt_G) (post : Int32 → zt_S → Prop) (v1 : Int32) (S : zt_S) (hC : zt_C p s m args meth c cX5_word 2 (some .int)) (hw : zw_word_121 post v1 S) (hI : zt_I g S s H locs) (hl : lv_has ls 2 [(0, .ref g.2.1), (1, .int v1)]) : W p l e ({ frames := 3, cells := 0, slots := 0, locals := 64 } : Room) s m args below meth c H locs 0 0 (MQ below (va_Qi post (zt_B g) (zt_A g)) args s 0 0 (zt_A g)) (F0 m 121 ls []) := by
  obtain ⟨hx, hb, hml, hown, hts, hr, hlk⟩ := hC
  unfold zw_word_121 at hw
  refine lv_iload_n hx hb dX5_word_121 rfl (lv_at hl 1 rfl) ?_
  refine lv_bipush (v := 116) hx hb dX5_word_122 (by decide) ?_
  refine lv_icmp_ne (tgt := 137) hx hb dX5_word_124 (by decide) (fun hc_8 => ?_) (fun hc_8 => ?_)
  · have hw := hw.1 hc_8
    exact zj_word_137 g post v1 S ⟨hx, hb, hml, hown, hts, hr, hlk⟩ hw hI (lv_sub hl [0, 1] rfl)
  · have hw := hw.2 hc_8
    refine lv_aload_n hx hb dX5_word_127 rfl (lv_at hl 0 rfl) ?_
    refine lv_bipush (v := 114) hx hb dX5_word_128 (by decide) ?_
    refine lv_bipush (v := 97) hx hb dX5_word_130 (by decide) ?_
    refine lv_bipush (v := 112) hx hb dX5_word_132 (by decide) ?_
    refine zt_callv (As := [.int (114 : Int32), .int (97 : Int32), .int (112 : Int32)]) (rest := []) ⟨hx, hb, hml, hown, hts⟩ hI (zm_letters l g (114 : Int32) (97 : Int32) (112 : Int32) S _ hw) (cwV 3 hts (lw_V q4075 q4077 qs95 q113 q4078) rfl rfl rfl hdT_letters ⟨Nat.le_of_ble_eq_true rfl, Nat.le_of_ble_eq_true rfl⟩) rfl hl.1 rfl (lv_room (Nat.le_of_ble_eq_true rfl)) dX5_word_134 ⟨Nat.le_refl _, Nat.le_refl _⟩ (fun S_14 H locs hw hI => ?_)
    exact zj_word_137 g post v1 S_14 ⟨hx, hb, hml, hown, hts, hr, hlk⟩ hw hI (lv_sub hl [0, 1] rfl)
def zw_word_105 (post : Int32 → zt_S → Prop) (v1 : Int32) (S : zt_S) : Prop :=
  (¬ v1 = (115 : Int32) → (zw_word_121 post v1 S)) ∧ (v1 = (115 : Int32) → (zw_letters (101 : Int32) (110 : Int32) (100 : Int32) S (fun (S_15 : zt_S) => zw_word_121 post v1 S_15)))
set_option maxHeartbeats 4000000 in
theorem zj_word_105 {p : Program} {l : Launch} {e : Env} {s : State} {m : MethodId} {args : Array Value} {below : List Frame} {meth : Method} {c : Code} {H : Heap} {locs : List Loc} {ls : Array Slot} (g : zt_G) (post : Int32 → zt_S → Prop) (v1 : Int32) (S : zt_S) (hC : zt_C p s m args meth c cX5_word 2 (some .int)) (hw : zw_word_105 post v1 S) (hI : zt_I g S s H locs) (hl : lv_has ls 2 [(0, .ref g.2.1), (1, .int v1)]) : W p l e ({ frames := 3, cells := 0, slots := 0, locals := 64 } : Room) s m args below meth c H locs 0 0 (MQ below (va_Qi post (zt_B g) (zt_A g)) args s 0 0 (zt_A g)) (F0 m 105 ls []) := by
  obtain ⟨hx, hb, hml, hown, hts, hr, hlk⟩ := hC
  unfold zw_word_105 at hw
  refine lv_iload_n hx hb dX5_word_105 rfl (lv_at hl 1 rfl) ?_
  refine lv_bipush (v := 115) hx hb dX5_word_106 (by decide) ?_
  refine lv_icmp_ne (tgt := 121) hx hb dX5_word_108 (by decide) (fun hc_7 => ?_) (fun hc_7 => ?_)
  · have hw := hw.1 hc_7
    exact zj_word_121 g post v1 S ⟨hx, hb, hml, hown, hts, hr, hlk⟩ hw hI (lv_sub hl [0, 1] rfl)
  · have hw := hw.2 hc_7
    refine lv_aload_n hx hb dX5_word_111 rfl (lv_at hl 0 rfl) ?_
    refine lv_bipush (v := 101) hx hb dX5_word_112 (by decide) ?_
    refine lv_bipush (v := 110) hx hb dX5_word_114 (by decide) ?_
    refine lv_bipush (v := 100) hx hb dX5_word_116 (by decide) ?_
    refine zt_callv (As := [.int (101 : Int32), .int (110 : Int32), .int (100 : Int32)]) (rest := []) ⟨hx, hb, hml, hown, hts⟩ hI (zm_letters l g (101 : Int32) (110 : Int32) (100 : Int32) S _ hw) (cwV 3 hts (lw_V q4075 q4077 qs95 q113 q4078) rfl rfl rfl hdT_letters ⟨Nat.le_of_ble_eq_true rfl, Nat.le_of_ble_eq_true rfl⟩) rfl hl.1 rfl (lv_room (Nat.le_of_ble_eq_true rfl)) dX5_word_118 ⟨Nat.le_refl _, Nat.le_refl _⟩ (fun S_15 H locs hw hI => ?_)
    exact zj_word_121 g post v1 S_15 ⟨hx, hb, hml, hown, hts, hr, hlk⟩ hw hI (lv_sub hl [0, 1] rfl)
def zw_word_77 (post : Int32 → zt_S → Prop) (v1 : Int32) (S : zt_S) : Prop :=
  (¬ v1 = (103 : Int32) → (zw_word_105 post v1 S)) ∧ (v1 = (103 : Int32) → (zw_letters (97 : Int32) (116 : Int32) (104 : Int32) S (fun (S_16 : zt_S) => zw_takes (101 : Int32) S_16 (fun (S_17 : zt_S) => zw_takes (114 : Int32) S_17 (fun (S_18 : zt_S) => zw_word_105 post v1 S_18)))))
set_option maxHeartbeats 4000000 in
theorem zj_word_77 {p : Program} {l : Launch} {e : Env} {s : State} {m : MethodId} {args : Array Value} {below : List Frame} {meth : Method} {c : Code} {H : Heap} {locs : List Loc} {ls : Array Slot} (g : zt_G) (post : Int32 → zt_S → Prop) (v1 : Int32) (S : zt_S) (hC : zt_C p s m args meth c cX5_word 2 (some .int)) (hw : zw_word_77 post v1 S) (hI : zt_I g S s H locs) (hl : lv_has ls 2 [(0, .ref g.2.1), (1, .int v1)]) : W p l e ({ frames := 3, cells := 0, slots := 0, locals := 64 } : Room) s m args below meth c H locs 0 0 (MQ below (va_Qi post (zt_B g) (zt_A g)) args s 0 0 (zt_A g)) (F0 m 77 ls []) := by
  obtain ⟨hx, hb, hml, hown, hts, hr, hlk⟩ := hC
  unfold zw_word_77 at hw
  refine lv_iload_n hx hb dX5_word_77 rfl (lv_at hl 1 rfl) ?_
  refine lv_bipush (v := 103) hx hb dX5_word_78 (by decide) ?_
  refine lv_icmp_ne (tgt := 105) hx hb dX5_word_80 (by decide) (fun hc_6 => ?_) (fun hc_6 => ?_)
  · have hw := hw.1 hc_6
    exact zj_word_105 g post v1 S ⟨hx, hb, hml, hown, hts, hr, hlk⟩ hw hI (lv_sub hl [0, 1] rfl)
  · have hw := hw.2 hc_6
    refine lv_aload_n hx hb dX5_word_83 rfl (lv_at hl 0 rfl) ?_
    refine lv_bipush (v := 97) hx hb dX5_word_84 (by decide) ?_
    refine lv_bipush (v := 116) hx hb dX5_word_86 (by decide) ?_
    refine lv_bipush (v := 104) hx hb dX5_word_88 (by decide) ?_
    refine zt_callv (As := [.int (97 : Int32), .int (116 : Int32), .int (104 : Int32)]) (rest := []) ⟨hx, hb, hml, hown, hts⟩ hI (zm_letters l g (97 : Int32) (116 : Int32) (104 : Int32) S _ hw) (cwV 3 hts (lw_V q4075 q4077 qs95 q113 q4078) rfl rfl rfl hdT_letters ⟨Nat.le_of_ble_eq_true rfl, Nat.le_of_ble_eq_true rfl⟩) rfl hl.1 rfl (lv_room (Nat.le_of_ble_eq_true rfl)) dX5_word_90 ⟨Nat.le_refl _, Nat.le_refl _⟩ (fun S_16 H locs hw hI => ?_)
    refine lv_aload_n hx hb dX5_word_93 rfl (lv_at hl 0 rfl) ?_
    refine lv_bipush (v := 101) hx hb dX5_word_94 (by decide) ?_
    refine zt_callv (As := [.int (101 : Int32)]) (rest := []) ⟨hx, hb, hml, hown, hts⟩ hI (zm_takes l g (101 : Int32) S_16 _ hw) (cwV 1 hts (lw_V q4079 q4081 qs96 q113 q4082) rfl rfl rfl hdT_takes ⟨Nat.le_of_ble_eq_true rfl, Nat.le_of_ble_eq_true rfl⟩) rfl hl.1 rfl (lv_room (Nat.le_of_ble_eq_true rfl)) dX5_word_96 ⟨Nat.le_refl _, Nat.le_refl _⟩ (fun S_17 H locs hw hI => ?_)
    refine lv_aload_n hx hb dX5_word_99 rfl (lv_at hl 0 rfl) ?_
    refine lv_bipush (v := 114) hx hb dX5_word_100 (by decide) ?_
    refine zt_callv (As := [.int (114 : Int32)]) (rest := []) ⟨hx, hb, hml, hown, hts⟩ hI (zm_takes l g (114 : Int32) S_17 _ hw) (cwV 1 hts (lw_V q4079 q4081 qs96 q113 q4082) rfl rfl rfl hdT_takes ⟨Nat.le_of_ble_eq_true rfl, Nat.le_of_ble_eq_true rfl⟩) rfl hl.1 rfl (lv_room (Nat.le_of_ble_eq_true rfl)) dX5_word_102 ⟨Nat.le_refl _, Nat.le_refl _⟩ (fun S_18 H locs hw hI => ?_)
    exact zj_word_105 g post v1 S_18 ⟨hx, hb, hml, hown, hts, hr, hlk⟩ hw hI (lv_sub hl [0, 1] rfl)
def zw_word_51 (post : Int32 → zt_S → Prop) (v1 : Int32) (S : zt_S) : Prop :=
  ∀ S_4 : zt_S, S_4 = zt_us S 0 11 ((S 0 11) + (1 : Int32)) → ((¬ v1 = (112 : Int32) → (zw_word_77 post v1 S_4)) ∧ (v1 = (112 : Int32) → (zw_letters (117 : Int32) (115 : Int32) (104 : Int32) S_4 (fun (S_19 : zt_S) => zw_word_77 post v1 S_19))))
set_option maxHeartbeats 4000000 in
theorem zj_word_51 {p : Program} {l : Launch} {e : Env} {s : State} {m : MethodId} {args : Array Value} {below : List Frame} {meth : Method} {c : Code} {H : Heap} {locs : List Loc} {ls : Array Slot} (g : zt_G) (post : Int32 → zt_S → Prop) (v1 : Int32) (S : zt_S) (hC : zt_C p s m args meth c cX5_word 2 (some .int)) (hw : zw_word_51 post v1 S) (hI : zt_I g S s H locs) (hl : lv_has ls 2 [(0, .ref g.2.1), (1, .int v1)]) : W p l e ({ frames := 3, cells := 0, slots := 0, locals := 64 } : Room) s m args below meth c H locs 0 0 (MQ below (va_Qi post (zt_B g) (zt_A g)) args s 0 0 (zt_A g)) (F0 m 51 ls []) := by
  obtain ⟨hx, hb, hml, hown, hts, hr, hlk⟩ := hC
  unfold zw_word_51 at hw
  refine lv_aload_n hx hb dX5_word_51 rfl (lv_at hl 0 rfl) ?_
  refine lv_dup hx hb dX5_word_52 rfl ?_
  refine zt_get hx hb hts hown hI 11 (v := .int (S 0 11)) (by decide) q3643 rfl rfl dX5_word_53 ?_
  refine lv_iconst (v := 1) hx hb dX5_word_56 (by decide) ?_
  refine lv_iadd hx hb dX5_word_57 ?_
  refine zt_put hx hb hts hown hI 11 (v := (S 0 11) + (1 : Int32)) (ty := .int) (by decide) q3643 rfl rfl (by decide +kernel) rfl rfl rfl dX5_word_58 (fun H locs hI => ?_)
  obtain ⟨S_4, eS_4⟩ : ∃ z, z = zt_us S 0 11 ((S 0 11) + (1 : Int32)) := ⟨_, rfl⟩
  rw [← eS_4] at hI
  have hw := hw S_4 eS_4
  refine lv_iload_n hx hb dX5_word_61 rfl (lv_at hl 1 rfl) ?_
  refine lv_bipush (v := 112) hx hb dX5_word_62 (by decide) ?_
  refine lv_icmp_ne (tgt := 77) hx hb dX5_word_64 (by decide) (fun hc_5 => ?_) (fun hc_5 => ?_)
  · have hw := hw.1 hc_5
    exact zj_word_77 g post v1 S_4 ⟨hx, hb, hml, hown, hts, hr, hlk⟩ hw hI (lv_sub hl [0, 1] rfl)
  · have hw := hw.2 hc_5
    refine lv_aload_n hx hb dX5_word_67 rfl (lv_at hl 0 rfl) ?_
    refine lv_bipush (v := 117) hx hb dX5_word_68 (by decide) ?_
    refine lv_bipush (v := 115) hx hb dX5_word_70 (by decide) ?_
    refine lv_bipush (v := 104) hx hb dX5_word_72 (by decide) ?_
    refine zt_callv (As := [.int (117 : Int32), .int (115 : Int32), .int (104 : Int32)]) (rest := []) ⟨hx, hb, hml, hown, hts⟩ hI (zm_letters l g (117 : Int32) (115 : Int32) (104 : Int32) S_4 _ hw) (cwV 3 hts (lw_V q4075 q4077 qs95 q113 q4078) rfl rfl rfl hdT_letters ⟨Nat.le_of_ble_eq_true rfl, Nat.le_of_ble_eq_true rfl⟩) rfl hl.1 rfl (lv_room (Nat.le_of_ble_eq_true rfl)) dX5_word_74 ⟨Nat.le_refl _, Nat.le_refl _⟩ (fun S_19 H locs hw hI => ?_)
    exact zj_word_77 g post v1 S_19 ⟨hx, hb, hml, hown, hts, hr, hlk⟩ hw hI (lv_sub hl [0, 1] rfl)
def zw_word (S : zt_S) (post : Int32 → zt_S → Prop) : Prop :=
  zw_sign S (fun (r_2 : Int32) (S_1 : zt_S) => (r_2 = (112 : Int32) → (zw_word_51 post r_2 S_1)) ∧ (¬ r_2 = (112 : Int32) → ((r_2 = (103 : Int32) → (zw_word_51 post r_2 S_1)) ∧ (¬ r_2 = (103 : Int32) → ((r_2 = (115 : Int32) → (zw_word_51 post r_2 S_1)) ∧ (¬ r_2 = (115 : Int32) → ((r_2 = (116 : Int32) → (zw_word_51 post r_2 S_1)) ∧ (¬ r_2 = (116 : Int32) → ((r_2 = (97 : Int32) → (zw_word_51 post r_2 S_1)) ∧ (¬ r_2 = (97 : Int32) → ((r_2 = (100 : Int32) → (zw_word_51 post r_2 S_1)) ∧ (¬ r_2 = (100 : Int32) → (∀ S_25 : zt_S, S_25 = zt_us S_1 0 12 (S_1 0 11) → (post r_2 S_25))))))))))))))
set_option maxHeartbeats 4000000 in
theorem zm_word (l : Launch) (g : zt_G) (S : zt_S) (post : Int32 → zt_S → Prop) (hw : zw_word S post) : Met l yX5_word (ws_ yX5_word cX5_word 2 (some .int)) ({ frames := 3, cells := 0, slots := 0, locals := 64 } : Room) (va_Pc (.ref g.2.1 :: []) (zt_B g S)) (va_Qi post (zt_B g) (zt_A g)) 0 0 (zt_A g) := by
  refine zt_met (by decide) rfl (Nat.le_of_ble_eq_true rfl) (fun p e s m below meth c ls hC hI hl => ?_)
  generalize (Value.ref g.2.1 :: ([] : List Value)).toArray = args at hC ⊢
  obtain ⟨hx, hb, hml, hown, hts, hr, hlk⟩ := hC
  have hl : lv_has ls 2 [(0, .ref g.2.1)] := hl
  unfold zw_word at hw
  obtain ⟨H, eH⟩ : ∃ z, z = s.heap := ⟨_, rfl⟩
  obtain ⟨locs, elo⟩ : ∃ z : List Loc, z = [] := ⟨_, rfl⟩
  rw [← eH, ← elo] at hI ⊢
  refine lv_aload_n hx hb dX5_word_0 rfl (lv_at hl 0 rfl) ?_
  refine zt_calli (As := []) (rest := []) ⟨hx, hb, hml, hown, hts⟩ hI (zm_sign l g S _ hw) (cwV 0 hts (lw_V q4071 q4073 qs94 q113 q4074) rfl rfl rfl hdT_sign ⟨Nat.le_of_ble_eq_true rfl, Nat.le_of_ble_eq_true rfl⟩) rfl hl.1 rfl (lv_room (Nat.le_of_ble_eq_true rfl)) dX5_word_1 ⟨Nat.le_refl _, Nat.le_refl _⟩ (fun r_2 S_1 H locs hw hI => ?_)
  refine lv_istore_n (lv' := [(1, .int r_2), (0, .ref g.2.1)]) hx hb dX5_word_4 rfl hl (by decide) rfl (fun ls hl => ?_)
  refine lv_iload_n hx hb dX5_word_5 rfl (lv_at hl 0 rfl) ?_
  refine lv_bipush (v := 112) hx hb dX5_word_6 (by decide) ?_
  refine lv_icmp_eq (tgt := 51) hx hb dX5_word_8 (by decide) (fun hc_3 => ?_) (fun hc_3 => ?_)
  · have hw := hw.1 hc_3
    exact zj_word_51 g post r_2 S_1 ⟨hx, hb, hml, hown, hts, hr, hlk⟩ hw hI (lv_sub hl [1, 0] rfl)
  · have hw := hw.2 hc_3
    refine lv_iload_n hx hb dX5_word_11 rfl (lv_at hl 0 rfl) ?_
    refine lv_bipush (v := 103) hx hb dX5_word_12 (by decide) ?_
    refine lv_icmp_eq (tgt := 51) hx hb dX5_word_14 (by decide) (fun hc_20 => ?_) (fun hc_20 => ?_)
    · have hw := hw.1 hc_20
      exact zj_word_51 g post r_2 S_1 ⟨hx, hb, hml, hown, hts, hr, hlk⟩ hw hI (lv_sub hl [1, 0] rfl)
    · have hw := hw.2 hc_20
      refine lv_iload_n hx hb dX5_word_17 rfl (lv_at hl 0 rfl) ?_
      refine lv_bipush (v := 115) hx hb dX5_word_18 (by decide) ?_
      refine lv_icmp_eq (tgt := 51) hx hb dX5_word_20 (by decide) (fun hc_21 => ?_) (fun hc_21 => ?_)
      · have hw := hw.1 hc_21
        exact zj_word_51 g post r_2 S_1 ⟨hx, hb, hml, hown, hts, hr, hlk⟩ hw hI (lv_sub hl [1, 0] rfl)
      · have hw := hw.2 hc_21
        refine lv_iload_n hx hb dX5_word_23 rfl (lv_at hl 0 rfl) ?_
        refine lv_bipush (v := 116) hx hb dX5_word_24 (by decide) ?_
        refine lv_icmp_eq (tgt := 51) hx hb dX5_word_26 (by decide) (fun hc_22 => ?_) (fun hc_22 => ?_)
        · have hw := hw.1 hc_22
          exact zj_word_51 g post r_2 S_1 ⟨hx, hb, hml, hown, hts, hr, hlk⟩ hw hI (lv_sub hl [1, 0] rfl)
        · have hw := hw.2 hc_22
          refine lv_iload_n hx hb dX5_word_29 rfl (lv_at hl 0 rfl) ?_
          refine lv_bipush (v := 97) hx hb dX5_word_30 (by decide) ?_
          refine lv_icmp_eq (tgt := 51) hx hb dX5_word_32 (by decide) (fun hc_23 => ?_) (fun hc_23 => ?_)
          · have hw := hw.1 hc_23
            exact zj_word_51 g post r_2 S_1 ⟨hx, hb, hml, hown, hts, hr, hlk⟩ hw hI (lv_sub hl [1, 0] rfl)
          · have hw := hw.2 hc_23
            refine lv_iload_n hx hb dX5_word_35 rfl (lv_at hl 0 rfl) ?_
            refine lv_bipush (v := 100) hx hb dX5_word_36 (by decide) ?_
            refine lv_icmp_eq (tgt := 51) hx hb dX5_word_38 (by decide) (fun hc_24 => ?_) (fun hc_24 => ?_)
            · have hw := hw.1 hc_24
              exact zj_word_51 g post r_2 S_1 ⟨hx, hb, hml, hown, hts, hr, hlk⟩ hw hI (lv_sub hl [1, 0] rfl)
            · have hw := hw.2 hc_24
              refine lv_aload_n hx hb dX5_word_41 rfl (lv_at hl 1 rfl) ?_
              refine lv_aload_n hx hb dX5_word_42 rfl (lv_at hl 1 rfl) ?_
              refine zt_get hx hb hts hown hI 11 (v := .int (S_1 0 11)) (by decide) q3643 rfl rfl dX5_word_43 ?_
              refine zt_put hx hb hts hown hI 12 (v := S_1 0 11) (ty := .int) (by decide) q3644 rfl rfl (by decide +kernel) rfl rfl rfl dX5_word_46 (fun H locs hI => ?_)
              obtain ⟨S_25, eS_25⟩ : ∃ z, z = zt_us S_1 0 12 (S_1 0 11) := ⟨_, rfl⟩
              rw [← eS_25] at hI
              have hw := hw S_25 eS_25
              refine lv_iload_n hx hb dX5_word_49 rfl (lv_at hl 0 rfl) ?_
              exact zt_iret hx hb hr hlk hI hw dX5_word_50
theorem hdT_word : yX5_word.cls = RX5 ∧ yX5_word.cls ≠ "java/lang/invoke/MethodHandle" ∧ yX5_word.cls ≠ "java/lang/invoke/VarHandle" ∧ (parseMethodDescriptor yX5_word.desc).map (fun d => d.parameters.length) = some 0 := by decide +kernel
def zw_number (S : zt_S) (post : Int32 → zt_S → Prop) : Prop :=
  zw_takes (32 : Int32) S (fun (S_1 : zt_S) => (S_1 0 12 < (0 : Int32) → (zw_sign S_1 (fun (r_4 : Int32) (S_3 : zt_S) => zw_in r_4 (48 : Int32) (57 : Int32) (fun (r_5 : Int32) => (¬ r_5 = (0 : Int32) → (∃ (In_7 : Int32 → Int32 → zt_S → Prop) (mu_7 : Int32 → Int32 → zt_S → Nat), In_7 (0 : Int32) (0 : Int32) S_3 ∧ ∀ (x1_7 : Int32) (x2_7 : Int32) (S_7 : zt_S), In_7 x1_7 x2_7 S_7 → (((2 : Int32) ≤ x2_7 → (post x1_7 S_7)) ∧ (¬ (2 : Int32) ≤ x2_7 → (zw_sign S_7 (fun (r_10 : Int32) (S_9 : zt_S) => zw_in r_10 (48 : Int32) (57 : Int32) (fun (r_11 : Int32) => (r_11 = (0 : Int32) → (post x1_7 S_9)) ∧ (¬ r_11 = (0 : Int32) → (zw_sign S_9 (fun (r_14 : Int32) (S_13 : zt_S) => ∀ x_15 : Int32, x_15 = (((10 : Int32) * x1_7) + r_14) - (48 : Int32) → (∀ S_16 : zt_S, S_16 = zt_us S_13 0 11 ((S_13 0 11) + (1 : Int32)) → (In_7 x_15 (x2_7 + (1 : Int32)) S_16 ∧ mu_7 x_15 (x2_7 + (1 : Int32)) S_16 < mu_7 x1_7 x2_7 S_7)))))))))))) ∧ (r_5 = (0 : Int32) → (∀ S_17 : zt_S, S_17 = zt_us S_3 0 12 (S_3 0 11) → (post (0 : Int32) S_17))))))) ∧ (¬ S_1 0 12 < (0 : Int32) → (post (0 : Int32) S_1)))
set_option maxHeartbeats 4000000 in
theorem zm_number (l : Launch) (g : zt_G) (S : zt_S) (post : Int32 → zt_S → Prop) (hw : zw_number S post) : Met l yX5_number (ws_ yX5_number cX5_number 3 (some .int)) ({ frames := 2, cells := 0, slots := 0, locals := 41 } : Room) (va_Pc (.ref g.2.1 :: []) (zt_B g S)) (va_Qi post (zt_B g) (zt_A g)) 0 0 (zt_A g) := by
  refine zt_met (by decide) rfl (Nat.le_of_ble_eq_true rfl) (fun p e s m below meth c ls hC hI hl => ?_)
  generalize (Value.ref g.2.1 :: ([] : List Value)).toArray = args at hC ⊢
  obtain ⟨hx, hb, hml, hown, hts, hr, hlk⟩ := hC
  have hl : lv_has ls 3 [(0, .ref g.2.1)] := hl
  unfold zw_number at hw
  obtain ⟨H, eH⟩ : ∃ z, z = s.heap := ⟨_, rfl⟩
  obtain ⟨locs, elo⟩ : ∃ z : List Loc, z = [] := ⟨_, rfl⟩
  rw [← eH, ← elo] at hI ⊢
  refine lv_aload_n hx hb dX5_number_0 rfl (lv_at hl 0 rfl) ?_
  refine lv_bipush (v := 32) hx hb dX5_number_1 (by decide) ?_
  refine zt_callv (As := [.int (32 : Int32)]) (rest := []) ⟨hx, hb, hml, hown, hts⟩ hI (zm_takes l g (32 : Int32) S _ hw) (cwV 1 hts (lw_V q4079 q4081 qs96 q113 q4082) rfl rfl rfl hdT_takes ⟨Nat.le_of_ble_eq_true rfl, Nat.le_of_ble_eq_true rfl⟩) rfl hl.1 rfl (lv_room (Nat.le_of_ble_eq_true rfl)) dX5_number_3 ⟨Nat.le_refl _, Nat.le_refl _⟩ (fun S_1 H locs hw hI => ?_)
  refine lv_aload_n hx hb dX5_number_6 rfl (lv_at hl 0 rfl) ?_
  refine zt_get hx hb hts hown hI 12 (v := .int (S_1 0 12)) (by decide) q3644 rfl rfl dX5_number_7 ?_
  refine lv_if_lt (tgt := 15) hx hb dX5_number_10 (by decide) (fun hc_2 => ?_) (fun hc_2 => ?_)
  · have hw := hw.1 hc_2
    refine lv_aload_n hx hb dX5_number_15 rfl (lv_at hl 0 rfl) ?_
    refine zt_calli (As := []) (rest := []) ⟨hx, hb, hml, hown, hts⟩ hI (zm_sign l g S_1 _ hw) (cwV 0 hts (lw_V q4071 q4073 qs94 q113 q4074) rfl rfl rfl hdT_sign ⟨Nat.le_of_ble_eq_true rfl, Nat.le_of_ble_eq_true rfl⟩) rfl hl.1 rfl (lv_room (Nat.le_of_ble_eq_true rfl)) dX5_number_16 ⟨Nat.le_refl _, Nat.le_refl _⟩ (fun r_4 S_3 H locs hw hI => ?_)
    refine lv_bipush (v := 48) hx hb dX5_number_19 (by decide) ?_
    refine lv_bipush (v := 57) hx hb dX5_number_21 (by decide) ?_
    refine zt_callS (As := [.int r_4, .int (48 : Int32), .int (57 : Int32)]) (rest := []) ⟨hx, hb, hml, hown, hts⟩ (zm_in l r_4 (48 : Int32) (57 : Int32) _ hw) (va_cwS 3 hts (lw_S q3693 q3694 q113 q3695) rfl rfl rfl hdT_in ⟨Nat.le_of_ble_eq_true rfl, Nat.le_of_ble_eq_true rfl⟩) rfl hl.1 rfl (lv_room (Nat.le_of_ble_eq_true rfl)) dX5_number_23 ⟨Nat.le_refl _, Nat.le_refl _⟩ (fun r_5 hw => ?_)
    refine lv_if_ne (tgt := 39) hx hb dX5_number_26 (by decide) (fun hc_6 => ?_) (fun hc_6 => ?_)
    · have hw := hw.1 hc_6
      refine lv_iconst (v := 0) hx hb dX5_number_39 (by decide) ?_
      refine lv_istore_n (lv' := [(1, .int (0 : Int32)), (0, .ref g.2.1)]) hx hb dX5_number_40 rfl hl (by decide) rfl (fun ls hl => ?_)
      refine lv_iconst (v := 0) hx hb dX5_number_41 (by decide) ?_
      refine lv_istore_n (lv' := [(2, .int (0 : Int32)), (1, .int (0 : Int32)), (0, .ref g.2.1)]) hx hb dX5_number_42 rfl hl (by decide) rfl (fun ls hl => ?_)
      obtain ⟨In_7, mu_7, h0_7, hw⟩ := hw
      have hL_7 : ∀ (n : Nat) (x1_7 : Int32) (x2_7 : Int32) (S_7 : zt_S) (H : Heap) (locs : List Loc) (ls : Array Slot), mu_7 x1_7 x2_7 S_7 < n → In_7 x1_7 x2_7 S_7 → zt_I g S_7 s H locs → lv_has ls 3 [(0, .ref g.2.1), (1, .int x1_7), (2, .int x2_7)] → W p l e ({ frames := 2, cells := 0, slots := 0, locals := 41 } : Room) s m args below meth c H locs 0 0 (MQ below (va_Qi post (zt_B g) (zt_A g)) args s 0 0 (zt_A g)) (F0 m 43 ls []) := by
        intro n
        induction n with
        | zero => intro x1_7 x2_7 S_7 H locs ls hn _ _ _; exact absurd hn (Nat.not_lt_zero _)
        | succ n ih_7 =>
          intro x1_7 x2_7 S_7 H locs ls hn_7 hi_7 hI hl
          have hw := hw x1_7 x2_7 S_7 hi_7
          refine lv_iload_n hx hb dX5_number_43 rfl (lv_at hl 2 rfl) ?_
          refine lv_iconst (v := 2) hx hb dX5_number_44 (by decide) ?_
          refine lv_icmp_ge (tgt := 91) hx hb dX5_number_45 (by decide) (fun hc_8 => ?_) (fun hc_8 => ?_)
          · have hw := hw.1 hc_8
            refine lv_iload_n hx hb dX5_number_91 rfl (lv_at hl 1 rfl) ?_
            exact zt_iret hx hb hr hlk hI hw dX5_number_92
          · have hw := hw.2 hc_8
            refine lv_aload_n hx hb dX5_number_48 rfl (lv_at hl 0 rfl) ?_
            refine zt_calli (As := []) (rest := []) ⟨hx, hb, hml, hown, hts⟩ hI (zm_sign l g S_7 _ hw) (cwV 0 hts (lw_V q4071 q4073 qs94 q113 q4074) rfl rfl rfl hdT_sign ⟨Nat.le_of_ble_eq_true rfl, Nat.le_of_ble_eq_true rfl⟩) rfl hl.1 rfl (lv_room (Nat.le_of_ble_eq_true rfl)) dX5_number_49 ⟨Nat.le_refl _, Nat.le_refl _⟩ (fun r_10 S_9 H locs hw hI => ?_)
            refine lv_bipush (v := 48) hx hb dX5_number_52 (by decide) ?_
            refine lv_bipush (v := 57) hx hb dX5_number_54 (by decide) ?_
            refine zt_callS (As := [.int r_10, .int (48 : Int32), .int (57 : Int32)]) (rest := []) ⟨hx, hb, hml, hown, hts⟩ (zm_in l r_10 (48 : Int32) (57 : Int32) _ hw) (va_cwS 3 hts (lw_S q3693 q3694 q113 q3695) rfl rfl rfl hdT_in ⟨Nat.le_of_ble_eq_true rfl, Nat.le_of_ble_eq_true rfl⟩) rfl hl.1 rfl (lv_room (Nat.le_of_ble_eq_true rfl)) dX5_number_56 ⟨Nat.le_refl _, Nat.le_refl _⟩ (fun r_11 hw => ?_)
            refine lv_if_eq (tgt := 91) hx hb dX5_number_59 (by decide) (fun hc_12 => ?_) (fun hc_12 => ?_)
            · have hw := hw.1 hc_12
              refine lv_iload_n hx hb dX5_number_91 rfl (lv_at hl 1 rfl) ?_
              exact zt_iret hx hb hr hlk hI hw dX5_number_92
            · have hw := hw.2 hc_12
              refine lv_bipush (v := 10) hx hb dX5_number_62 (by decide) ?_
              refine lv_iload_n hx hb dX5_number_64 rfl (lv_at hl 1 rfl) ?_
              refine lv_imul hx hb dX5_number_65 ?_
              refine lv_aload_n hx hb dX5_number_66 rfl (lv_at hl 0 rfl) ?_
              refine zt_calli (As := []) (rest := [.int ((10 : Int32) * x1_7)]) ⟨hx, hb, hml, hown, hts⟩ hI (zm_sign l g S_9 _ hw) (cwV 0 hts (lw_V q4071 q4073 qs94 q113 q4074) rfl rfl rfl hdT_sign ⟨Nat.le_of_ble_eq_true rfl, Nat.le_of_ble_eq_true rfl⟩) rfl hl.1 rfl (lv_room (Nat.le_of_ble_eq_true rfl)) dX5_number_67 ⟨Nat.le_refl _, Nat.le_refl _⟩ (fun r_14 S_13 H locs hw hI => ?_)
              refine lv_iadd hx hb dX5_number_70 ?_
              refine lv_bipush (v := 48) hx hb dX5_number_71 (by decide) ?_
              refine lv_isub hx hb dX5_number_73 ?_
              refine lv_topi (fun x_15 ex_15 => ?_)
              have hw := hw x_15 ex_15
              refine lv_istore_n (lv' := [(1, .int x_15), (0, .ref g.2.1), (2, .int x2_7)]) hx hb dX5_number_74 rfl hl (by decide) rfl (fun ls hl => ?_)
              refine lv_aload_n hx hb dX5_number_75 rfl (lv_at hl 1 rfl) ?_
              refine lv_dup hx hb dX5_number_76 rfl ?_
              refine zt_get hx hb hts hown hI 11 (v := .int (S_13 0 11)) (by decide) q3643 rfl rfl dX5_number_77 ?_
              refine lv_iconst (v := 1) hx hb dX5_number_80 (by decide) ?_
              refine lv_iadd hx hb dX5_number_81 ?_
              refine zt_put hx hb hts hown hI 11 (v := (S_13 0 11) + (1 : Int32)) (ty := .int) (by decide) q3643 rfl rfl (by decide +kernel) rfl rfl rfl dX5_number_82 (fun H locs hI => ?_)
              obtain ⟨S_16, eS_16⟩ : ∃ z, z = zt_us S_13 0 11 ((S_13 0 11) + (1 : Int32)) := ⟨_, rfl⟩
              rw [← eS_16] at hI
              have hw := hw S_16 eS_16
              refine lv_iinc (v := x2_7 + (1 : Int32)) (lv' := [(2, .int (x2_7 + (1 : Int32))), (1, .int x_15), (0, .ref g.2.1)]) hx hb dX5_number_85 hl (k := 2) rfl rfl (by decide) rfl (fun ls hl => ?_)
              refine lv_goto (tgt := 43) hx hb dX5_number_88 (by decide) ?_
              exact ih_7 _ _ _ H locs ls (Nat.lt_of_lt_of_le hw.2 (Nat.le_of_lt_succ hn_7)) hw.1 hI (lv_sub hl [2, 1, 0] rfl)
      exact hL_7 _ _ _ _ H locs ls (Nat.lt_succ_self _) h0_7 hI (lv_sub hl [2, 1, 0] rfl)
    · have hw := hw.2 hc_6
      refine lv_aload_n hx hb dX5_number_29 rfl (lv_at hl 0 rfl) ?_
      refine lv_aload_n hx hb dX5_number_30 rfl (lv_at hl 0 rfl) ?_
      refine zt_get hx hb hts hown hI 11 (v := .int (S_3 0 11)) (by decide) q3643 rfl rfl dX5_number_31 ?_
      refine zt_put hx hb hts hown hI 12 (v := S_3 0 11) (ty := .int) (by decide) q3644 rfl rfl (by decide +kernel) rfl rfl rfl dX5_number_34 (fun H locs hI => ?_)
      obtain ⟨S_17, eS_17⟩ : ∃ z, z = zt_us S_3 0 12 (S_3 0 11) := ⟨_, rfl⟩
      rw [← eS_17] at hI
      have hw := hw S_17 eS_17
      refine lv_iconst (v := 0) hx hb dX5_number_37 (by decide) ?_
      exact zt_iret hx hb hr hlk hI hw dX5_number_38
  · have hw := hw.2 hc_2
    refine lv_iconst (v := 0) hx hb dX5_number_13 (by decide) ?_
    exact zt_iret hx hb hr hlk hI hw dX5_number_14
theorem hdT_number : yX5_number.cls = RX5 ∧ yX5_number.cls ≠ "java/lang/invoke/MethodHandle" ∧ yX5_number.cls ≠ "java/lang/invoke/VarHandle" ∧ (parseMethodDescriptor yX5_number.desc).map (fun d => d.parameters.length) = some 0 := by decide +kernel
def zw_command_68 (post : zt_S → Prop) (t0 : Int32) (t1 : Int32) (v1 : Int32) (v2 : Int32) (S : zt_S) : Prop :=
  vp_in t1 244 ∧ ∀ S_9 : zt_S, S_9 = zt_us S 4 t1.toNatClampNeg t0 → ((¬ v2 = (103 : Int32) → (vp_in (v1 + (3 : Int32)) 244 ∧ ∀ S_11 : zt_S, S_11 = zt_us S_9 4 (v1 + (3 : Int32)).toNatClampNeg (0 : Int32) → (post S_11))) ∧ (v2 = (103 : Int32) → (zw_number S_9 (fun (r_13 : Int32) (S_12 : zt_S) => vp_in (v1 + (3 : Int32)) 244 ∧ ∀ S_14 : zt_S, S_14 = zt_us S_12 4 (v1 + (3 : Int32)).toNatClampNeg r_13 → (post S_14)))))
set_option maxHeartbeats 4000000 in
theorem zj_command_68 {p : Program} {l : Launch} {e : Env} {s : State} {m : MethodId} {args : Array Value} {below : List Frame} {meth : Method} {c : Code} {H : Heap} {locs : List Loc} {ls : Array Slot} (g : zt_G) (post : zt_S → Prop) (t0 : Int32) (t1 : Int32) (v1 : Int32) (v2 : Int32) (S : zt_S) (hC : zt_C p s m args meth c cX5_command 3 none) (hw : zw_command_68 post t0 t1 v1 v2 S) (hI : zt_I g S s H locs) (hl : lv_has ls 3 [(0, .ref g.2.1), (1, .int v1), (2, .int v2)]) : W p l e ({ frames := 4, cells := 0, slots := 0, locals := 85 } : Room) s m args below meth c H locs 0 0 (MQ below (va_Qv post (zt_B g) (zt_A g)) args s 0 0 (zt_A g)) (F0 m 68 ls [.int t0, .int t1, .ref g.2.2.2.2.2]) := by
  obtain ⟨hx, hb, hml, hown, hts, hr, hlk⟩ := hC
  unfold zw_command_68 at hw
  refine zt_st4 hx hb hI hw.1 dX5_command_68 (fun H locs hI => ?_)
  obtain ⟨S_9, eS_9⟩ : ∃ z, z = zt_us S 4 t1.toNatClampNeg t0 := ⟨_, rfl⟩
  rw [← eS_9] at hI
  have hw := hw.2 S_9 eS_9
  refine lv_aload_n hx hb dX5_command_69 rfl (lv_at hl 0 rfl) ?_
  refine zt_get hx hb hts hown hI 14 (v := .ref g.2.2.2.2.2) (by decide) q3646 rfl rfl dX5_command_70 ?_
  refine lv_iload_n hx hb dX5_command_73 rfl (lv_at hl 1 rfl) ?_
  refine lv_iconst (v := 3) hx hb dX5_command_74 (by decide) ?_
  refine lv_iadd hx hb dX5_command_75 ?_
  refine lv_iload_n hx hb dX5_command_76 rfl (lv_at hl 2 rfl) ?_
  refine lv_bipush (v := 103) hx hb dX5_command_77 (by decide) ?_
  refine lv_icmp_ne (tgt := 89) hx hb dX5_command_79 (by decide) (fun hc_10 => ?_) (fun hc_10 => ?_)
  · have hw := hw.1 hc_10
    refine lv_iconst (v := 0) hx hb dX5_command_89 (by decide) ?_
    refine zt_st4 hx hb hI hw.1 dX5_command_90 (fun H locs hI => ?_)
    obtain ⟨S_11, eS_11⟩ : ∃ z, z = zt_us S_9 4 (v1 + (3 : Int32)).toNatClampNeg (0 : Int32) := ⟨_, rfl⟩
    rw [← eS_11] at hI
    have hw := hw.2 S_11 eS_11
    exact zt_vret hx hb hr hlk hI hw dX5_command_91
  · have hw := hw.2 hc_10
    refine lv_aload_n hx hb dX5_command_82 rfl (lv_at hl 0 rfl) ?_
    refine zt_calli (As := []) (rest := [.int (v1 + (3 : Int32)), .ref g.2.2.2.2.2]) ⟨hx, hb, hml, hown, hts⟩ hI (zm_number l g S_9 _ hw) (cwV 0 hts (lw_V q4083 q4085 qs97 q113 q4086) rfl rfl rfl hdT_number ⟨Nat.le_of_ble_eq_true rfl, Nat.le_of_ble_eq_true rfl⟩) rfl hl.1 rfl (lv_room (Nat.le_of_ble_eq_true rfl)) dX5_command_83 ⟨Nat.le_refl _, Nat.le_refl _⟩ (fun r_13 S_12 H locs hw hI => ?_)
    refine lv_goto (tgt := 90) hx hb dX5_command_86 (by decide) ?_
    refine zt_st4 hx hb hI hw.1 dX5_command_90 (fun H locs hI => ?_)
    obtain ⟨S_14, eS_14⟩ : ∃ z, z = zt_us S_12 4 (v1 + (3 : Int32)).toNatClampNeg r_13 := ⟨_, rfl⟩
    rw [← eS_14] at hI
    have hw := hw.2 S_14 eS_14
    exact zt_vret hx hb hr hlk hI hw dX5_command_91
def zw_command_60 (post : zt_S → Prop) (t0 : Int32) (v1 : Int32) (v2 : Int32) (S : zt_S) : Prop :=
  zw_command_68 post (0 : Int32) t0 v1 v2 S
set_option maxHeartbeats 4000000 in
theorem zj_command_60 {p : Program} {l : Launch} {e : Env} {s : State} {m : MethodId} {args : Array Value} {below : List Frame} {meth : Method} {c : Code} {H : Heap} {locs : List Loc} {ls : Array Slot} (g : zt_G) (post : zt_S → Prop) (t0 : Int32) (v1 : Int32) (v2 : Int32) (S : zt_S) (hC : zt_C p s m args meth c cX5_command 3 none) (hw : zw_command_60 post t0 v1 v2 S) (hI : zt_I g S s H locs) (hl : lv_has ls 3 [(0, .ref g.2.1), (1, .int v1), (2, .int v2)]) : W p l e ({ frames := 4, cells := 0, slots := 0, locals := 85 } : Room) s m args below meth c H locs 0 0 (MQ below (va_Qv post (zt_B g) (zt_A g)) args s 0 0 (zt_A g)) (F0 m 60 ls [.int t0, .ref g.2.2.2.2.2]) := by
  obtain ⟨hx, hb, hml, hown, hts, hr, hlk⟩ := hC
  unfold zw_command_60 at hw
  refine lv_iconst (v := 0) hx hb dX5_command_60 (by decide) ?_
  refine lv_goto (tgt := 68) hx hb dX5_command_61 (by decide) ?_
  exact zj_command_68 g post (0 : Int32) t0 v1 v2 S ⟨hx, hb, hml, hown, hts, hr, hlk⟩ hw hI (lv_sub hl [0, 1, 2] rfl)
def zw_command (S : zt_S) (post : zt_S → Prop) : Prop :=
  ∀ S_1 : zt_S, S_1 = zt_us S 0 15 ((S 0 15) + (1 : Int32)) → (zw_word S_1 (fun (r_3 : Int32) (S_2 : zt_S) => vp_in ((4 : Int32) * (S 0 15)) 244 ∧ ∀ S_4 : zt_S, S_4 = zt_us S_2 4 ((4 : Int32) * (S 0 15)).toNatClampNeg r_3 → (zw_number S_4 (fun (r_6 : Int32) (S_5 : zt_S) => vp_in (((4 : Int32) * (S 0 15)) + (1 : Int32)) 244 ∧ ∀ S_7 : zt_S, S_7 = zt_us S_5 4 (((4 : Int32) * (S 0 15)) + (1 : Int32)).toNatClampNeg r_6 → ((r_3 = (115 : Int32) → (zw_command_60 post (((4 : Int32) * (S 0 15)) + (2 : Int32)) ((4 : Int32) * (S 0 15)) r_3 S_7)) ∧ (¬ r_3 = (115 : Int32) → ((¬ r_3 = (100 : Int32) → (zw_number S_7 (fun (r_17 : Int32) (S_16 : zt_S) => zw_command_68 post r_17 (((4 : Int32) * (S 0 15)) + (2 : Int32)) ((4 : Int32) * (S 0 15)) r_3 S_16))) ∧ (r_3 = (100 : Int32) → (zw_command_60 post (((4 : Int32) * (S 0 15)) + (2 : Int32)) ((4 : Int32) * (S 0 15)) r_3 S_7)))))))))
set_option maxHeartbeats 4000000 in
theorem zm_command (l : Launch) (g : zt_G) (S : zt_S) (post : zt_S → Prop) (hw : zw_command S post) : Met l yX5_command (ws_ yX5_command cX5_command 3 none) ({ frames := 4, cells := 0, slots := 0, locals := 85 } : Room) (va_Pc (.ref g.2.1 :: []) (zt_B g S)) (va_Qv post (zt_B g) (zt_A g)) 0 0 (zt_A g) := by
  refine zt_met (by decide) rfl (Nat.le_of_ble_eq_true rfl) (fun p e s m below meth c ls hC hI hl => ?_)
  generalize (Value.ref g.2.1 :: ([] : List Value)).toArray = args at hC ⊢
  obtain ⟨hx, hb, hml, hown, hts, hr, hlk⟩ := hC
  have hl : lv_has ls 3 [(0, .ref g.2.1)] := hl
  unfold zw_command at hw
  obtain ⟨H, eH⟩ : ∃ z, z = s.heap := ⟨_, rfl⟩
  obtain ⟨locs, elo⟩ : ∃ z : List Loc, z = [] := ⟨_, rfl⟩
  rw [← eH, ← elo] at hI ⊢
  refine lv_iconst (v := 4) hx hb dX5_command_0 (by decide) ?_
  refine lv_aload_n hx hb dX5_command_1 rfl (lv_at hl 0 rfl) ?_
  refine zt_get hx hb hts hown hI 15 (v := .int (S 0 15)) (by decide) q3647 rfl rfl dX5_command_2 ?_
  refine lv_imul hx hb dX5_command_5 ?_
  refine lv_istore_n (lv' := [(1, .int ((4 : Int32) * (S 0 15))), (0, .ref g.2.1)]) hx hb dX5_command_6 rfl hl (by decide) rfl (fun ls hl => ?_)
  refine lv_aload_n hx hb dX5_command_7 rfl (lv_at hl 1 rfl) ?_
  refine lv_dup hx hb dX5_command_8 rfl ?_
  refine zt_get hx hb hts hown hI 15 (v := .int (S 0 15)) (by decide) q3647 rfl rfl dX5_command_9 ?_
  refine lv_iconst (v := 1) hx hb dX5_command_12 (by decide) ?_
  refine lv_iadd hx hb dX5_command_13 ?_
  refine zt_put hx hb hts hown hI 15 (v := (S 0 15) + (1 : Int32)) (ty := .int) (by decide) q3647 rfl rfl (by decide +kernel) rfl rfl rfl dX5_command_14 (fun H locs hI => ?_)
  obtain ⟨S_1, eS_1⟩ : ∃ z, z = zt_us S 0 15 ((S 0 15) + (1 : Int32)) := ⟨_, rfl⟩
  rw [← eS_1] at hI
  have hw := hw S_1 eS_1
  refine lv_aload_n hx hb dX5_command_17 rfl (lv_at hl 1 rfl) ?_
  refine zt_calli (As := []) (rest := []) ⟨hx, hb, hml, hown, hts⟩ hI (zm_word l g S_1 _ hw) (cwV 0 hts (lw_V q4067 q4069 qs93 q113 q4070) rfl rfl rfl hdT_word ⟨Nat.le_of_ble_eq_true rfl, Nat.le_of_ble_eq_true rfl⟩) rfl hl.1 rfl (lv_room (Nat.le_of_ble_eq_true rfl)) dX5_command_18 ⟨Nat.le_refl _, Nat.le_refl _⟩ (fun r_3 S_2 H locs hw hI => ?_)
  refine lv_istore_n (lv' := [(2, .int r_3), (1, .int ((4 : Int32) * (S 0 15))), (0, .ref g.2.1)]) hx hb dX5_command_21 rfl hl (by decide) rfl (fun ls hl => ?_)
  refine lv_aload_n hx hb dX5_command_22 rfl (lv_at hl 2 rfl) ?_
  refine zt_get hx hb hts hown hI 14 (v := .ref g.2.2.2.2.2) (by decide) q3646 rfl rfl dX5_command_23 ?_
  refine lv_iload_n hx hb dX5_command_26 rfl (lv_at hl 1 rfl) ?_
  refine lv_iload_n hx hb dX5_command_27 rfl (lv_at hl 0 rfl) ?_
  refine zt_st4 hx hb hI hw.1 dX5_command_28 (fun H locs hI => ?_)
  obtain ⟨S_4, eS_4⟩ : ∃ z, z = zt_us S_2 4 ((4 : Int32) * (S 0 15)).toNatClampNeg r_3 := ⟨_, rfl⟩
  rw [← eS_4] at hI
  have hw := hw.2 S_4 eS_4
  refine lv_aload_n hx hb dX5_command_29 rfl (lv_at hl 2 rfl) ?_
  refine zt_get hx hb hts hown hI 14 (v := .ref g.2.2.2.2.2) (by decide) q3646 rfl rfl dX5_command_30 ?_
  refine lv_iload_n hx hb dX5_command_33 rfl (lv_at hl 1 rfl) ?_
  refine lv_iconst (v := 1) hx hb dX5_command_34 (by decide) ?_
  refine lv_iadd hx hb dX5_command_35 ?_
  refine lv_aload_n hx hb dX5_command_36 rfl (lv_at hl 2 rfl) ?_
  refine zt_calli (As := []) (rest := [.int (((4 : Int32) * (S 0 15)) + (1 : Int32)), .ref g.2.2.2.2.2]) ⟨hx, hb, hml, hown, hts⟩ hI (zm_number l g S_4 _ hw) (cwV 0 hts (lw_V q4083 q4085 qs97 q113 q4086) rfl rfl rfl hdT_number ⟨Nat.le_of_ble_eq_true rfl, Nat.le_of_ble_eq_true rfl⟩) rfl hl.1 rfl (lv_room (Nat.le_of_ble_eq_true rfl)) dX5_command_37 ⟨Nat.le_refl _, Nat.le_refl _⟩ (fun r_6 S_5 H locs hw hI => ?_)
  refine zt_st4 hx hb hI hw.1 dX5_command_40 (fun H locs hI => ?_)
  obtain ⟨S_7, eS_7⟩ : ∃ z, z = zt_us S_5 4 (((4 : Int32) * (S 0 15)) + (1 : Int32)).toNatClampNeg r_6 := ⟨_, rfl⟩
  rw [← eS_7] at hI
  have hw := hw.2 S_7 eS_7
  refine lv_aload_n hx hb dX5_command_41 rfl (lv_at hl 2 rfl) ?_
  refine zt_get hx hb hts hown hI 14 (v := .ref g.2.2.2.2.2) (by decide) q3646 rfl rfl dX5_command_42 ?_
  refine lv_iload_n hx hb dX5_command_45 rfl (lv_at hl 1 rfl) ?_
  refine lv_iconst (v := 2) hx hb dX5_command_46 (by decide) ?_
  refine lv_iadd hx hb dX5_command_47 ?_
  refine lv_iload_n hx hb dX5_command_48 rfl (lv_at hl 0 rfl) ?_
  refine lv_bipush (v := 115) hx hb dX5_command_49 (by decide) ?_
  refine lv_icmp_eq (tgt := 60) hx hb dX5_command_51 (by decide) (fun hc_8 => ?_) (fun hc_8 => ?_)
  · have hw := hw.1 hc_8
    exact zj_command_60 g post (((4 : Int32) * (S 0 15)) + (2 : Int32)) ((4 : Int32) * (S 0 15)) r_3 S_7 ⟨hx, hb, hml, hown, hts, hr, hlk⟩ hw hI (lv_sub hl [2, 1, 0] rfl)
  · have hw := hw.2 hc_8
    refine lv_iload_n hx hb dX5_command_54 rfl (lv_at hl 0 rfl) ?_
    refine lv_bipush (v := 100) hx hb dX5_command_55 (by decide) ?_
    refine lv_icmp_ne (tgt := 64) hx hb dX5_command_57 (by decide) (fun hc_15 => ?_) (fun hc_15 => ?_)
    · have hw := hw.1 hc_15
      refine lv_aload_n hx hb dX5_command_64 rfl (lv_at hl 2 rfl) ?_
      refine zt_calli (As := []) (rest := [.int (((4 : Int32) * (S 0 15)) + (2 : Int32)), .ref g.2.2.2.2.2]) ⟨hx, hb, hml, hown, hts⟩ hI (zm_number l g S_7 _ hw) (cwV 0 hts (lw_V q4083 q4085 qs97 q113 q4086) rfl rfl rfl hdT_number ⟨Nat.le_of_ble_eq_true rfl, Nat.le_of_ble_eq_true rfl⟩) rfl hl.1 rfl (lv_room (Nat.le_of_ble_eq_true rfl)) dX5_command_65 ⟨Nat.le_refl _, Nat.le_refl _⟩ (fun r_17 S_16 H locs hw hI => ?_)
      exact zj_command_68 g post r_17 (((4 : Int32) * (S 0 15)) + (2 : Int32)) ((4 : Int32) * (S 0 15)) r_3 S_16 ⟨hx, hb, hml, hown, hts, hr, hlk⟩ hw hI (lv_sub hl [2, 1, 0] rfl)
    · have hw := hw.2 hc_15
      exact zj_command_60 g post (((4 : Int32) * (S 0 15)) + (2 : Int32)) ((4 : Int32) * (S 0 15)) r_3 S_7 ⟨hx, hb, hml, hown, hts, hr, hlk⟩ hw hI (lv_sub hl [2, 1, 0] rfl)
theorem hdT_command : yX5_command.cls = RX5 ∧ yX5_command.cls ≠ "java/lang/invoke/MethodHandle" ∧ yX5_command.cls ≠ "java/lang/invoke/VarHandle" ∧ (parseMethodDescriptor yX5_command.desc).map (fun d => d.parameters.length) = some 0 := by decide +kernel
def zw_parse_52 (post : zt_S → Prop) (S : zt_S) : Prop :=
  ((0 : Int32) ≤ S 0 12 → (post S)) ∧ (¬ (0 : Int32) ≤ S 0 12 → ((S 0 10 ≤ S 0 11 → (post S)) ∧ (¬ S 0 10 ≤ S 0 11 → (∀ S_9 : zt_S, S_9 = zt_us S 0 12 (S 0 11) → (post S_9)))))
set_option maxHeartbeats 4000000 in
theorem zj_parse_52 {p : Program} {l : Launch} {e : Env} {s : State} {m : MethodId} {args : Array Value} {below : List Frame} {meth : Method} {c : Code} {H : Heap} {locs : List Loc} {ls : Array Slot} (g : zt_G) (post : zt_S → Prop) (S : zt_S) (hC : zt_C p s m args meth c cX5_parse 1 none) (hw : zw_parse_52 post S) (hI : zt_I g S s H locs) (hl : lv_has ls 1 [(0, .ref g.2.1)]) : W p l e ({ frames := 5, cells := 0, slots := 0, locals := 107 } : Room) s m args below meth c H locs 0 0 (MQ below (va_Qv post (zt_B g) (zt_A g)) args s 0 0 (zt_A g)) (F0 m 52 ls []) := by
  obtain ⟨hx, hb, hml, hown, hts, hr, hlk⟩ := hC
  unfold zw_parse_52 at hw
  refine lv_aload_n hx hb dX5_parse_52 rfl (lv_at hl 0 rfl) ?_
  refine zt_get hx hb hts hown hI 12 (v := .int (S 0 12)) (by decide) q3644 rfl rfl dX5_parse_53 ?_
  refine lv_if_ge (tgt := 78) hx hb dX5_parse_56 (by decide) (fun hc_7 => ?_) (fun hc_7 => ?_)
  · have hw := hw.1 hc_7
    exact zt_vret hx hb hr hlk hI hw dX5_parse_78
  · have hw := hw.2 hc_7
    refine lv_aload_n hx hb dX5_parse_59 rfl (lv_at hl 0 rfl) ?_
    refine zt_get hx hb hts hown hI 11 (v := .int (S 0 11)) (by decide) q3643 rfl rfl dX5_parse_60 ?_
    refine lv_aload_n hx hb dX5_parse_63 rfl (lv_at hl 0 rfl) ?_
    refine zt_get hx hb hts hown hI 10 (v := .int (S 0 10)) (by decide) q3642 rfl rfl dX5_parse_64 ?_
    refine lv_icmp_ge (tgt := 78) hx hb dX5_parse_67 (by decide) (fun hc_8 => ?_) (fun hc_8 => ?_)
    · have hw := hw.1 hc_8
      exact zt_vret hx hb hr hlk hI hw dX5_parse_78
    · have hw := hw.2 hc_8
      refine lv_aload_n hx hb dX5_parse_70 rfl (lv_at hl 0 rfl) ?_
      refine lv_aload_n hx hb dX5_parse_71 rfl (lv_at hl 0 rfl) ?_
      refine zt_get hx hb hts hown hI 11 (v := .int (S 0 11)) (by decide) q3643 rfl rfl dX5_parse_72 ?_
      refine zt_put hx hb hts hown hI 12 (v := S 0 11) (ty := .int) (by decide) q3644 rfl rfl (by decide +kernel) rfl rfl rfl dX5_parse_75 (fun H locs hI => ?_)
      obtain ⟨S_9, eS_9⟩ : ∃ z, z = zt_us S 0 12 (S 0 11) := ⟨_, rfl⟩
      rw [← eS_9] at hI
      have hw := hw S_9 eS_9
      exact zt_vret hx hb hr hlk hI hw dX5_parse_78
def zw_parse (S : zt_S) (post : zt_S → Prop) : Prop :=
  ∀ S_1 : zt_S, S_1 = zt_us S 0 11 (0 : Int32) → (∀ S_2 : zt_S, S_2 = zt_us S_1 0 12 (-1 : Int32) → (∀ S_3 : zt_S, S_3 = zt_us S_2 0 15 (0 : Int32) → (zw_command S_3 (fun (S_4 : zt_S) => ∃ (In_5 : zt_S → Prop) (mu_5 : zt_S → Nat), In_5 S_4 ∧ ∀ (S_5 : zt_S), In_5 S_5 → (((0 : Int32) ≤ S_5 0 12 → (zw_parse_52 post S_5)) ∧ (¬ (0 : Int32) ≤ S_5 0 12 → (zw_sign S_5 (fun (r_11 : Int32) (S_10 : zt_S) => (¬ r_11 = (59 : Int32) → (zw_parse_52 post S_10)) ∧ (r_11 = (59 : Int32) → (∀ S_13 : zt_S, S_13 = zt_us S_10 0 11 ((S_10 0 11) + (1 : Int32)) → (zw_command S_13 (fun (S_14 : zt_S) => In_5 S_14 ∧ mu_5 S_14 < mu_5 S_5))))))))))))
set_option maxHeartbeats 4000000 in
theorem zm_parse (l : Launch) (g : zt_G) (S : zt_S) (post : zt_S → Prop) (hw : zw_parse S post) : Met l yX5_parse (ws_ yX5_parse cX5_parse 1 none) ({ frames := 5, cells := 0, slots := 0, locals := 107 } : Room) (va_Pc (.ref g.2.1 :: []) (zt_B g S)) (va_Qv post (zt_B g) (zt_A g)) 0 0 (zt_A g) := by
  refine zt_met (by decide) rfl (Nat.le_of_ble_eq_true rfl) (fun p e s m below meth c ls hC hI hl => ?_)
  generalize (Value.ref g.2.1 :: ([] : List Value)).toArray = args at hC ⊢
  obtain ⟨hx, hb, hml, hown, hts, hr, hlk⟩ := hC
  have hl : lv_has ls 1 [(0, .ref g.2.1)] := hl
  unfold zw_parse at hw
  obtain ⟨H, eH⟩ : ∃ z, z = s.heap := ⟨_, rfl⟩
  obtain ⟨locs, elo⟩ : ∃ z : List Loc, z = [] := ⟨_, rfl⟩
  rw [← eH, ← elo] at hI ⊢
  refine lv_aload_n hx hb dX5_parse_0 rfl (lv_at hl 0 rfl) ?_
  refine lv_iconst (v := 0) hx hb dX5_parse_1 (by decide) ?_
  refine zt_put hx hb hts hown hI 11 (v := (0 : Int32)) (ty := .int) (by decide) q3643 rfl rfl (by decide +kernel) rfl rfl rfl dX5_parse_2 (fun H locs hI => ?_)
  obtain ⟨S_1, eS_1⟩ : ∃ z, z = zt_us S 0 11 (0 : Int32) := ⟨_, rfl⟩
  rw [← eS_1] at hI
  have hw := hw S_1 eS_1
  refine lv_aload_n hx hb dX5_parse_5 rfl (lv_at hl 0 rfl) ?_
  refine lv_iconst (v := -1) hx hb dX5_parse_6 (by decide) ?_
  refine zt_put hx hb hts hown hI 12 (v := (-1 : Int32)) (ty := .int) (by decide) q3644 rfl rfl (by decide +kernel) rfl rfl rfl dX5_parse_7 (fun H locs hI => ?_)
  obtain ⟨S_2, eS_2⟩ : ∃ z, z = zt_us S_1 0 12 (-1 : Int32) := ⟨_, rfl⟩
  rw [← eS_2] at hI
  have hw := hw S_2 eS_2
  refine lv_aload_n hx hb dX5_parse_10 rfl (lv_at hl 0 rfl) ?_
  refine lv_iconst (v := 0) hx hb dX5_parse_11 (by decide) ?_
  refine zt_put hx hb hts hown hI 15 (v := (0 : Int32)) (ty := .int) (by decide) q3647 rfl rfl (by decide +kernel) rfl rfl rfl dX5_parse_12 (fun H locs hI => ?_)
  obtain ⟨S_3, eS_3⟩ : ∃ z, z = zt_us S_2 0 15 (0 : Int32) := ⟨_, rfl⟩
  rw [← eS_3] at hI
  have hw := hw S_3 eS_3
  refine lv_aload_n hx hb dX5_parse_15 rfl (lv_at hl 0 rfl) ?_
  refine zt_callv (As := []) (rest := []) ⟨hx, hb, hml, hown, hts⟩ hI (zm_command l g S_3 _ hw) (cwV 0 hts (lw_V q4063 q4065 qs92 q113 q4066) rfl rfl rfl hdT_command ⟨Nat.le_of_ble_eq_true rfl, Nat.le_of_ble_eq_true rfl⟩) rfl hl.1 rfl (lv_room (Nat.le_of_ble_eq_true rfl)) dX5_parse_16 ⟨Nat.le_refl _, Nat.le_refl _⟩ (fun S_4 H locs hw hI => ?_)
  obtain ⟨In_5, mu_5, h0_5, hw⟩ := hw
  have hL_5 : ∀ (n : Nat) (S_5 : zt_S) (H : Heap) (locs : List Loc) (ls : Array Slot), mu_5 S_5 < n → In_5 S_5 → zt_I g S_5 s H locs → lv_has ls 1 [(0, .ref g.2.1)] → W p l e ({ frames := 5, cells := 0, slots := 0, locals := 107 } : Room) s m args below meth c H locs 0 0 (MQ below (va_Qv post (zt_B g) (zt_A g)) args s 0 0 (zt_A g)) (F0 m 19 ls []) := by
    intro n
    induction n with
    | zero => intro S_5 H locs ls hn _ _ _; exact absurd hn (Nat.not_lt_zero _)
    | succ n ih_5 =>
      intro S_5 H locs ls hn_5 hi_5 hI hl
      have hw := hw S_5 hi_5
      refine lv_aload_n hx hb dX5_parse_19 rfl (lv_at hl 0 rfl) ?_
      refine zt_get hx hb hts hown hI 12 (v := .int (S_5 0 12)) (by decide) q3644 rfl rfl dX5_parse_20 ?_
      refine lv_if_ge (tgt := 52) hx hb dX5_parse_23 (by decide) (fun hc_6 => ?_) (fun hc_6 => ?_)
      · have hw := hw.1 hc_6
        exact zj_parse_52 g post S_5 ⟨hx, hb, hml, hown, hts, hr, hlk⟩ hw hI (lv_sub hl [0] rfl)
      · have hw := hw.2 hc_6
        refine lv_aload_n hx hb dX5_parse_26 rfl (lv_at hl 0 rfl) ?_
        refine zt_calli (As := []) (rest := []) ⟨hx, hb, hml, hown, hts⟩ hI (zm_sign l g S_5 _ hw) (cwV 0 hts (lw_V q4071 q4073 qs94 q113 q4074) rfl rfl rfl hdT_sign ⟨Nat.le_of_ble_eq_true rfl, Nat.le_of_ble_eq_true rfl⟩) rfl hl.1 rfl (lv_room (Nat.le_of_ble_eq_true rfl)) dX5_parse_27 ⟨Nat.le_refl _, Nat.le_refl _⟩ (fun r_11 S_10 H locs hw hI => ?_)
        refine lv_bipush (v := 59) hx hb dX5_parse_30 (by decide) ?_
        refine lv_icmp_ne (tgt := 52) hx hb dX5_parse_32 (by decide) (fun hc_12 => ?_) (fun hc_12 => ?_)
        · have hw := hw.1 hc_12
          exact zj_parse_52 g post S_10 ⟨hx, hb, hml, hown, hts, hr, hlk⟩ hw hI (lv_sub hl [0] rfl)
        · have hw := hw.2 hc_12
          refine lv_aload_n hx hb dX5_parse_35 rfl (lv_at hl 0 rfl) ?_
          refine lv_dup hx hb dX5_parse_36 rfl ?_
          refine zt_get hx hb hts hown hI 11 (v := .int (S_10 0 11)) (by decide) q3643 rfl rfl dX5_parse_37 ?_
          refine lv_iconst (v := 1) hx hb dX5_parse_40 (by decide) ?_
          refine lv_iadd hx hb dX5_parse_41 ?_
          refine zt_put hx hb hts hown hI 11 (v := (S_10 0 11) + (1 : Int32)) (ty := .int) (by decide) q3643 rfl rfl (by decide +kernel) rfl rfl rfl dX5_parse_42 (fun H locs hI => ?_)
          obtain ⟨S_13, eS_13⟩ : ∃ z, z = zt_us S_10 0 11 ((S_10 0 11) + (1 : Int32)) := ⟨_, rfl⟩
          rw [← eS_13] at hI
          have hw := hw S_13 eS_13
          refine lv_aload_n hx hb dX5_parse_45 rfl (lv_at hl 0 rfl) ?_
          refine zt_callv (As := []) (rest := []) ⟨hx, hb, hml, hown, hts⟩ hI (zm_command l g S_13 _ hw) (cwV 0 hts (lw_V q4063 q4065 qs92 q113 q4066) rfl rfl rfl hdT_command ⟨Nat.le_of_ble_eq_true rfl, Nat.le_of_ble_eq_true rfl⟩) rfl hl.1 rfl (lv_room (Nat.le_of_ble_eq_true rfl)) dX5_parse_46 ⟨Nat.le_refl _, Nat.le_refl _⟩ (fun S_14 H locs hw hI => ?_)
          refine lv_goto (tgt := 19) hx hb dX5_parse_49 (by decide) ?_
          exact ih_5 _ H locs ls (Nat.lt_of_lt_of_le hw.2 (Nat.le_of_lt_succ hn_5)) hw.1 hI (lv_sub hl [0] rfl)
  exact hL_5 _ _ H locs ls (Nat.lt_succ_self _) h0_5 hI (lv_sub hl [0] rfl)
theorem hdT_parse : yX5_parse.cls = RX5 ∧ yX5_parse.cls ≠ "java/lang/invoke/MethodHandle" ∧ yX5_parse.cls ≠ "java/lang/invoke/VarHandle" ∧ (parseMethodDescriptor yX5_parse.desc).map (fun d => d.parameters.length) = some 0 := by decide +kernel
def zw_does (p1 : Int32) (S : zt_S) (post : Int32 → zt_S → Prop) : Prop :=
  vp_in (p1 + (1 : Int32)) 244 ∧ (vp_in (p1 + (2 : Int32)) 244 ∧ (vp_in p1 244 ∧ ((S 4 p1.toNatClampNeg = (97 : Int32) → (zw_airs (S 4 (p1 + (1 : Int32)).toNatClampNeg) (S 4 (p1 + (2 : Int32)).toNatClampNeg) S (fun (r_3 : Int32) (S_2 : zt_S) => post r_3 S_2))) ∧ (¬ S 4 p1.toNatClampNeg = (97 : Int32) → ((S 4 p1.toNatClampNeg = (103 : Int32) → (vp_in (p1 + (3 : Int32)) 244 ∧ (zw_gathers (S 4 (p1 + (1 : Int32)).toNatClampNeg) (S 4 (p1 + (2 : Int32)).toNatClampNeg) (S 4 (p1 + (3 : Int32)).toNatClampNeg) S (fun (r_6 : Int32) (S_5 : zt_S) => post r_6 S_5)))) ∧ (¬ S 4 p1.toNatClampNeg = (103 : Int32) → ((S 4 p1.toNatClampNeg = (112 : Int32) → (zw_pushes (S 4 (p1 + (1 : Int32)).toNatClampNeg) (S 4 (p1 + (2 : Int32)).toNatClampNeg) S (fun (r_9 : Int32) (S_8 : zt_S) => post r_9 S_8))) ∧ (¬ S 4 p1.toNatClampNeg = (112 : Int32) → ((S 4 p1.toNatClampNeg = (115 : Int32) → (zw_sends (S 4 (p1 + (1 : Int32)).toNatClampNeg) S (fun (r_12 : Int32) (S_11 : zt_S) => post r_12 S_11))) ∧ (¬ S 4 p1.toNatClampNeg = (115 : Int32) → ((S 4 p1.toNatClampNeg = (116 : Int32) → (zw_setsTraps (S 4 (p1 + (1 : Int32)).toNatClampNeg) (S 4 (p1 + (2 : Int32)).toNatClampNeg) S (fun (r_15 : Int32) (S_14 : zt_S) => post r_15 S_14))) ∧ (¬ S 4 p1.toNatClampNeg = (116 : Int32) → (zw_passes (S 4 (p1 + (1 : Int32)).toNatClampNeg) S (fun (r_17 : Int32) (S_16 : zt_S) => post r_17 S_16))))))))))))))
set_option maxHeartbeats 4000000 in
theorem zm_does (l : Launch) (g : zt_G) (p1 : Int32) (S : zt_S) (post : Int32 → zt_S → Prop) (hw : zw_does p1 S post) : Met l yX5_does (ws_ yX5_does cX5_does 4 (some .int)) ({ frames := 5, cells := 0, slots := 0, locals := 124 } : Room) (va_Pc (.ref g.2.1 :: [.int p1]) (zt_B g S)) (va_Qi post (zt_B g) (zt_A g)) 0 0 (zt_A g) := by
  refine zt_met (by decide) rfl (Nat.le_of_ble_eq_true rfl) (fun p e s m below meth c ls hC hI hl => ?_)
  generalize (Value.ref g.2.1 :: ([.int p1] : List Value)).toArray = args at hC ⊢
  obtain ⟨hx, hb, hml, hown, hts, hr, hlk⟩ := hC
  have hl : lv_has ls 4 [(0, .ref g.2.1), (1, .int p1)] := hl
  unfold zw_does at hw
  obtain ⟨H, eH⟩ : ∃ z, z = s.heap := ⟨_, rfl⟩
  obtain ⟨locs, elo⟩ : ∃ z : List Loc, z = [] := ⟨_, rfl⟩
  rw [← eH, ← elo] at hI ⊢
  refine lv_aload_n hx hb dX5_does_0 rfl (lv_at hl 0 rfl) ?_
  refine zt_get hx hb hts hown hI 14 (v := .ref g.2.2.2.2.2) (by decide) q3646 rfl rfl dX5_does_1 ?_
  refine lv_iload_n hx hb dX5_does_4 rfl (lv_at hl 1 rfl) ?_
  refine lv_iconst (v := 1) hx hb dX5_does_5 (by decide) ?_
  refine lv_iadd hx hb dX5_does_6 ?_
  refine zt_ld4 hx hb hI hw.1 dX5_does_7 ?_
  have hw := hw.2
  refine lv_istore_n (lv' := [(2, .int (S 4 (p1 + (1 : Int32)).toNatClampNeg)), (0, .ref g.2.1), (1, .int p1)]) hx hb dX5_does_8 rfl hl (by decide) rfl (fun ls hl => ?_)
  refine lv_aload_n hx hb dX5_does_9 rfl (lv_at hl 1 rfl) ?_
  refine zt_get hx hb hts hown hI 14 (v := .ref g.2.2.2.2.2) (by decide) q3646 rfl rfl dX5_does_10 ?_
  refine lv_iload_n hx hb dX5_does_13 rfl (lv_at hl 2 rfl) ?_
  refine lv_iconst (v := 2) hx hb dX5_does_14 (by decide) ?_
  refine lv_iadd hx hb dX5_does_15 ?_
  refine zt_ld4 hx hb hI hw.1 dX5_does_16 ?_
  have hw := hw.2
  refine lv_istore_n (lv' := [(3, .int (S 4 (p1 + (2 : Int32)).toNatClampNeg)), (2, .int (S 4 (p1 + (1 : Int32)).toNatClampNeg)), (0, .ref g.2.1), (1, .int p1)]) hx hb dX5_does_17 rfl hl (by decide) rfl (fun ls hl => ?_)
  refine lv_aload_n hx hb dX5_does_18 rfl (lv_at hl 2 rfl) ?_
  refine zt_get hx hb hts hown hI 14 (v := .ref g.2.2.2.2.2) (by decide) q3646 rfl rfl dX5_does_19 ?_
  refine lv_iload_n hx hb dX5_does_22 rfl (lv_at hl 3 rfl) ?_
  refine zt_ld4 hx hb hI hw.1 dX5_does_23 ?_
  have hw := hw.2
  by_cases hc_1 : S 4 p1.toNatClampNeg = (97 : Int32)
  · have hw := hw.1 hc_1
    refine lv_lookup (tgt := 111) (off := 87) hx hb dX5_does_24 (by decide) (by rw [hc_1]; decide) (by decide) ?_
    refine lv_aload_n hx hb dX5_does_111 rfl (lv_at hl 2 rfl) ?_
    refine lv_iload_n hx hb dX5_does_112 rfl (lv_at hl 1 rfl) ?_
    refine lv_iload_n hx hb dX5_does_113 rfl (lv_at hl 0 rfl) ?_
    refine zt_calli (As := [.int (S 4 (p1 + (1 : Int32)).toNatClampNeg), .int (S 4 (p1 + (2 : Int32)).toNatClampNeg)]) (rest := []) ⟨hx, hb, hml, hown, hts⟩ hI (zm_airs l g (S 4 (p1 + (1 : Int32)).toNatClampNeg) (S 4 (p1 + (2 : Int32)).toNatClampNeg) S _ hw) (cwV 2 hts (lw_V q3808 q3810 qs56 q113 q3811) rfl rfl rfl hdT_airs ⟨Nat.le_of_ble_eq_true rfl, Nat.le_of_ble_eq_true rfl⟩) rfl hl.1 rfl (lv_room (Nat.le_of_ble_eq_true rfl)) dX5_does_114 ⟨Nat.le_refl _, Nat.le_refl _⟩ (fun r_3 S_2 H locs hw hI => ?_)
    exact zt_iret hx hb hr hlk hI hw dX5_does_117
  have hw := hw.2 hc_1
  by_cases hc_4 : S 4 p1.toNatClampNeg = (103 : Int32)
  · have hw := hw.1 hc_4
    refine lv_lookup (tgt := 83) (off := 59) hx hb dX5_does_24 (by decide) (by rw [hc_4]; decide) (by decide) ?_
    refine lv_aload_n hx hb dX5_does_83 rfl (lv_at hl 2 rfl) ?_
    refine lv_iload_n hx hb dX5_does_84 rfl (lv_at hl 1 rfl) ?_
    refine lv_iload_n hx hb dX5_does_85 rfl (lv_at hl 0 rfl) ?_
    refine lv_aload_n hx hb dX5_does_86 rfl (lv_at hl 2 rfl) ?_
    refine zt_get hx hb hts hown hI 14 (v := .ref g.2.2.2.2.2) (by decide) q3646 rfl rfl dX5_does_87 ?_
    refine lv_iload_n hx hb dX5_does_90 rfl (lv_at hl 3 rfl) ?_
    refine lv_iconst (v := 3) hx hb dX5_does_91 (by decide) ?_
    refine lv_iadd hx hb dX5_does_92 ?_
    refine zt_ld4 hx hb hI hw.1 dX5_does_93 ?_
    have hw := hw.2
    refine zt_calli (As := [.int (S 4 (p1 + (1 : Int32)).toNatClampNeg), .int (S 4 (p1 + (2 : Int32)).toNatClampNeg), .int (S 4 (p1 + (3 : Int32)).toNatClampNeg)]) (rest := []) ⟨hx, hb, hml, hown, hts⟩ hI (zm_gathers l g (S 4 (p1 + (1 : Int32)).toNatClampNeg) (S 4 (p1 + (2 : Int32)).toNatClampNeg) (S 4 (p1 + (3 : Int32)).toNatClampNeg) S _ hw) (cwV 3 hts (lw_V q3923 q3925 qs75 q113 q3926) rfl rfl rfl hdT_gathers ⟨Nat.le_of_ble_eq_true rfl, Nat.le_of_ble_eq_true rfl⟩) rfl hl.1 rfl (lv_room (Nat.le_of_ble_eq_true rfl)) dX5_does_94 ⟨Nat.le_refl _, Nat.le_refl _⟩ (fun r_6 S_5 H locs hw hI => ?_)
    exact zt_iret hx hb hr hlk hI hw dX5_does_97
  have hw := hw.2 hc_4
  by_cases hc_7 : S 4 p1.toNatClampNeg = (112 : Int32)
  · have hw := hw.1 hc_7
    refine lv_lookup (tgt := 76) (off := 52) hx hb dX5_does_24 (by decide) (by rw [hc_7]; decide) (by decide) ?_
    refine lv_aload_n hx hb dX5_does_76 rfl (lv_at hl 2 rfl) ?_
    refine lv_iload_n hx hb dX5_does_77 rfl (lv_at hl 1 rfl) ?_
    refine lv_iload_n hx hb dX5_does_78 rfl (lv_at hl 0 rfl) ?_
    refine zt_calli (As := [.int (S 4 (p1 + (1 : Int32)).toNatClampNeg), .int (S 4 (p1 + (2 : Int32)).toNatClampNeg)]) (rest := []) ⟨hx, hb, hml, hown, hts⟩ hI (zm_pushes l g (S 4 (p1 + (1 : Int32)).toNatClampNeg) (S 4 (p1 + (2 : Int32)).toNatClampNeg) S _ hw) (cwV 2 hts (lw_V q3724 q3726 qs44 q113 q3727) rfl rfl rfl hdT_pushes ⟨Nat.le_of_ble_eq_true rfl, Nat.le_of_ble_eq_true rfl⟩) rfl hl.1 rfl (lv_room (Nat.le_of_ble_eq_true rfl)) dX5_does_79 ⟨Nat.le_refl _, Nat.le_refl _⟩ (fun r_9 S_8 H locs hw hI => ?_)
    exact zt_iret hx hb hr hlk hI hw dX5_does_82
  have hw := hw.2 hc_7
  by_cases hc_10 : S 4 p1.toNatClampNeg = (115 : Int32)
  · have hw := hw.1 hc_10
    refine lv_lookup (tgt := 98) (off := 74) hx hb dX5_does_24 (by decide) (by rw [hc_10]; decide) (by decide) ?_
    refine lv_aload_n hx hb dX5_does_98 rfl (lv_at hl 2 rfl) ?_
    refine lv_iload_n hx hb dX5_does_99 rfl (lv_at hl 1 rfl) ?_
    refine zt_calli (As := [.int (S 4 (p1 + (1 : Int32)).toNatClampNeg)]) (rest := []) ⟨hx, hb, hml, hown, hts⟩ hI (zm_sends l g (S 4 (p1 + (1 : Int32)).toNatClampNeg) S _ hw) (cwV 1 hts (lw_V q3943 q3945 qs79 q113 q3946) rfl rfl rfl hdT_sends ⟨Nat.le_of_ble_eq_true rfl, Nat.le_of_ble_eq_true rfl⟩) rfl hl.1 rfl (lv_room (Nat.le_of_ble_eq_true rfl)) dX5_does_100 ⟨Nat.le_refl _, Nat.le_refl _⟩ (fun r_12 S_11 H locs hw hI => ?_)
    exact zt_iret hx hb hr hlk hI hw dX5_does_103
  have hw := hw.2 hc_10
  by_cases hc_13 : S 4 p1.toNatClampNeg = (116 : Int32)
  · have hw := hw.1 hc_13
    refine lv_lookup (tgt := 104) (off := 80) hx hb dX5_does_24 (by decide) (by rw [hc_13]; decide) (by decide) ?_
    refine lv_aload_n hx hb dX5_does_104 rfl (lv_at hl 2 rfl) ?_
    refine lv_iload_n hx hb dX5_does_105 rfl (lv_at hl 1 rfl) ?_
    refine lv_iload_n hx hb dX5_does_106 rfl (lv_at hl 0 rfl) ?_
    refine zt_calli (As := [.int (S 4 (p1 + (1 : Int32)).toNatClampNeg), .int (S 4 (p1 + (2 : Int32)).toNatClampNeg)]) (rest := []) ⟨hx, hb, hml, hown, hts⟩ hI (zm_setsTraps l g (S 4 (p1 + (1 : Int32)).toNatClampNeg) (S 4 (p1 + (2 : Int32)).toNatClampNeg) S _ hw) (cwV 2 hts (lw_V q3835 q3837 qs60 q113 q3838) rfl rfl rfl hdT_setsTraps ⟨Nat.le_of_ble_eq_true rfl, Nat.le_of_ble_eq_true rfl⟩) rfl hl.1 rfl (lv_room (Nat.le_of_ble_eq_true rfl)) dX5_does_107 ⟨Nat.le_refl _, Nat.le_refl _⟩ (fun r_15 S_14 H locs hw hI => ?_)
    exact zt_iret hx hb hr hlk hI hw dX5_does_110
  have hw := hw.2 hc_13
  refine lv_lookup (tgt := 118) (off := 94) hx hb dX5_does_24 (by decide) ((lv_osw hc_1 (by decide)).trans ((lv_osw hc_4 (by decide)).trans ((lv_osw hc_7 (by decide)).trans ((lv_osw hc_10 (by decide)).trans ((lv_osw hc_13 (by decide)).trans (rfl)))))) (by decide) ?_
  refine lv_aload_n hx hb dX5_does_118 rfl (lv_at hl 2 rfl) ?_
  refine lv_iload_n hx hb dX5_does_119 rfl (lv_at hl 1 rfl) ?_
  refine zt_calli (As := [.int (S 4 (p1 + (1 : Int32)).toNatClampNeg)]) (rest := []) ⟨hx, hb, hml, hown, hts⟩ hI (zm_passes l g (S 4 (p1 + (1 : Int32)).toNatClampNeg) S _ hw) (cwV 1 hts (lw_V q3987 q3989 qs81 q113 q3990) rfl rfl rfl hdT_passes ⟨Nat.le_of_ble_eq_true rfl, Nat.le_of_ble_eq_true rfl⟩) rfl hl.1 rfl (lv_room (Nat.le_of_ble_eq_true rfl)) dX5_does_120 ⟨Nat.le_refl _, Nat.le_refl _⟩ (fun r_17 S_16 H locs hw hI => ?_)
  exact zt_iret hx hb hr hlk hI hw dX5_does_123
theorem hdT_does : yX5_does.cls = RX5 ∧ yX5_does.cls ≠ "java/lang/invoke/MethodHandle" ∧ yX5_does.cls ≠ "java/lang/invoke/VarHandle" ∧ (parseMethodDescriptor yX5_does.desc).map (fun d => d.parameters.length) = some 1 := by decide +kernel
def zw_read_65 (post : Int32 → zt_S → Prop) (v1 : Int32) (S : zt_S) : Prop :=
  ∀ S_7 : zt_S, S_7 = zt_us S 0 4 (S 0 15) → (zw_ends v1 (2 : Int32) (2 : Int32) (3 : Int32) S_7 (fun (r_9 : Int32) (S_8 : zt_S) => post r_9 S_8))
set_option maxHeartbeats 4000000 in
theorem zj_read_65 {p : Program} {l : Launch} {e : Env} {s : State} {m : MethodId} {args : Array Value} {below : List Frame} {meth : Method} {c : Code} {H : Heap} {locs : List Loc} {ls : Array Slot} (g : zt_G) (post : Int32 → zt_S → Prop) (v1 : Int32) (S : zt_S) (hC : zt_C p s m args meth c cX5_read 3 (some .int)) (hw : zw_read_65 post v1 S) (hI : zt_I g S s H locs) (hl : lv_has ls 3 [(0, .ref g.2.1), (1, .int v1)]) : W p l e ({ frames := 6, cells := 0, slots := 0, locals := 147 } : Room) s m args below meth c H locs 0 0 (MQ below (va_Qi post (zt_B g) (zt_A g)) args s 0 0 (zt_A g)) (F0 m 65 ls []) := by
  obtain ⟨hx, hb, hml, hown, hts, hr, hlk⟩ := hC
  unfold zw_read_65 at hw
  refine lv_aload_n hx hb dX5_read_65 rfl (lv_at hl 0 rfl) ?_
  refine lv_aload_n hx hb dX5_read_66 rfl (lv_at hl 0 rfl) ?_
  refine zt_get hx hb hts hown hI 15 (v := .int (S 0 15)) (by decide) q3647 rfl rfl dX5_read_67 ?_
  refine zt_put hx hb hts hown hI 4 (v := S 0 15) (ty := .int) (by decide) q3636 rfl rfl (by decide +kernel) rfl rfl rfl dX5_read_70 (fun H locs hI => ?_)
  obtain ⟨S_7, eS_7⟩ : ∃ z, z = zt_us S 0 4 (S 0 15) := ⟨_, rfl⟩
  rw [← eS_7] at hI
  have hw := hw S_7 eS_7
  refine lv_aload_n hx hb dX5_read_73 rfl (lv_at hl 0 rfl) ?_
  refine lv_iload_n hx hb dX5_read_74 rfl (lv_at hl 1 rfl) ?_
  refine lv_iconst (v := 2) hx hb dX5_read_75 (by decide) ?_
  refine lv_iconst (v := 2) hx hb dX5_read_76 (by decide) ?_
  refine lv_iconst (v := 3) hx hb dX5_read_77 (by decide) ?_
  refine zt_calli (As := [.int v1, .int (2 : Int32), .int (2 : Int32), .int (3 : Int32)]) (rest := []) ⟨hx, hb, hml, hown, hts⟩ hI (zm_ends l g v1 (2 : Int32) (2 : Int32) (3 : Int32) S_7 _ hw) (cwV 4 hts (lw_V q3735 q3737 qs46 q113 q3738) rfl rfl rfl hdT_ends ⟨Nat.le_of_ble_eq_true rfl, Nat.le_of_ble_eq_true rfl⟩) rfl hl.1 rfl (lv_room (Nat.le_of_ble_eq_true rfl)) dX5_read_78 ⟨Nat.le_refl _, Nat.le_refl _⟩ (fun r_9 S_8 H locs hw hI => ?_)
  exact zt_iret hx hb hr hlk hI hw dX5_read_81
def zw_read (S : zt_S) (post : Int32 → zt_S → Prop) : Prop :=
  zw_parse S (fun (S_1 : zt_S) => ∀ S_2 : zt_S, S_2 = zt_us S_1 0 10 (0 : Int32) → ((S_2 0 12 < (0 : Int32) → (zw_begins S_2 (fun (S_4 : zt_S) => ∃ (In_5 : Int32 → Int32 → zt_S → Prop) (mu_5 : Int32 → Int32 → zt_S → Nat), In_5 (0 : Int32) (0 : Int32) S_4 ∧ ∀ (x1_5 : Int32) (x2_5 : Int32) (S_5 : zt_S), In_5 x1_5 x2_5 S_5 → ((S_5 0 15 ≤ x2_5 → (zw_read_65 post x1_5 S_5)) ∧ (¬ S_5 0 15 ≤ x2_5 → ((¬ x1_5 = (0 : Int32) → (zw_read_65 post x1_5 S_5)) ∧ (x1_5 = (0 : Int32) → (zw_does ((4 : Int32) * x2_5) S_5 (fun (r_12 : Int32) (S_11 : zt_S) => In_5 r_12 (x2_5 + (1 : Int32)) S_11 ∧ mu_5 r_12 (x2_5 + (1 : Int32)) S_11 < mu_5 x1_5 x2_5 S_5))))))))) ∧ (¬ S_2 0 12 < (0 : Int32) → (∀ S_13 : zt_S, S_13 = zt_us S_2 0 0 (1 : Int32) → (∀ S_14 : zt_S, S_14 = zt_us S_13 0 13 (S_13 0 12) → (post (0 : Int32) S_14))))))
set_option maxHeartbeats 4000000 in
theorem zm_read (l : Launch) (g : zt_G) (S : zt_S) (post : Int32 → zt_S → Prop) (hw : zw_read S post) : Met l yX5_read (ws_ yX5_read cX5_read 3 (some .int)) ({ frames := 6, cells := 0, slots := 0, locals := 147 } : Room) (va_Pc (.ref g.2.1 :: []) (zt_B g S)) (va_Qi post (zt_B g) (zt_A g)) 0 0 (zt_A g) := by
  refine zt_met (by decide) rfl (Nat.le_of_ble_eq_true rfl) (fun p e s m below meth c ls hC hI hl => ?_)
  generalize (Value.ref g.2.1 :: ([] : List Value)).toArray = args at hC ⊢
  obtain ⟨hx, hb, hml, hown, hts, hr, hlk⟩ := hC
  have hl : lv_has ls 3 [(0, .ref g.2.1)] := hl
  unfold zw_read at hw
  obtain ⟨H, eH⟩ : ∃ z, z = s.heap := ⟨_, rfl⟩
  obtain ⟨locs, elo⟩ : ∃ z : List Loc, z = [] := ⟨_, rfl⟩
  rw [← eH, ← elo] at hI ⊢
  refine lv_aload_n hx hb dX5_read_0 rfl (lv_at hl 0 rfl) ?_
  refine zt_callv (As := []) (rest := []) ⟨hx, hb, hml, hown, hts⟩ hI (zm_parse l g S _ hw) (cwV 0 hts (lw_V q4059 q4061 qs91 q113 q4062) rfl rfl rfl hdT_parse ⟨Nat.le_of_ble_eq_true rfl, Nat.le_of_ble_eq_true rfl⟩) rfl hl.1 rfl (lv_room (Nat.le_of_ble_eq_true rfl)) dX5_read_1 ⟨Nat.le_refl _, Nat.le_refl _⟩ (fun S_1 H locs hw hI => ?_)
  refine lv_aload_n hx hb dX5_read_4 rfl (lv_at hl 0 rfl) ?_
  refine lv_iconst (v := 0) hx hb dX5_read_5 (by decide) ?_
  refine zt_put hx hb hts hown hI 10 (v := (0 : Int32)) (ty := .int) (by decide) q3642 rfl rfl (by decide +kernel) rfl rfl rfl dX5_read_6 (fun H locs hI => ?_)
  obtain ⟨S_2, eS_2⟩ : ∃ z, z = zt_us S_1 0 10 (0 : Int32) := ⟨_, rfl⟩
  rw [← eS_2] at hI
  have hw := hw S_2 eS_2
  refine lv_aload_n hx hb dX5_read_9 rfl (lv_at hl 0 rfl) ?_
  refine zt_get hx hb hts hown hI 12 (v := .int (S_2 0 12)) (by decide) q3644 rfl rfl dX5_read_10 ?_
  refine lv_if_lt (tgt := 31) hx hb dX5_read_13 (by decide) (fun hc_3 => ?_) (fun hc_3 => ?_)
  · have hw := hw.1 hc_3
    refine lv_aload_n hx hb dX5_read_31 rfl (lv_at hl 0 rfl) ?_
    refine zt_callv (As := []) (rest := []) ⟨hx, hb, hml, hown, hts⟩ hI (zm_begins l g S_2 _ hw) (cwV 0 hts (lw_V q3700 q3702 qs39 q113 q3703) rfl rfl rfl hdT_begins ⟨Nat.le_of_ble_eq_true rfl, Nat.le_of_ble_eq_true rfl⟩) rfl hl.1 rfl (lv_room (Nat.le_of_ble_eq_true rfl)) dX5_read_32 ⟨Nat.le_refl _, Nat.le_refl _⟩ (fun S_4 H locs hw hI => ?_)
    refine lv_iconst (v := 0) hx hb dX5_read_35 (by decide) ?_
    refine lv_istore_n (lv' := [(1, .int (0 : Int32)), (0, .ref g.2.1)]) hx hb dX5_read_36 rfl hl (by decide) rfl (fun ls hl => ?_)
    refine lv_iconst (v := 0) hx hb dX5_read_37 (by decide) ?_
    refine lv_istore_n (lv' := [(2, .int (0 : Int32)), (1, .int (0 : Int32)), (0, .ref g.2.1)]) hx hb dX5_read_38 rfl hl (by decide) rfl (fun ls hl => ?_)
    obtain ⟨In_5, mu_5, h0_5, hw⟩ := hw
    have hL_5 : ∀ (n : Nat) (x1_5 : Int32) (x2_5 : Int32) (S_5 : zt_S) (H : Heap) (locs : List Loc) (ls : Array Slot), mu_5 x1_5 x2_5 S_5 < n → In_5 x1_5 x2_5 S_5 → zt_I g S_5 s H locs → lv_has ls 3 [(0, .ref g.2.1), (1, .int x1_5), (2, .int x2_5)] → W p l e ({ frames := 6, cells := 0, slots := 0, locals := 147 } : Room) s m args below meth c H locs 0 0 (MQ below (va_Qi post (zt_B g) (zt_A g)) args s 0 0 (zt_A g)) (F0 m 39 ls []) := by
      intro n
      induction n with
      | zero => intro x1_5 x2_5 S_5 H locs ls hn _ _ _; exact absurd hn (Nat.not_lt_zero _)
      | succ n ih_5 =>
        intro x1_5 x2_5 S_5 H locs ls hn_5 hi_5 hI hl
        have hw := hw x1_5 x2_5 S_5 hi_5
        refine lv_iload_n hx hb dX5_read_39 rfl (lv_at hl 2 rfl) ?_
        refine lv_aload_n hx hb dX5_read_40 rfl (lv_at hl 0 rfl) ?_
        refine zt_get hx hb hts hown hI 15 (v := .int (S_5 0 15)) (by decide) q3647 rfl rfl dX5_read_41 ?_
        refine lv_icmp_ge (tgt := 65) hx hb dX5_read_44 (by decide) (fun hc_6 => ?_) (fun hc_6 => ?_)
        · have hw := hw.1 hc_6
          exact zj_read_65 g post x1_5 S_5 ⟨hx, hb, hml, hown, hts, hr, hlk⟩ hw hI (lv_sub hl [0, 1] rfl)
        · have hw := hw.2 hc_6
          refine lv_iload_n hx hb dX5_read_47 rfl (lv_at hl 1 rfl) ?_
          refine lv_if_ne (tgt := 65) hx hb dX5_read_48 (by decide) (fun hc_10 => ?_) (fun hc_10 => ?_)
          · have hw := hw.1 hc_10
            exact zj_read_65 g post x1_5 S_5 ⟨hx, hb, hml, hown, hts, hr, hlk⟩ hw hI (lv_sub hl [0, 1] rfl)
          · have hw := hw.2 hc_10
            refine lv_aload_n hx hb dX5_read_51 rfl (lv_at hl 0 rfl) ?_
            refine lv_iconst (v := 4) hx hb dX5_read_52 (by decide) ?_
            refine lv_iload_n hx hb dX5_read_53 rfl (lv_at hl 2 rfl) ?_
            refine lv_imul hx hb dX5_read_54 ?_
            refine zt_calli (As := [.int ((4 : Int32) * x2_5)]) (rest := []) ⟨hx, hb, hml, hown, hts⟩ hI (zm_does l g ((4 : Int32) * x2_5) S_5 _ hw) (cwV 1 hts (lw_V q4087 q4089 qs98 q113 q4090) rfl rfl rfl hdT_does ⟨Nat.le_of_ble_eq_true rfl, Nat.le_of_ble_eq_true rfl⟩) rfl hl.1 rfl (lv_room (Nat.le_of_ble_eq_true rfl)) dX5_read_55 ⟨Nat.le_refl _, Nat.le_refl _⟩ (fun r_12 S_11 H locs hw hI => ?_)
            refine lv_istore_n (lv' := [(1, .int r_12), (0, .ref g.2.1), (2, .int x2_5)]) hx hb dX5_read_58 rfl hl (by decide) rfl (fun ls hl => ?_)
            refine lv_iinc (v := x2_5 + (1 : Int32)) (lv' := [(2, .int (x2_5 + (1 : Int32))), (1, .int r_12), (0, .ref g.2.1)]) hx hb dX5_read_59 hl (k := 2) rfl rfl (by decide) rfl (fun ls hl => ?_)
            refine lv_goto (tgt := 39) hx hb dX5_read_62 (by decide) ?_
            exact ih_5 _ _ _ H locs ls (Nat.lt_of_lt_of_le hw.2 (Nat.le_of_lt_succ hn_5)) hw.1 hI (lv_sub hl [2, 1, 0] rfl)
    exact hL_5 _ _ _ _ H locs ls (Nat.lt_succ_self _) h0_5 hI (lv_sub hl [2, 1, 0] rfl)
  · have hw := hw.2 hc_3
    refine lv_aload_n hx hb dX5_read_16 rfl (lv_at hl 0 rfl) ?_
    refine lv_iconst (v := 1) hx hb dX5_read_17 (by decide) ?_
    refine zt_put hx hb hts hown hI 0 (v := (1 : Int32)) (ty := .int) (by decide) q3632 rfl rfl (by decide +kernel) rfl rfl rfl dX5_read_18 (fun H locs hI => ?_)
    obtain ⟨S_13, eS_13⟩ : ∃ z, z = zt_us S_2 0 0 (1 : Int32) := ⟨_, rfl⟩
    rw [← eS_13] at hI
    have hw := hw S_13 eS_13
    refine lv_aload_n hx hb dX5_read_21 rfl (lv_at hl 0 rfl) ?_
    refine lv_aload_n hx hb dX5_read_22 rfl (lv_at hl 0 rfl) ?_
    refine zt_get hx hb hts hown hI 12 (v := .int (S_13 0 12)) (by decide) q3644 rfl rfl dX5_read_23 ?_
    refine zt_put hx hb hts hown hI 13 (v := S_13 0 12) (ty := .int) (by decide) q3645 rfl rfl (by decide +kernel) rfl rfl rfl dX5_read_26 (fun H locs hI => ?_)
    obtain ⟨S_14, eS_14⟩ : ∃ z, z = zt_us S_13 0 13 (S_13 0 12) := ⟨_, rfl⟩
    rw [← eS_14] at hI
    have hw := hw S_14 eS_14
    refine lv_iconst (v := 0) hx hb dX5_read_29 (by decide) ?_
    exact zt_iret hx hb hr hlk hI hw dX5_read_30
theorem hdT_read : yX5_read.cls = RX5 ∧ yX5_read.cls ≠ "java/lang/invoke/MethodHandle" ∧ yX5_read.cls ≠ "java/lang/invoke/VarHandle" ∧ (parseMethodDescriptor yX5_read.desc).map (fun d => d.parameters.length) = some 0 := by decide +kernel
def zw_errorPosition_14 (post : Int32 → zt_S → Prop) (t0 : Int32) (S : zt_S) : Prop :=
  ∀ S_2 : zt_S, S_2 = zt_us S 0 0 t0 → ((¬ S_2 0 0 = (0 : Int32) → (post (0 : Int32) S_2)) ∧ (S_2 0 0 = (0 : Int32) → (post (S_2 0 13) S_2)))
set_option maxHeartbeats 4000000 in
theorem zj_errorPosition_14 {p : Program} {l : Launch} {e : Env} {s : State} {m : MethodId} {args : Array Value} {below : List Frame} {meth : Method} {c : Code} {H : Heap} {locs : List Loc} {ls : Array Slot} (g : zt_G) (post : Int32 → zt_S → Prop) (t0 : Int32) (S : zt_S) (hC : zt_C p s m args meth c cX5_errorPosition 1 (some .int)) (hw : zw_errorPosition_14 post t0 S) (hI : zt_I g S s H locs) (hl : lv_has ls 1 [(0, .ref g.2.1)]) : W p l e ({ frames := 0, cells := 0, slots := 0, locals := 0 } : Room) s m args below meth c H locs 0 0 (MQ below (va_Qi post (zt_B g) (zt_A g)) args s 0 0 (zt_A g)) (F0 m 14 ls [.int t0, .ref g.2.1]) := by
  obtain ⟨hx, hb, hml, hown, hts, hr, hlk⟩ := hC
  unfold zw_errorPosition_14 at hw
  refine zt_put hx hb hts hown hI 0 (v := t0) (ty := .int) (by decide) q3632 rfl rfl (by decide +kernel) rfl rfl rfl dX5_errorPosition_14 (fun H locs hI => ?_)
  obtain ⟨S_2, eS_2⟩ : ∃ z, z = zt_us S 0 0 t0 := ⟨_, rfl⟩
  rw [← eS_2] at hI
  have hw := hw S_2 eS_2
  refine lv_aload_n hx hb dX5_errorPosition_17 rfl (lv_at hl 0 rfl) ?_
  refine zt_get hx hb hts hown hI 0 (v := .int (S_2 0 0)) (by decide) q3632 rfl rfl dX5_errorPosition_18 ?_
  refine lv_if_ne (tgt := 31) hx hb dX5_errorPosition_21 (by decide) (fun hc_3 => ?_) (fun hc_3 => ?_)
  · have hw := hw.1 hc_3
    refine lv_iconst (v := 0) hx hb dX5_errorPosition_31 (by decide) ?_
    exact zt_iret hx hb hr hlk hI hw dX5_errorPosition_32
  · have hw := hw.2 hc_3
    refine lv_aload_n hx hb dX5_errorPosition_24 rfl (lv_at hl 0 rfl) ?_
    refine zt_get hx hb hts hown hI 13 (v := .int (S_2 0 13)) (by decide) q3645 rfl rfl dX5_errorPosition_25 ?_
    refine lv_goto (tgt := 32) hx hb dX5_errorPosition_28 (by decide) ?_
    exact zt_iret hx hb hr hlk hI hw dX5_errorPosition_32
def zw_errorPosition (S : zt_S) (post : Int32 → zt_S → Prop) : Prop :=
  (¬ S 0 13 = (-1 : Int32) → (zw_errorPosition_14 post (0 : Int32) S)) ∧ (S 0 13 = (-1 : Int32) → (zw_errorPosition_14 post (1 : Int32) S))
set_option maxHeartbeats 4000000 in
theorem zm_errorPosition (l : Launch) (g : zt_G) (S : zt_S) (post : Int32 → zt_S → Prop) (hw : zw_errorPosition S post) : Met l yX5_errorPosition (ws_ yX5_errorPosition cX5_errorPosition 1 (some .int)) ({ frames := 0, cells := 0, slots := 0, locals := 0 } : Room) (va_Pc (.ref g.2.1 :: []) (zt_B g S)) (va_Qi post (zt_B g) (zt_A g)) 0 0 (zt_A g) := by
  refine zt_met (by decide) rfl (Nat.le_of_ble_eq_true rfl) (fun p e s m below meth c ls hC hI hl => ?_)
  generalize (Value.ref g.2.1 :: ([] : List Value)).toArray = args at hC ⊢
  obtain ⟨hx, hb, hml, hown, hts, hr, hlk⟩ := hC
  have hl : lv_has ls 1 [(0, .ref g.2.1)] := hl
  unfold zw_errorPosition at hw
  obtain ⟨H, eH⟩ : ∃ z, z = s.heap := ⟨_, rfl⟩
  obtain ⟨locs, elo⟩ : ∃ z : List Loc, z = [] := ⟨_, rfl⟩
  rw [← eH, ← elo] at hI ⊢
  refine lv_aload_n hx hb dX5_errorPosition_0 rfl (lv_at hl 0 rfl) ?_
  refine lv_aload_n hx hb dX5_errorPosition_1 rfl (lv_at hl 0 rfl) ?_
  refine zt_get hx hb hts hown hI 13 (v := .int (S 0 13)) (by decide) q3645 rfl rfl dX5_errorPosition_2 ?_
  refine lv_iconst (v := -1) hx hb dX5_errorPosition_5 (by decide) ?_
  refine lv_icmp_ne (tgt := 13) hx hb dX5_errorPosition_6 (by decide) (fun hc_1 => ?_) (fun hc_1 => ?_)
  · have hw := hw.1 hc_1
    refine lv_iconst (v := 0) hx hb dX5_errorPosition_13 (by decide) ?_
    exact zj_errorPosition_14 g post (0 : Int32) S ⟨hx, hb, hml, hown, hts, hr, hlk⟩ hw hI (lv_sub hl [0] rfl)
  · have hw := hw.2 hc_1
    refine lv_iconst (v := 1) hx hb dX5_errorPosition_9 (by decide) ?_
    refine lv_goto (tgt := 14) hx hb dX5_errorPosition_10 (by decide) ?_
    exact zj_errorPosition_14 g post (1 : Int32) S ⟨hx, hb, hml, hown, hts, hr, hlk⟩ hw hI (lv_sub hl [0] rfl)
theorem hdT_errorPosition : yX5_errorPosition.cls = RX5 ∧ yX5_errorPosition.cls ≠ "java/lang/invoke/MethodHandle" ∧ yX5_errorPosition.cls ≠ "java/lang/invoke/VarHandle" ∧ (parseMethodDescriptor yX5_errorPosition.desc).map (fun d => d.parameters.length) = some 0 := by decide +kernel
def zw_undo_13 (post : Int32 → zt_S → Prop) (t0 : Int32) (S : zt_S) : Prop :=
  ∀ S_2 : zt_S, S_2 = zt_us S 0 0 t0 → ((S_2 0 0 = (0 : Int32) → (zw_copies (S_2 0 2) (0 : Int32) S_2 (fun (S_4 : zt_S) => ∀ S_5 : zt_S, S_5 = zt_us S_4 0 2 ((S_4 0 2) - (1 : Int32)) → (post (S_5 0 2) S_5)))) ∧ (¬ S_2 0 0 = (0 : Int32) → (post (0 : Int32) S_2)))
set_option maxHeartbeats 4000000 in
theorem zj_undo_13 {p : Program} {l : Launch} {e : Env} {s : State} {m : MethodId} {args : Array Value} {below : List Frame} {meth : Method} {c : Code} {H : Heap} {locs : List Loc} {ls : Array Slot} (g : zt_G) (post : Int32 → zt_S → Prop) (t0 : Int32) (S : zt_S) (hC : zt_C p s m args meth c cX5_undo 1 (some .int)) (hw : zw_undo_13 post t0 S) (hI : zt_I g S s H locs) (hl : lv_has ls 1 [(0, .ref g.2.1)]) : W p l e ({ frames := 1, cells := 0, slots := 0, locals := 23 } : Room) s m args below meth c H locs 0 0 (MQ below (va_Qi post (zt_B g) (zt_A g)) args s 0 0 (zt_A g)) (F0 m 13 ls [.int t0, .ref g.2.1]) := by
  obtain ⟨hx, hb, hml, hown, hts, hr, hlk⟩ := hC
  unfold zw_undo_13 at hw
  refine zt_put hx hb hts hown hI 0 (v := t0) (ty := .int) (by decide) q3632 rfl rfl (by decide +kernel) rfl rfl rfl dX5_undo_13 (fun H locs hI => ?_)
  obtain ⟨S_2, eS_2⟩ : ∃ z, z = zt_us S 0 0 t0 := ⟨_, rfl⟩
  rw [← eS_2] at hI
  have hw := hw S_2 eS_2
  refine lv_aload_n hx hb dX5_undo_16 rfl (lv_at hl 0 rfl) ?_
  refine zt_get hx hb hts hown hI 0 (v := .int (S_2 0 0)) (by decide) q3632 rfl rfl dX5_undo_17 ?_
  refine lv_if_eq (tgt := 25) hx hb dX5_undo_20 (by decide) (fun hc_3 => ?_) (fun hc_3 => ?_)
  · have hw := hw.1 hc_3
    refine lv_aload_n hx hb dX5_undo_25 rfl (lv_at hl 0 rfl) ?_
    refine lv_aload_n hx hb dX5_undo_26 rfl (lv_at hl 0 rfl) ?_
    refine zt_get hx hb hts hown hI 2 (v := .int (S_2 0 2)) (by decide) q3634 rfl rfl dX5_undo_27 ?_
    refine lv_iconst (v := 0) hx hb dX5_undo_30 (by decide) ?_
    refine zt_callv (As := [.int (S_2 0 2), .int (0 : Int32)]) (rest := []) ⟨hx, hb, hml, hown, hts⟩ hI (zm_copies l g (S_2 0 2) (0 : Int32) S_2 _ hw) (cwV 2 hts (lw_V q3704 q3706 qs40 q113 q3707) rfl rfl rfl hdT_copies ⟨Nat.le_of_ble_eq_true rfl, Nat.le_of_ble_eq_true rfl⟩) rfl hl.1 rfl (lv_room (Nat.le_of_ble_eq_true rfl)) dX5_undo_31 ⟨Nat.le_refl _, Nat.le_refl _⟩ (fun S_4 H locs hw hI => ?_)
    refine lv_aload_n hx hb dX5_undo_34 rfl (lv_at hl 0 rfl) ?_
    refine lv_dup hx hb dX5_undo_35 rfl ?_
    refine zt_get hx hb hts hown hI 2 (v := .int (S_4 0 2)) (by decide) q3634 rfl rfl dX5_undo_36 ?_
    refine lv_iconst (v := 1) hx hb dX5_undo_39 (by decide) ?_
    refine lv_isub hx hb dX5_undo_40 ?_
    refine zt_put hx hb hts hown hI 2 (v := (S_4 0 2) - (1 : Int32)) (ty := .int) (by decide) q3634 rfl rfl (by decide +kernel) rfl rfl rfl dX5_undo_41 (fun H locs hI => ?_)
    obtain ⟨S_5, eS_5⟩ : ∃ z, z = zt_us S_4 0 2 ((S_4 0 2) - (1 : Int32)) := ⟨_, rfl⟩
    rw [← eS_5] at hI
    have hw := hw S_5 eS_5
    refine lv_aload_n hx hb dX5_undo_44 rfl (lv_at hl 0 rfl) ?_
    refine zt_get hx hb hts hown hI 2 (v := .int (S_5 0 2)) (by decide) q3634 rfl rfl dX5_undo_45 ?_
    exact zt_iret hx hb hr hlk hI hw dX5_undo_48
  · have hw := hw.2 hc_3
    refine lv_iconst (v := 0) hx hb dX5_undo_23 (by decide) ?_
    exact zt_iret hx hb hr hlk hI hw dX5_undo_24
def zw_undo (S : zt_S) (post : Int32 → zt_S → Prop) : Prop :=
  (¬ S 0 2 = (0 : Int32) → (zw_undo_13 post (0 : Int32) S)) ∧ (S 0 2 = (0 : Int32) → (zw_undo_13 post (1 : Int32) S))
set_option maxHeartbeats 4000000 in
theorem zm_undo (l : Launch) (g : zt_G) (S : zt_S) (post : Int32 → zt_S → Prop) (hw : zw_undo S post) : Met l yX5_undo (ws_ yX5_undo cX5_undo 1 (some .int)) ({ frames := 1, cells := 0, slots := 0, locals := 23 } : Room) (va_Pc (.ref g.2.1 :: []) (zt_B g S)) (va_Qi post (zt_B g) (zt_A g)) 0 0 (zt_A g) := by
  refine zt_met (by decide) rfl (Nat.le_of_ble_eq_true rfl) (fun p e s m below meth c ls hC hI hl => ?_)
  generalize (Value.ref g.2.1 :: ([] : List Value)).toArray = args at hC ⊢
  obtain ⟨hx, hb, hml, hown, hts, hr, hlk⟩ := hC
  have hl : lv_has ls 1 [(0, .ref g.2.1)] := hl
  unfold zw_undo at hw
  obtain ⟨H, eH⟩ : ∃ z, z = s.heap := ⟨_, rfl⟩
  obtain ⟨locs, elo⟩ : ∃ z : List Loc, z = [] := ⟨_, rfl⟩
  rw [← eH, ← elo] at hI ⊢
  refine lv_aload_n hx hb dX5_undo_0 rfl (lv_at hl 0 rfl) ?_
  refine lv_aload_n hx hb dX5_undo_1 rfl (lv_at hl 0 rfl) ?_
  refine zt_get hx hb hts hown hI 2 (v := .int (S 0 2)) (by decide) q3634 rfl rfl dX5_undo_2 ?_
  refine lv_if_ne (tgt := 12) hx hb dX5_undo_5 (by decide) (fun hc_1 => ?_) (fun hc_1 => ?_)
  · have hw := hw.1 hc_1
    refine lv_iconst (v := 0) hx hb dX5_undo_12 (by decide) ?_
    exact zj_undo_13 g post (0 : Int32) S ⟨hx, hb, hml, hown, hts, hr, hlk⟩ hw hI (lv_sub hl [0] rfl)
  · have hw := hw.2 hc_1
    refine lv_iconst (v := 1) hx hb dX5_undo_8 (by decide) ?_
    refine lv_goto (tgt := 13) hx hb dX5_undo_9 (by decide) ?_
    exact zj_undo_13 g post (1 : Int32) S ⟨hx, hb, hml, hown, hts, hr, hlk⟩ hw hI (lv_sub hl [0] rfl)
theorem hdT_undo : yX5_undo.cls = RX5 ∧ yX5_undo.cls ≠ "java/lang/invoke/MethodHandle" ∧ yX5_undo.cls ≠ "java/lang/invoke/VarHandle" ∧ (parseMethodDescriptor yX5_undo.desc).map (fun d => d.parameters.length) = some 0 := by decide +kernel
def zw_save (S : zt_S) (post : Int32 → zt_S → Prop) : Prop :=
  ∀ S_1 : zt_S, S_1 = zt_us S 0 0 (0 : Int32) → (∀ S_2 : zt_S, S_2 = zt_us S_1 0 3 (1 : Int32) → (zw_copies (0 : Int32) (7 : Int32) S_2 (fun (S_3 : zt_S) => vp_in (5 : Int32) 3810 ∧ (post (S_3 1 (5 : Int32).toNatClampNeg) S_3))))
set_option maxHeartbeats 4000000 in
theorem zm_save (l : Launch) (g : zt_G) (S : zt_S) (post : Int32 → zt_S → Prop) (hw : zw_save S post) : Met l yX5_save (ws_ yX5_save cX5_save 1 (some .int)) ({ frames := 1, cells := 0, slots := 0, locals := 23 } : Room) (va_Pc (.ref g.2.1 :: []) (zt_B g S)) (va_Qi post (zt_B g) (zt_A g)) 0 0 (zt_A g) := by
  refine zt_met (by decide) rfl (Nat.le_of_ble_eq_true rfl) (fun p e s m below meth c ls hC hI hl => ?_)
  generalize (Value.ref g.2.1 :: ([] : List Value)).toArray = args at hC ⊢
  obtain ⟨hx, hb, hml, hown, hts, hr, hlk⟩ := hC
  have hl : lv_has ls 1 [(0, .ref g.2.1)] := hl
  unfold zw_save at hw
  obtain ⟨H, eH⟩ : ∃ z, z = s.heap := ⟨_, rfl⟩
  obtain ⟨locs, elo⟩ : ∃ z : List Loc, z = [] := ⟨_, rfl⟩
  rw [← eH, ← elo] at hI ⊢
  refine lv_aload_n hx hb dX5_save_0 rfl (lv_at hl 0 rfl) ?_
  refine lv_iconst (v := 0) hx hb dX5_save_1 (by decide) ?_
  refine zt_put hx hb hts hown hI 0 (v := (0 : Int32)) (ty := .int) (by decide) q3632 rfl rfl (by decide +kernel) rfl rfl rfl dX5_save_2 (fun H locs hI => ?_)
  obtain ⟨S_1, eS_1⟩ : ∃ z, z = zt_us S 0 0 (0 : Int32) := ⟨_, rfl⟩
  rw [← eS_1] at hI
  have hw := hw S_1 eS_1
  refine lv_aload_n hx hb dX5_save_5 rfl (lv_at hl 0 rfl) ?_
  refine lv_iconst (v := 1) hx hb dX5_save_6 (by decide) ?_
  refine zt_put hx hb hts hown hI 3 (v := (1 : Int32)) (ty := .boolean) (by decide) q3635 rfl rfl (by decide +kernel) rfl rfl rfl dX5_save_7 (fun H locs hI => ?_)
  obtain ⟨S_2, eS_2⟩ : ∃ z, z = zt_us S_1 0 3 (1 : Int32) := ⟨_, rfl⟩
  rw [← eS_2] at hI
  have hw := hw S_2 eS_2
  refine lv_aload_n hx hb dX5_save_10 rfl (lv_at hl 0 rfl) ?_
  refine lv_iconst (v := 0) hx hb dX5_save_11 (by decide) ?_
  refine lv_bipush (v := 7) hx hb dX5_save_12 (by decide) ?_
  refine zt_callv (As := [.int (0 : Int32), .int (7 : Int32)]) (rest := []) ⟨hx, hb, hml, hown, hts⟩ hI (zm_copies l g (0 : Int32) (7 : Int32) S_2 _ hw) (cwV 2 hts (lw_V q3704 q3706 qs40 q113 q3707) rfl rfl rfl hdT_copies ⟨Nat.le_of_ble_eq_true rfl, Nat.le_of_ble_eq_true rfl⟩) rfl hl.1 rfl (lv_room (Nat.le_of_ble_eq_true rfl)) dX5_save_14 ⟨Nat.le_refl _, Nat.le_refl _⟩ (fun S_3 H locs hw hI => ?_)
  refine lv_aload_n hx hb dX5_save_17 rfl (lv_at hl 0 rfl) ?_
  refine zt_get hx hb hts hown hI 1 (v := .ref g.2.2.1) (by decide) q3633 rfl rfl dX5_save_18 ?_
  refine lv_iconst (v := 5) hx hb dX5_save_21 (by decide) ?_
  refine zt_ld1 hx hb hI hw.1 dX5_save_22 ?_
  have hw := hw.2
  exact zt_iret hx hb hr hlk hI hw dX5_save_23
theorem hdT_save : yX5_save.cls = RX5 ∧ yX5_save.cls ≠ "java/lang/invoke/MethodHandle" ∧ yX5_save.cls ≠ "java/lang/invoke/VarHandle" ∧ (parseMethodDescriptor yX5_save.desc).map (fun d => d.parameters.length) = some 0 := by decide +kernel
def zw_restore_13 (post : Int32 → zt_S → Prop) (t0 : Int32) (S : zt_S) : Prop :=
  ∀ S_2 : zt_S, S_2 = zt_us S 0 0 t0 → ((S_2 0 0 = (0 : Int32) → (zw_copies (7 : Int32) (0 : Int32) S_2 (fun (S_4 : zt_S) => ∀ S_5 : zt_S, S_5 = zt_us S_4 0 2 (0 : Int32) → (vp_in (5 : Int32) 3810 ∧ (post (S_5 1 (5 : Int32).toNatClampNeg) S_5))))) ∧ (¬ S_2 0 0 = (0 : Int32) → (post (0 : Int32) S_2)))
set_option maxHeartbeats 4000000 in
theorem zj_restore_13 {p : Program} {l : Launch} {e : Env} {s : State} {m : MethodId} {args : Array Value} {below : List Frame} {meth : Method} {c : Code} {H : Heap} {locs : List Loc} {ls : Array Slot} (g : zt_G) (post : Int32 → zt_S → Prop) (t0 : Int32) (S : zt_S) (hC : zt_C p s m args meth c cX5_restore 1 (some .int)) (hw : zw_restore_13 post t0 S) (hI : zt_I g S s H locs) (hl : lv_has ls 1 [(0, .ref g.2.1)]) : W p l e ({ frames := 1, cells := 0, slots := 0, locals := 23 } : Room) s m args below meth c H locs 0 0 (MQ below (va_Qi post (zt_B g) (zt_A g)) args s 0 0 (zt_A g)) (F0 m 13 ls [.int t0, .ref g.2.1]) := by
  obtain ⟨hx, hb, hml, hown, hts, hr, hlk⟩ := hC
  unfold zw_restore_13 at hw
  refine zt_put hx hb hts hown hI 0 (v := t0) (ty := .int) (by decide) q3632 rfl rfl (by decide +kernel) rfl rfl rfl dX5_restore_13 (fun H locs hI => ?_)
  obtain ⟨S_2, eS_2⟩ : ∃ z, z = zt_us S 0 0 t0 := ⟨_, rfl⟩
  rw [← eS_2] at hI
  have hw := hw S_2 eS_2
  refine lv_aload_n hx hb dX5_restore_16 rfl (lv_at hl 0 rfl) ?_
  refine zt_get hx hb hts hown hI 0 (v := .int (S_2 0 0)) (by decide) q3632 rfl rfl dX5_restore_17 ?_
  refine lv_if_eq (tgt := 25) hx hb dX5_restore_20 (by decide) (fun hc_3 => ?_) (fun hc_3 => ?_)
  · have hw := hw.1 hc_3
    refine lv_aload_n hx hb dX5_restore_25 rfl (lv_at hl 0 rfl) ?_
    refine lv_bipush (v := 7) hx hb dX5_restore_26 (by decide) ?_
    refine lv_iconst (v := 0) hx hb dX5_restore_28 (by decide) ?_
    refine zt_callv (As := [.int (7 : Int32), .int (0 : Int32)]) (rest := []) ⟨hx, hb, hml, hown, hts⟩ hI (zm_copies l g (7 : Int32) (0 : Int32) S_2 _ hw) (cwV 2 hts (lw_V q3704 q3706 qs40 q113 q3707) rfl rfl rfl hdT_copies ⟨Nat.le_of_ble_eq_true rfl, Nat.le_of_ble_eq_true rfl⟩) rfl hl.1 rfl (lv_room (Nat.le_of_ble_eq_true rfl)) dX5_restore_29 ⟨Nat.le_refl _, Nat.le_refl _⟩ (fun S_4 H locs hw hI => ?_)
    refine lv_aload_n hx hb dX5_restore_32 rfl (lv_at hl 0 rfl) ?_
    refine lv_iconst (v := 0) hx hb dX5_restore_33 (by decide) ?_
    refine zt_put hx hb hts hown hI 2 (v := (0 : Int32)) (ty := .int) (by decide) q3634 rfl rfl (by decide +kernel) rfl rfl rfl dX5_restore_34 (fun H locs hI => ?_)
    obtain ⟨S_5, eS_5⟩ : ∃ z, z = zt_us S_4 0 2 (0 : Int32) := ⟨_, rfl⟩
    rw [← eS_5] at hI
    have hw := hw S_5 eS_5
    refine lv_aload_n hx hb dX5_restore_37 rfl (lv_at hl 0 rfl) ?_
    refine zt_get hx hb hts hown hI 1 (v := .ref g.2.2.1) (by decide) q3633 rfl rfl dX5_restore_38 ?_
    refine lv_iconst (v := 5) hx hb dX5_restore_41 (by decide) ?_
    refine zt_ld1 hx hb hI hw.1 dX5_restore_42 ?_
    have hw := hw.2
    exact zt_iret hx hb hr hlk hI hw dX5_restore_43
  · have hw := hw.2 hc_3
    refine lv_iconst (v := 0) hx hb dX5_restore_23 (by decide) ?_
    exact zt_iret hx hb hr hlk hI hw dX5_restore_24
def zw_restore (S : zt_S) (post : Int32 → zt_S → Prop) : Prop :=
  (S 0 3 = (0 : Int32) → (zw_restore_13 post (1 : Int32) S)) ∧ (¬ S 0 3 = (0 : Int32) → (zw_restore_13 post (0 : Int32) S))
set_option maxHeartbeats 4000000 in
theorem zm_restore (l : Launch) (g : zt_G) (S : zt_S) (post : Int32 → zt_S → Prop) (hw : zw_restore S post) : Met l yX5_restore (ws_ yX5_restore cX5_restore 1 (some .int)) ({ frames := 1, cells := 0, slots := 0, locals := 23 } : Room) (va_Pc (.ref g.2.1 :: []) (zt_B g S)) (va_Qi post (zt_B g) (zt_A g)) 0 0 (zt_A g) := by
  refine zt_met (by decide) rfl (Nat.le_of_ble_eq_true rfl) (fun p e s m below meth c ls hC hI hl => ?_)
  generalize (Value.ref g.2.1 :: ([] : List Value)).toArray = args at hC ⊢
  obtain ⟨hx, hb, hml, hown, hts, hr, hlk⟩ := hC
  have hl : lv_has ls 1 [(0, .ref g.2.1)] := hl
  unfold zw_restore at hw
  obtain ⟨H, eH⟩ : ∃ z, z = s.heap := ⟨_, rfl⟩
  obtain ⟨locs, elo⟩ : ∃ z : List Loc, z = [] := ⟨_, rfl⟩
  rw [← eH, ← elo] at hI ⊢
  refine lv_aload_n hx hb dX5_restore_0 rfl (lv_at hl 0 rfl) ?_
  refine lv_aload_n hx hb dX5_restore_1 rfl (lv_at hl 0 rfl) ?_
  refine zt_get hx hb hts hown hI 3 (v := .int (S 0 3)) (by decide) q3635 rfl rfl dX5_restore_2 ?_
  refine lv_if_eq (tgt := 12) hx hb dX5_restore_5 (by decide) (fun hc_1 => ?_) (fun hc_1 => ?_)
  · have hw := hw.1 hc_1
    refine lv_iconst (v := 1) hx hb dX5_restore_12 (by decide) ?_
    exact zj_restore_13 g post (1 : Int32) S ⟨hx, hb, hml, hown, hts, hr, hlk⟩ hw hI (lv_sub hl [0] rfl)
  · have hw := hw.2 hc_1
    refine lv_iconst (v := 0) hx hb dX5_restore_8 (by decide) ?_
    refine lv_goto (tgt := 13) hx hb dX5_restore_9 (by decide) ?_
    exact zj_restore_13 g post (0 : Int32) S ⟨hx, hb, hml, hown, hts, hr, hlk⟩ hw hI (lv_sub hl [0] rfl)
theorem hdT_restore : yX5_restore.cls = RX5 ∧ yX5_restore.cls ≠ "java/lang/invoke/MethodHandle" ∧ yX5_restore.cls ≠ "java/lang/invoke/VarHandle" ∧ (parseMethodDescriptor yX5_restore.desc).map (fun d => d.parameters.length) = some 0 := by decide +kernel
