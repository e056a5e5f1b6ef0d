set_option maxRecDepth 100000
def gw_J13_copyOfRangeByte (K : ga_K) (p0 : Option Nat) (p1 : Int32) (p2 : Int32) (h : ga_H) (mc ms : Nat) (post : Option Nat → ga_H → Prop) : Prop :=
  ∃ kc_1 ks_2 : Nat, kc_1 ≤ mc ∧ ks_2 ≤ ms ∧ gw_J13_checkLength K p1 p2 h kc_1 ks_2 (fun (h_3 : ga_H) => ¬ (p2 - p1) < 0 ∧ (p2 - p1).toNatClampNeg ≤ 1000000 ∧ 1 ≤ (mc - kc_1) ∧ (p2 - p1).toNatClampNeg ≤ (ms - ks_2) ∧ ∀ q_4 : Nat, h_3 q_4 = none → ∀ h_5 : ga_H, h_5 = ga_set h_3 q_4 (ga_Ab ((p2 - p1).toNatClampNeg) (fun _ => 0)) → (∃ a_6 : Nat, p0 = some a_6 ∧ ∃ (n_7 : Nat) (f_8 : Nat → Int32), ga_at K h_5 a_6 (ga_Ab n_7 f_8) ∧ (∀ r_9 : Int32, r_9 = (if (p2 - p1) < ((nI n_7) - p1) then (p2 - p1) else ((nI n_7) - p1)) → (∃ (n_10 : Nat) (f_11 : Nat → Int32) (n_12 : Nat) (f_13 : Nat → Int32), ga_at K h_5 a_6 (ga_Ab n_10 f_11) ∧ h_5 q_4 = some (ga_Ab n_12 f_13) ∧ ¬ p1 < 0 ∧ ¬ (0 : Int32) < 0 ∧ ¬ r_9 < 0 ∧ p1.toNatClampNeg + r_9.toNatClampNeg ≤ n_10 ∧ (0 : Int32).toNatClampNeg + r_9.toNatClampNeg ≤ n_12 ∧ (∀ i : Nat, i < r_9.toNatClampNeg → fits .byte (.int (f_11 (p1.toNatClampNeg + i))) = true) ∧ ∀ h_14 : ga_H, h_14 = ga_set h_5 q_4 (ga_Ab n_12 (va_cpy f_11 f_13 p1.toNatClampNeg (0 : Int32).toNatClampNeg r_9.toNatClampNeg)) → (post (some q_4) h_14)))))
set_option maxHeartbeats 4000000 in
theorem gm_J13_copyOfRangeByte (l : Launch) (g : ga_G) (p0 : Option Nat) (p1 : Int32) (p2 : Int32) (h : ga_H) (mc ms : Nat) (post : Option Nat → ga_H → Prop) (hw : gw_J13_copyOfRangeByte g.2.2 p0 p1 p2 h mc ms post) : Met l yJ13_copyOfRangeByte (ws_ yJ13_copyOfRangeByte cJ13_copyOfRangeByte 5 (some (.array .byte))) ({ frames := 15, cells := mc, slots := ms, locals := 296 } : Room) (va_Pc [va_rf p0, .int p1, .int p2] (ga_B g h)) (va_Qq post (ga_E g) (ga_A g)) mc ms (ga_A g) := by
  refine ga_met (own := "java/util/Arrays") (nm := "copyOfRangeByte") (by decide) rfl rfl (by cases p0 <;> exact Nat.le_of_ble_eq_true rfl) (fun p e s m below meth c ls hC hI hl => ?_)
  have hl : lv_has ls 5 [(0, va_rf p0), (1, .int p1), (2, .int p2)] := (by cases p0 <;> exact hl)
  generalize ([va_rf p0, .int p1, .int p2] : List Value).toArray = args at hC ⊢
  obtain ⟨hx, hb, hml, hown, hts, hr, hlk, hnm⟩ := hC
  unfold gw_J13_copyOfRangeByte at hw
  obtain ⟨H, eH⟩ : ∃ z, z = s.heap := ⟨_, rfl⟩
  obtain ⟨locs, elo⟩ : ∃ z : List Loc, z = [] := ⟨_, rfl⟩
  rw [← eH, ← elo] at hI ⊢
  obtain ⟨cells, slots, hbc, hbs, e0, e1⟩ : ∃ a b : Nat, a + mc ≤ mc ∧ b + ms ≤ ms ∧ a = 0 ∧ b = 0 := ⟨0, 0, by omega, by omega, rfl, rfl⟩
  show W p l e ({ frames := 15, cells := mc, slots := ms, locals := 296 } : Room) s m args below meth c H locs 0 0 (MQ below (va_Qq post (ga_E g) (ga_A g)) args s mc ms (ga_A g)) (F0 m 0 ls [])
  suffices hgoal : W p l e ({ frames := 15, cells := mc, slots := ms, locals := 296 } : Room) s m args below meth c H locs cells slots (MQ below (va_Qq post (ga_E g) (ga_A g)) args s mc ms (ga_A g)) (F0 m 0 ls []) by rw [e0, e1] at hgoal; exact hgoal
  refine lv_iload_n hx hb dJ13_copyOfRangeByte_0 rfl (lv_at hl 1 rfl) ?_
  refine lv_iload_n hx hb dJ13_copyOfRangeByte_1 rfl (lv_at hl 2 rfl) ?_
  obtain ⟨kc_1, ks_2, hk1, hk2, hw⟩ := hw
  refine ga_callv (va_runS (As := [.int p1, .int p2]) (rest := []) ⟨hx, hb, hml, hown, hts⟩ (gm_J13_checkLength l g p1 p2 h kc_1 ks_2 _ hw) (va_cwS 2 hts (lw_S q1049 q1050 q118 q1051) rfl rfl rfl hdG_J13_checkLength ⟨Nat.le_of_ble_eq_true rfl, Nat.le_of_ble_eq_true rfl⟩) (ga_preS hI rfl) rfl rfl hl.1 rfl (ga_room (Nat.le_of_ble_eq_true rfl)) dJ13_copyOfRangeByte_2 ⟨Nat.le_trans (Nat.add_le_add_left hk1 _) hbc, Nat.le_trans (Nat.add_le_add_left hk2 _) hbs⟩) hI hbc hbs hk1 hk2 (fun h_3 H locs cells slots hw hI hbc hbs => ?_)
  refine lv_iload_n hx hb dJ13_copyOfRangeByte_5 rfl (lv_at hl 2 rfl) ?_
  refine lv_iload_n hx hb dJ13_copyOfRangeByte_6 rfl (lv_at hl 1 rfl) ?_
  refine lv_isub hx hb dJ13_copyOfRangeByte_7 ?_
  refine lv_istore_n (i := 3) (lv' := [(3, .int (p2 - p1)), (0, va_rf p0), (1, .int p1), (2, .int p2)]) hx hb dJ13_copyOfRangeByte_8 rfl hl (by decide) rfl (fun ls hl => ?_)
  refine lv_iload_n hx hb dJ13_copyOfRangeByte_9 rfl (lv_at hl 0 rfl) ?_
  refine ga_nab hx hb hts hI q386 hbc hbs hw.1 (N := (p2 - p1).toNatClampNeg) rfl hw.2.1 hw.2.2.1 hw.2.2.2.1 dJ13_copyOfRangeByte_10 (fun q_4 H cells slots hn_q_4 hI hbc hbs => ?_)
  obtain ⟨h_5, eh_5⟩ : ∃ z, z = ga_set h_3 q_4 (ga_Ab ((p2 - p1).toNatClampNeg) (fun _ => 0)) := ⟨_, rfl⟩
  rw [← eh_5] at hI
  have hw := hw.2.2.2.2 q_4 hn_q_4 h_5 eh_5
  refine lv_astore (lv' := [(4, .ref q_4), (3, .int (p2 - p1)), (0, va_rf p0), (1, .int p1), (2, .int p2)]) hx hb dJ13_copyOfRangeByte_12 hl (by decide) rfl (fun ls hl => ?_)
  refine ga_aload_n hx hb dJ13_copyOfRangeByte_14 rfl (lv_at hl 2 rfl) ?_
  refine lv_iload_n hx hb dJ13_copyOfRangeByte_15 rfl (lv_at hl 3 rfl) ?_
  refine lv_aload hx hb dJ13_copyOfRangeByte_16 (lv_at hl 0 rfl) ?_
  refine lv_iconst (v := 0) hx hb dJ13_copyOfRangeByte_18 (by decide) ?_
  refine ga_aload_n hx hb dJ13_copyOfRangeByte_19 rfl (lv_at hl 2 rfl) ?_
  obtain ⟨a_6, ea_6, hw⟩ := hw
  rewrite [ea_6]
  obtain ⟨n_7, f_8, hq, hw⟩ := hw
  refine ga_len hx hb hI hq rfl dJ13_copyOfRangeByte_20 ?_
  refine lv_iload_n hx hb dJ13_copyOfRangeByte_21 rfl (lv_at hl 3 rfl) ?_
  refine lv_isub hx hb dJ13_copyOfRangeByte_22 ?_
  refine lv_iload_n hx hb dJ13_copyOfRangeByte_23 rfl (lv_at hl 1 rfl) ?_
  refine va_mmin hx hb (hml.trans hl.1.symm) hown (hts _ q520) (hts _ q521) (hts _ q119) (hts _ q522) (Nat.le_of_ble_eq_true rfl) (Nat.le_trans (Nat.add_le_add_right (ga_sum [.int (0 : Int32), .ref q_4, .int p1, .ref a_6] (Nat.le_of_ble_eq_true rfl)) _) (Nat.le_of_ble_eq_true rfl)) (Nat.le_trans (Nat.le_add_right _ _) hbc) (Nat.le_trans (Nat.le_add_right _ _) hbs) dJ13_copyOfRangeByte_24 ?_
  refine lv_topi (fun r_9 er_9 => ?_)
  have hw := hw r_9 er_9
  obtain ⟨n_10, f_11, n_12, f_13, hq0, hq1, k1, k2, k3, k4, k5, k6, hw⟩ := hw
  refine ga_copyb hx hb (hml.trans hl.1.symm) hts hown q523 hI hq0 hq1 k1 k2 k3 k4 k5 k6 (Nat.le_of_ble_eq_true rfl) (Nat.le_trans (Nat.add_le_add_right (ga_sum [] (Nat.le_of_ble_eq_true rfl)) _) (show (8 : Nat) + (nativeFrameWords "java/lang/System" "arraycopy" 5 + 11) ≤ 296 by decide +kernel)) dJ13_copyOfRangeByte_27 (fun H locs hI => ?_)
  obtain ⟨h_14, eh_14⟩ : ∃ z, z = ga_set h_5 q_4 (ga_Ab n_12 (va_cpy f_11 f_13 p1.toNatClampNeg (0 : Int32).toNatClampNeg r_9.toNatClampNeg)) := ⟨_, rfl⟩
  rw [← eh_14] at hI
  have hw := hw h_14 eh_14
  refine lv_aload hx hb dJ13_copyOfRangeByte_30 (lv_at hl 0 rfl) ?_
  exact ga_qret (v := (some q_4)) hx hb hr (Or.inr ⟨_, rfl⟩) hlk hI hw (Nat.le_trans (Nat.le_add_right _ _) hbc) (Nat.le_trans (Nat.le_add_right _ _) hbs) dJ13_copyOfRangeByte_32
theorem hdG_J13_copyOfRangeByte : yJ13_copyOfRangeByte.cls ≠ "java/lang/invoke/MethodHandle" ∧ yJ13_copyOfRangeByte.cls ≠ "java/lang/invoke/VarHandle" ∧ (parseMethodDescriptor yJ13_copyOfRangeByte.desc).map (fun d => d.parameters.length) = some 3 := by decide +kernel
def gw_J13_copyOfRange_10 (K : ga_K) (post : Option Nat → ga_H → Prop) (v0 : Option Nat) (v1 : Int32) (v2 : Int32) (h : ga_H) (bc bs : Nat) : Prop :=
  ∃ kc_2 ks_3 : Nat, kc_2 ≤ bc ∧ ks_3 ≤ bs ∧ gw_J13_copyOfRangeByte K v0 v1 v2 h kc_2 ks_3 (fun (r_5 : Option Nat) (h_4 : ga_H) => post r_5 h_4)
set_option maxHeartbeats 4000000 in
theorem gj_J13_copyOfRange_10 {p : Program} {l : Launch} {e : Env} {s : State} {m : MethodId} {args : Array Value} {below : List Frame} {meth : Method} {c : Code} {mc ms : Nat} {H : Heap} {locs : List Loc} {cells slots : Nat} {ls : Array Slot} (g : ga_G) (post : Option Nat → ga_H → Prop) (v0 : Option Nat) (v1 : Int32) (v2 : Int32) (h : ga_H) (bc bs : Nat) (hC : ga_Cx p s m args meth c cJ13_copyOfRange 3 (some (.array .byte)) "java/util/Arrays" "copyOfRange") (hw : gw_J13_copyOfRange_10 g.2.2 post v0 v1 v2 h bc bs) (hI : ga_I g h s H locs) (hbc : cells + bc ≤ mc) (hbs : slots + bs ≤ ms) (hl : lv_has ls 3 [(0, va_rf v0), (1, .int v1), (2, .int v2)]) : W p l e ({ frames := 16, cells := mc, slots := ms, locals := 320 } : Room) s m args below meth c H locs cells slots (MQ below (va_Qq post (ga_E g) (ga_A g)) args s mc ms (ga_A g)) (F0 m 10 ls []) := by
  obtain ⟨hx, hb, hml, hown, hts, hr, hlk, hnm⟩ := hC
  unfold gw_J13_copyOfRange_10 at hw
  refine ga_aload_n hx hb dJ13_copyOfRange_10 rfl (lv_at hl 0 rfl) ?_
  refine lv_iload_n hx hb dJ13_copyOfRange_11 rfl (lv_at hl 1 rfl) ?_
  refine lv_iload_n hx hb dJ13_copyOfRange_12 rfl (lv_at hl 2 rfl) ?_
  obtain ⟨kc_2, ks_3, hk1, hk2, hw⟩ := hw
  refine ga_callq (va_runS (As := [va_rf v0, .int v1, .int v2]) (rest := []) ⟨hx, hb, hml, hown, hts⟩ (gm_J13_copyOfRangeByte l g v0 v1 v2 h kc_2 ks_3 _ hw) (va_cwS 3 hts (lw_S q1046 q1047 q118 q1048) rfl rfl rfl hdG_J13_copyOfRangeByte ⟨Nat.le_of_ble_eq_true rfl, Nat.le_of_ble_eq_true rfl⟩) (ga_preS hI rfl) rfl rfl hl.1 rfl (ga_room (Nat.le_of_ble_eq_true rfl)) dJ13_copyOfRange_13 ⟨Nat.le_trans (Nat.add_le_add_left hk1 _) hbc, Nat.le_trans (Nat.add_le_add_left hk2 _) hbs⟩) hI hbc hbs hk1 hk2 (fun r_5 h_4 H locs cells slots hw hI hbc hbs => ?_)
  exact ga_qret (v := r_5) hx hb hr (Or.inr ⟨_, rfl⟩) hlk hI hw (Nat.le_trans (Nat.le_add_right _ _) hbc) (Nat.le_trans (Nat.le_add_right _ _) hbs) dJ13_copyOfRange_16
def gw_J13_copyOfRange (K : ga_K) (p0 : Option Nat) (p1 : Int32) (p2 : Int32) (h : ga_H) (mc ms : Nat) (post : Option Nat → ga_H → Prop) : Prop :=
  (¬ p1 = (0 : Int32) → (gw_J13_copyOfRange_10 K post p0 p1 p2 h mc ms)) ∧ (p1 = (0 : Int32) → (∃ a_6 : Nat, p0 = some a_6 ∧ ∃ (n_7 : Nat) (f_8 : Nat → Int32), ga_at K h a_6 (ga_Ab n_7 f_8) ∧ ((p2 = nI n_7 → False) ∧ (¬ p2 = nI n_7 → (gw_J13_copyOfRange_10 K post p0 p1 p2 h mc ms)))))
set_option maxHeartbeats 4000000 in
theorem gm_J13_copyOfRange (l : Launch) (g : ga_G) (p0 : Option Nat) (p1 : Int32) (p2 : Int32) (h : ga_H) (mc ms : Nat) (post : Option Nat → ga_H → Prop) (hw : gw_J13_copyOfRange g.2.2 p0 p1 p2 h mc ms post) : Met l yJ13_copyOfRange (ws_ yJ13_copyOfRange cJ13_copyOfRange 3 (some (.array .byte))) ({ frames := 16, cells := mc, slots := ms, locals := 320 } : Room) (va_Pc [va_rf p0, .int p1, .int p2] (ga_B g h)) (va_Qq post (ga_E g) (ga_A g)) mc ms (ga_A g) := by
  refine ga_met (own := "java/util/Arrays") (nm := "copyOfRange") (by decide) rfl rfl (by cases p0 <;> exact Nat.le_of_ble_eq_true rfl) (fun p e s m below meth c ls hC hI hl => ?_)
  have hl : lv_has ls 3 [(0, va_rf p0), (1, .int p1), (2, .int p2)] := (by cases p0 <;> exact hl)
  generalize ([va_rf p0, .int p1, .int p2] : List Value).toArray = args at hC ⊢
  obtain ⟨hx, hb, hml, hown, hts, hr, hlk, hnm⟩ := hC
  unfold gw_J13_copyOfRange at hw
  obtain ⟨H, eH⟩ : ∃ z, z = s.heap := ⟨_, rfl⟩
  obtain ⟨locs, elo⟩ : ∃ z : List Loc, z = [] := ⟨_, rfl⟩
  rw [← eH, ← elo] at hI ⊢
  obtain ⟨cells, slots, hbc, hbs, e0, e1⟩ : ∃ a b : Nat, a + mc ≤ mc ∧ b + ms ≤ ms ∧ a = 0 ∧ b = 0 := ⟨0, 0, by omega, by omega, rfl, rfl⟩
  show W p l e ({ frames := 16, cells := mc, slots := ms, locals := 320 } : Room) s m args below meth c H locs 0 0 (MQ below (va_Qq post (ga_E g) (ga_A g)) args s mc ms (ga_A g)) (F0 m 0 ls [])
  suffices hgoal : W p l e ({ frames := 16, cells := mc, slots := ms, locals := 320 } : Room) s m args below meth c H locs cells slots (MQ below (va_Qq post (ga_E g) (ga_A g)) args s mc ms (ga_A g)) (F0 m 0 ls []) by rw [e0, e1] at hgoal; exact hgoal
  refine lv_iload_n hx hb dJ13_copyOfRange_0 rfl (lv_at hl 1 rfl) ?_
  refine lv_if_ne (tgt := 10) hx hb dJ13_copyOfRange_1 (by decide) (fun hc_1 => ?_) (fun hc_1 => ?_)
  · have hw := hw.1 hc_1
    exact gj_J13_copyOfRange_10 g post p0 p1 p2 h mc ms ⟨hx, hb, hml, hown, hts, hr, hlk, hnm⟩ hw hI hbc hbs (lv_sub hl [0, 1, 2] rfl)
  · have hw := hw.2 hc_1
    refine lv_iload_n hx hb dJ13_copyOfRange_4 rfl (lv_at hl 2 rfl) ?_
    refine ga_aload_n hx hb dJ13_copyOfRange_5 rfl (lv_at hl 0 rfl) ?_
    obtain ⟨a_6, ea_6, hw⟩ := hw
    rewrite [ea_6]
    obtain ⟨n_7, f_8, hq, hw⟩ := hw
    refine ga_len hx hb hI hq rfl dJ13_copyOfRange_6 ?_
    refine lv_icmp_eq (tgt := 17) hx hb dJ13_copyOfRange_7 (by decide) (fun hc_9 => ?_) (fun hc_9 => ?_)
    · have hw := hw.1 hc_9
      exact hw.elim
    · have hw := hw.2 hc_9
      exact gj_J13_copyOfRange_10 g post p0 p1 p2 h mc ms ⟨hx, hb, hml, hown, hts, hr, hlk, hnm⟩ hw hI hbc hbs (lv_sub hl [0, 1, 2] rfl)
theorem hdG_J13_copyOfRange : yJ13_copyOfRange.cls ≠ "java/lang/invoke/MethodHandle" ∧ yJ13_copyOfRange.cls ≠ "java/lang/invoke/VarHandle" ∧ (parseMethodDescriptor yJ13_copyOfRange.desc).map (fun d => d.parameters.length) = some 3 := by decide +kernel
def gw_J7_init_2 (K : ga_K) (p0 : Nat) (p1 : Option Nat) (p2 : Option Nat) (h : ga_H) (mc ms : Nat) (post : ga_H → Prop) : Prop :=
  ∃ a_1 : Nat, p1 = some a_1 ∧ ∃ fs_2 : List Value, ga_at K h a_1 (ga_O 22 fs_2) ∧ gw_J5_getValue K a_1 h (fun (r_4 : Option Nat) (h_3 : ga_H) => ∃ a_5 : Nat, p1 = some a_5 ∧ ∃ fs_6 : List Value, ga_at K h_3 a_5 (ga_O 22 fs_6) ∧ gw_J6_length K a_5 h_3 (fun (r_8 : Int32) (h_7 : ga_H) => ∃ a_9 : Nat, p1 = some a_9 ∧ ∃ fs_10 : List Value, ga_at K h_7 a_9 (ga_O 22 fs_10) ∧ gw_J5_isLatin1 K a_9 h_7 (fun (r_12 : Int32) (h_11 : ga_H) => (r_12 = (0 : Int32) → False) ∧ (¬ r_12 = (0 : Int32) → (∃ fs_15 : List Value, h_11 p0 = some (ga_O 23 fs_15) ∧ 1 < fs_15.length ∧ ∀ h_16 : ga_H, h_16 = ga_set h_11 p0 (ga_O 23 (fs_15.set 1 (.int (0 : Int32)))) → (∃ kc_17 ks_18 : Nat, kc_17 ≤ mc ∧ ks_18 ≤ ms ∧ gw_J13_copyOfRange K r_4 (0 : Int32) r_8 h_16 kc_17 ks_18 (fun (r_20 : Option Nat) (h_19 : ga_H) => ∃ fs_21 : List Value, h_19 p0 = some (ga_O 23 fs_21) ∧ 0 < fs_21.length ∧ ∀ h_22 : ga_H, h_22 = ga_set h_19 p0 (ga_O 23 (fs_21.set 0 (va_rf r_20))) → (post h_22))))))))
set_option maxHeartbeats 4000000 in
theorem gm_J7_init_2 (l : Launch) (g : ga_G) (p0 : Nat) (p1 : Option Nat) (p2 : Option Nat) (h : ga_H) (mc ms : Nat) (post : ga_H → Prop) (hw : gw_J7_init_2 g.2.2 p0 p1 p2 h mc ms post) : Met l yJ7_init_2 (ws_ yJ7_init_2 cJ7_init_2 5 none) ({ frames := 17, cells := mc, slots := ms, locals := 342 } : Room) (va_Pc [.ref p0, va_rf p1, va_rf p2] (ga_B g h)) (va_Qv post (ga_E g) (ga_A g)) mc ms (ga_A g) := by
  refine ga_met (own := "java/lang/String") (nm := "<init>") (by decide) rfl rfl (by cases p1 <;> cases p2 <;> exact Nat.le_of_ble_eq_true rfl) (fun p e s m below meth c ls hC hI hl => ?_)
  have hl : lv_has ls 5 [(0, .ref p0), (1, va_rf p1), (2, va_rf p2)] := (by cases p1 <;> cases p2 <;> exact hl)
  generalize ([.ref p0, va_rf p1, va_rf p2] : List Value).toArray = args at hC ⊢
  obtain ⟨hx, hb, hml, hown, hts, hr, hlk, hnm⟩ := hC
  unfold gw_J7_init_2 at hw
  obtain ⟨H, eH⟩ : ∃ z, z = s.heap := ⟨_, rfl⟩
  obtain ⟨locs, elo⟩ : ∃ z : List Loc, z = [] := ⟨_, rfl⟩
  rw [← eH, ← elo] at hI ⊢
  obtain ⟨cells, slots, hbc, hbs, e0, e1⟩ : ∃ a b : Nat, a + mc ≤ mc ∧ b + ms ≤ ms ∧ a = 0 ∧ b = 0 := ⟨0, 0, by omega, by omega, rfl, rfl⟩
  show W p l e ({ frames := 17, cells := mc, slots := ms, locals := 342 } : Room) s m args below meth c H locs 0 0 (MQ below (va_Qv post (ga_E g) (ga_A g)) args s mc ms (ga_A g)) (F0 m 0 ls [])
  suffices hgoal : W p l e ({ frames := 17, cells := mc, slots := ms, locals := 342 } : Room) s m args below meth c H locs cells slots (MQ below (va_Qv post (ga_E g) (ga_A g)) args s mc ms (ga_A g)) (F0 m 0 ls []) by rw [e0, e1] at hgoal; exact hgoal
  refine lv_aload_n hx hb dJ7_init_2_0 rfl (lv_at hl 0 rfl) ?_
  refine W.objInit hx hb hown (hts _ q1028) (hts _ q179) (hts _ q180) rfl (by rw [hml]; exact hl.1) rfl dJ7_init_2_1 (Nat.le_of_ble_eq_true rfl) (by have := ga_sum [] (Nat.le_of_ble_eq_true rfl); exact Nat.le_trans (Nat.add_le_add_right (Nat.add_le_add_left this 0) 12) (Nat.le_of_ble_eq_true rfl)) ?_
  refine W.eq (g2 := F0 m 4 ls []) rfl ?_
  refine ga_aload_n hx hb dJ7_init_2_4 rfl (lv_at hl 1 rfl) ?_
  obtain ⟨a_1, ea_1, hw⟩ := hw
  rewrite [ea_1]
  obtain ⟨fs_2, hq, hw⟩ := hw
  refine ga_callq (va_runU (As := []) (rest := []) ⟨hx, hb, hml, hown, hts⟩ (gm_J5_getValue l g a_1 h _ hw) (va_cwU 0 hts (lw_app (List.forall_mem_cons.mpr ⟨q1029, List.forall_mem_cons.mpr ⟨q1031, List.forall_mem_cons.mpr ⟨q1032, List.forall_mem_cons.mpr ⟨q1030, List.forall_mem_cons.mpr ⟨q109, fun _ h => absurd h List.not_mem_nil⟩⟩⟩⟩⟩) (lw_meth q1033)) rfl rfl rfl rfl hdG_J5_getValue ⟨Nat.le_of_ble_eq_true rfl, Nat.le_of_ble_eq_true rfl⟩) (ga_preV (C := "java/lang/StringBuilder") hI hq rfl rfl) rfl rfl hl.1 rfl (ga_room (Nat.le_of_ble_eq_true rfl)) dJ7_init_2_5 ⟨Nat.le_trans (Nat.add_le_add_left (Nat.zero_le _) _) hbc, Nat.le_trans (Nat.add_le_add_left (Nat.zero_le _) _) hbs⟩) hI hbc hbs (Nat.zero_le _) (Nat.zero_le _) (fun r_4 h_3 H locs cells slots hw hI hbc hbs => ?_)
  refine ga_astore_n (i := 3) (x := r_4) (lv' := [(3, va_rf r_4), (0, .ref p0), (1, va_rf p1), (2, va_rf p2)]) hx hb dJ7_init_2_8 rfl hl (by decide) (by simp [ga_rcat, ga_cat_r, ga_cat_i, ga_cat_f, ga_cat_l, ga_cat_d]) (fun ls hl => ?_)
  refine ga_aload_n hx hb dJ7_init_2_9 rfl (lv_at hl 2 rfl) ?_
  obtain ⟨a_5, ea_5, hw⟩ := hw
  rewrite [ea_5]
  obtain ⟨fs_6, hq, hw⟩ := hw
  refine ga_calli (va_runU (As := []) (rest := []) ⟨hx, hb, hml, hown, hts⟩ (gm_J6_length l g a_5 h_3 _ hw) (va_cwO 0 hts (lw_app (List.forall_mem_cons.mpr ⟨q1034, List.forall_mem_cons.mpr ⟨q1036, List.forall_mem_cons.mpr ⟨q1035, List.forall_mem_cons.mpr ⟨q1037, List.forall_mem_cons.mpr ⟨q1038, List.forall_mem_cons.mpr ⟨q110, fun _ h => absurd h List.not_mem_nil⟩⟩⟩⟩⟩⟩) (lw_meth q1039)) rfl rfl rfl q1041 (by decide +kernel) ⟨Nat.le_of_ble_eq_true rfl, Nat.le_of_ble_eq_true rfl⟩) (ga_preV (C := "java/lang/StringBuilder") hI hq rfl rfl) rfl rfl hl.1 rfl (ga_room (Nat.le_of_ble_eq_true rfl)) dJ7_init_2_10 ⟨Nat.le_trans (Nat.add_le_add_left (Nat.zero_le _) _) hbc, Nat.le_trans (Nat.add_le_add_left (Nat.zero_le _) _) hbs⟩) hI hbc hbs (Nat.zero_le _) (Nat.zero_le _) (fun r_8 h_7 H locs cells slots hw hI hbc hbs => ?_)
  refine lv_istore (lv' := [(4, .int r_8), (3, va_rf r_4), (0, .ref p0), (1, va_rf p1), (2, va_rf p2)]) hx hb dJ7_init_2_13 hl (by decide) (by simp [ga_rcat, ga_cat_r, ga_cat_i, ga_cat_f, ga_cat_l, ga_cat_d]) (fun ls hl => ?_)
  refine ga_aload_n hx hb dJ7_init_2_15 rfl (lv_at hl 3 rfl) ?_
  obtain ⟨a_9, ea_9, hw⟩ := hw
  rewrite [ea_9]
  obtain ⟨fs_10, hq, hw⟩ := hw
  refine ga_calli (va_runU (As := []) (rest := []) ⟨hx, hb, hml, hown, hts⟩ (gm_J5_isLatin1 l g a_9 h_7 _ hw) (va_cwU 0 hts (lw_app (List.forall_mem_cons.mpr ⟨q1042, List.forall_mem_cons.mpr ⟨q918, List.forall_mem_cons.mpr ⟨q919, List.forall_mem_cons.mpr ⟨q917, List.forall_mem_cons.mpr ⟨q109, fun _ h => absurd h List.not_mem_nil⟩⟩⟩⟩⟩) (lw_meth q920)) rfl rfl rfl rfl hdG_J5_isLatin1 ⟨Nat.le_of_ble_eq_true rfl, Nat.le_of_ble_eq_true rfl⟩) (ga_preV (C := "java/lang/StringBuilder") hI hq rfl rfl) rfl rfl hl.1 rfl (ga_room (Nat.le_of_ble_eq_true rfl)) dJ7_init_2_16 ⟨Nat.le_trans (Nat.add_le_add_left (Nat.zero_le _) _) hbc, Nat.le_trans (Nat.add_le_add_left (Nat.zero_le _) _) hbs⟩) hI hbc hbs (Nat.zero_le _) (Nat.zero_le _) (fun r_12 h_11 H locs cells slots hw hI hbc hbs => ?_)
  refine lv_if_eq (tgt := 41) hx hb dJ7_init_2_19 (by decide) (fun hc_13 => ?_) (fun hc_13 => ?_)
  · have hw := hw.1 hc_13
    exact hw.elim
  · have hw := hw.2 hc_13
    refine lv_aload_n hx hb dJ7_init_2_22 rfl (lv_at hl 2 rfl) ?_
    refine lv_iconst (v := 0) hx hb dJ7_init_2_23 (by decide) ?_
    obtain ⟨fs_15, hq, hk, hw⟩ := hw
    refine ga_putF (ci := 23) (T := TJ7) (v := .int (0 : Int32)) (ty := tyJ7 1) hx hb hts hown hI in_J7 rfl tyJ7 tyJ7_ok nmJ7 1 (by decide) q1095 (fun _ z => z) rfl hnm rfl (tyJ7_ok 1 (by decide)) rfl rfl hq hk dJ7_init_2_24 (fun H locs hI => ?_)
    obtain ⟨h_16, eh_16⟩ : ∃ z, z = ga_set h_11 p0 (ga_O 23 (fs_15.set 1 (.int (0 : Int32)))) := ⟨_, rfl⟩
    rw [← eh_16] at hI
    have hw := hw h_16 eh_16
    refine lv_aload_n hx hb dJ7_init_2_27 rfl (lv_at hl 2 rfl) ?_
    refine ga_aload_n hx hb dJ7_init_2_28 rfl (lv_at hl 1 rfl) ?_
    refine lv_iconst (v := 0) hx hb dJ7_init_2_29 (by decide) ?_
    refine lv_iload hx hb dJ7_init_2_30 (lv_at hl 0 rfl) ?_
    obtain ⟨kc_17, ks_18, hk1, hk2, hw⟩ := hw
    refine ga_callq (va_runS (As := [va_rf r_4, .int (0 : Int32), .int r_8]) (rest := [.ref p0]) ⟨hx, hb, hml, hown, hts⟩ (gm_J13_copyOfRange l g r_4 (0 : Int32) r_8 h_16 kc_17 ks_18 _ hw) (va_cwS 3 hts (lw_S q1043 q1044 q118 q1045) rfl rfl rfl hdG_J13_copyOfRange ⟨Nat.le_of_ble_eq_true rfl, Nat.le_of_ble_eq_true rfl⟩) (ga_preS hI rfl) rfl rfl hl.1 rfl (ga_room (Nat.le_of_ble_eq_true rfl)) dJ7_init_2_32 ⟨Nat.le_trans (Nat.add_le_add_left hk1 _) hbc, Nat.le_trans (Nat.add_le_add_left hk2 _) hbs⟩) hI hbc hbs hk1 hk2 (fun r_20 h_19 H locs cells slots hw hI hbc hbs => ?_)
    obtain ⟨fs_21, hq, hk, hw⟩ := hw
    refine ga_putF (ci := 23) (T := TJ7) (v := va_rf r_20) (ty := tyJ7 0) hx hb hts hown hI in_J7 rfl tyJ7 tyJ7_ok nmJ7 0 (by decide) q1094 (fun _ z => z) rfl hnm rfl (tyJ7_ok 0 (by decide)) (ga_nq' _ _) (ga_fq' _ _) hq hk dJ7_init_2_35 (fun H locs hI => ?_)
    obtain ⟨h_22, eh_22⟩ : ∃ z, z = ga_set h_19 p0 (ga_O 23 (fs_21.set 0 (va_rf r_20))) := ⟨_, rfl⟩
    rw [← eh_22] at hI
    have hw := hw h_22 eh_22
    refine lv_goto (tgt := 97) hx hb dJ7_init_2_38 (by decide) ?_
    exact ga_vret hx hb hr hlk hI hw (Nat.le_trans (Nat.le_add_right _ _) hbc) (Nat.le_trans (Nat.le_add_right _ _) hbs) dJ7_init_2_97
theorem hdG_J7_init_2 : yJ7_init_2.cls ≠ "java/lang/invoke/MethodHandle" ∧ yJ7_init_2.cls ≠ "java/lang/invoke/VarHandle" ∧ (parseMethodDescriptor yJ7_init_2.desc).map (fun d => d.parameters.length) = some 2 := by decide +kernel
def gw_J7_init (K : ga_K) (p0 : Nat) (p1 : Option Nat) (h : ga_H) (mc ms : Nat) (post : ga_H → Prop) : Prop :=
  ∃ kc_1 ks_2 : Nat, kc_1 ≤ mc ∧ ks_2 ≤ ms ∧ gw_J7_init_2 K p0 p1 none h kc_1 ks_2 (fun (h_3 : ga_H) => post h_3)
set_option maxHeartbeats 4000000 in
theorem gm_J7_init (l : Launch) (g : ga_G) (p0 : Nat) (p1 : Option Nat) (h : ga_H) (mc ms : Nat) (post : ga_H → Prop) (hw : gw_J7_init g.2.2 p0 p1 h mc ms post) : Met l yJ7_init (ws_ yJ7_init cJ7_init 2 none) ({ frames := 18, cells := mc, slots := ms, locals := 366 } : Room) (va_Pc [.ref p0, va_rf p1] (ga_B g h)) (va_Qv post (ga_E g) (ga_A g)) mc ms (ga_A g) := by
  refine ga_met (own := "java/lang/String") (nm := "<init>") (by decide) rfl rfl (by cases p1 <;> exact Nat.le_of_ble_eq_true rfl) (fun p e s m below meth c ls hC hI hl => ?_)
  have hl : lv_has ls 2 [(0, .ref p0), (1, va_rf p1)] := (by cases p1 <;> exact hl)
  generalize ([.ref p0, va_rf p1] : List Value).toArray = args at hC ⊢
  obtain ⟨hx, hb, hml, hown, hts, hr, hlk, hnm⟩ := hC
  unfold gw_J7_init at hw
  obtain ⟨H, eH⟩ : ∃ z, z = s.heap := ⟨_, rfl⟩
  obtain ⟨locs, elo⟩ : ∃ z : List Loc, z = [] := ⟨_, rfl⟩
  rw [← eH, ← elo] at hI ⊢
  obtain ⟨cells, slots, hbc, hbs, e0, e1⟩ : ∃ a b : Nat, a + mc ≤ mc ∧ b + ms ≤ ms ∧ a = 0 ∧ b = 0 := ⟨0, 0, by omega, by omega, rfl, rfl⟩
  show W p l e ({ frames := 18, cells := mc, slots := ms, locals := 366 } : Room) s m args below meth c H locs 0 0 (MQ below (va_Qv post (ga_E g) (ga_A g)) args s mc ms (ga_A g)) (F0 m 0 ls [])
  suffices hgoal : W p l e ({ frames := 18, cells := mc, slots := ms, locals := 366 } : Room) s m args below meth c H locs cells slots (MQ below (va_Qv post (ga_E g) (ga_A g)) args s mc ms (ga_A g)) (F0 m 0 ls []) by rw [e0, e1] at hgoal; exact hgoal
  refine lv_aload_n hx hb dJ7_init_0 rfl (lv_at hl 0 rfl) ?_
  refine ga_aload_n hx hb dJ7_init_1 rfl (lv_at hl 1 rfl) ?_
  refine lv_null hx hb dJ7_init_2 ?_
  obtain ⟨kc_1, ks_2, hk1, hk2, hw⟩ := hw
  refine ga_callv (va_runI (As := [va_rf p1, va_rf none]) (rest := []) ⟨hx, hb, hml, hown, hts⟩ (gm_J7_init_2 l g p0 p1 none h kc_1 ks_2 _ hw) (cwI 2 hts (lw_meth q1027) rfl rfl rfl (hts _ q111) (hts _ q1025) (hts _ q1026) rfl hdG_J7_init_2 ⟨Nat.le_of_ble_eq_true rfl, Nat.le_of_ble_eq_true rfl⟩) (ga_preS hI rfl) rfl rfl hl.1 rfl (ga_room (Nat.le_of_ble_eq_true rfl)) dJ7_init_3 ⟨Nat.le_trans (Nat.add_le_add_left hk1 _) hbc, Nat.le_trans (Nat.add_le_add_left hk2 _) hbs⟩) hI hbc hbs hk1 hk2 (fun h_3 H locs cells slots hw hI hbc hbs => ?_)
  exact ga_vret hx hb hr hlk hI hw (Nat.le_trans (Nat.le_add_right _ _) hbc) (Nat.le_trans (Nat.le_add_right _ _) hbs) dJ7_init_6
theorem hdG_J7_init : yJ7_init.cls ≠ "java/lang/invoke/MethodHandle" ∧ yJ7_init.cls ≠ "java/lang/invoke/VarHandle" ∧ (parseMethodDescriptor yJ7_init.desc).map (fun d => d.parameters.length) = some 1 := by decide +kernel
def gw_J6_toString (K : ga_K) (p0 : Nat) (h : ga_H) (mc ms : Nat) (post : Option Nat → ga_H → Prop) : Prop :=
  1 ≤ mc ∧ 4 ≤ ms ∧ ∀ q_1 : Nat, h q_1 = none → ∀ h_2 : ga_H, h_2 = ga_set h q_1 (ga_O 23 [va_rf none, .int 0, .int 0, .int 0]) → (∃ kc_3 ks_4 : Nat, kc_3 ≤ (mc - 1) ∧ ks_4 ≤ (ms - 4) ∧ gw_J7_init K q_1 (some p0) h_2 kc_3 ks_4 (fun (h_5 : ga_H) => post (some q_1) h_5))
set_option maxHeartbeats 4000000 in
theorem gm_J6_toString (l : Launch) (g : ga_G) (p0 : Nat) (h : ga_H) (mc ms : Nat) (post : Option Nat → ga_H → Prop) (hw : gw_J6_toString g.2.2 p0 h mc ms post) : Met l yJ6_toString (ws_ yJ6_toString cJ6_toString 1 (some (.object "java/lang/String"))) ({ frames := 19, cells := mc, slots := ms, locals := 387 } : Room) (va_Pc [.ref p0] (ga_B g h)) (va_Qq post (ga_E g) (ga_A g)) mc ms (ga_A g) := by
  refine ga_met (own := "java/lang/StringBuilder") (nm := "toString") (by decide) rfl rfl (by exact Nat.le_of_ble_eq_true rfl) (fun p e s m below meth c ls hC hI hl => ?_)
  have hl : lv_has ls 1 [(0, .ref p0)] := hl
  generalize ([.ref p0] : List Value).toArray = args at hC ⊢
  obtain ⟨hx, hb, hml, hown, hts, hr, hlk, hnm⟩ := hC
  unfold gw_J6_toString at hw
  obtain ⟨H, eH⟩ : ∃ z, z = s.heap := ⟨_, rfl⟩
  obtain ⟨locs, elo⟩ : ∃ z : List Loc, z = [] := ⟨_, rfl⟩
  rw [← eH, ← elo] at hI ⊢
  obtain ⟨cells, slots, hbc, hbs, e0, e1⟩ : ∃ a b : Nat, a + mc ≤ mc ∧ b + ms ≤ ms ∧ a = 0 ∧ b = 0 := ⟨0, 0, by omega, by omega, rfl, rfl⟩
  show W p l e ({ frames := 19, cells := mc, slots := ms, locals := 387 } : Room) s m args below meth c H locs 0 0 (MQ below (va_Qq post (ga_E g) (ga_A g)) args s mc ms (ga_A g)) (F0 m 0 ls [])
  suffices hgoal : W p l e ({ frames := 19, cells := mc, slots := ms, locals := 387 } : Room) s m args below meth c H locs cells slots (MQ below (va_Qq post (ga_E g) (ga_A g)) args s mc ms (ga_A g)) (F0 m 0 ls []) by rw [e0, e1] at hgoal; exact hgoal
  refine ga_new (ci := 23) (T := TJ7) hx hb hts hown hI in_J7 rfl tyJ7 tyJ7_ok q1020 q1021 q111 [va_rf none, .int 0, .int 0, .int 0] ga_df_J7 hbc hbs hw.1 hw.2.1 dJ6_toString_0 (fun q_1 H cells slots hn_q_1 hI hbc hbs => ?_)
  obtain ⟨h_2, eh_2⟩ : ∃ z, z = ga_set h q_1 (ga_O 23 [va_rf none, .int 0, .int 0, .int 0]) := ⟨_, rfl⟩
  rw [← eh_2] at hI
  have hw := hw.2.2 q_1 hn_q_1 h_2 eh_2
  refine lv_dup hx hb dJ6_toString_3 rfl ?_
  refine lv_aload_n hx hb dJ6_toString_4 rfl (lv_at hl 0 rfl) ?_
  obtain ⟨kc_3, ks_4, hk1, hk2, hw⟩ := hw
  refine ga_callv (va_runI (As := [va_rf (some p0)]) (rest := [.ref q_1]) ⟨hx, hb, hml, hown, hts⟩ (gm_J7_init l g q_1 (some p0) h_2 kc_3 ks_4 _ hw) (cwI 1 hts (lw_meth q1024) rfl rfl rfl (hts _ q111) (hts _ q1022) (hts _ q1023) rfl hdG_J7_init ⟨Nat.le_of_ble_eq_true rfl, Nat.le_of_ble_eq_true rfl⟩) (ga_preS hI rfl) rfl rfl hl.1 rfl (ga_room (Nat.le_of_ble_eq_true rfl)) dJ6_toString_5 ⟨Nat.le_trans (Nat.add_le_add_left hk1 _) hbc, Nat.le_trans (Nat.add_le_add_left hk2 _) hbs⟩) hI hbc hbs hk1 hk2 (fun h_5 H locs cells slots hw hI hbc hbs => ?_)
  exact ga_qret (v := (some q_1)) hx hb hr (Or.inl ⟨_, rfl⟩) hlk hI hw (Nat.le_trans (Nat.le_add_right _ _) hbc) (Nat.le_trans (Nat.le_add_right _ _) hbs) dJ6_toString_8
theorem hdG_J6_toString : yJ6_toString.cls ≠ "java/lang/invoke/MethodHandle" ∧ yJ6_toString.cls ≠ "java/lang/invoke/VarHandle" ∧ (parseMethodDescriptor yJ6_toString.desc).map (fun d => d.parameters.length) = some 0 := by decide +kernel
def gw_J13_rangeCheck (K : ga_K) (p0 : Int32) (p1 : Int32) (p2 : Int32) (h : ga_H) (mc ms : Nat) (post : ga_H → Prop) : Prop :=
  (p1 ≤ p2 → (((0 : Int32) ≤ p1 → ((p2 ≤ p0 → (post h)) ∧ (¬ p2 ≤ p0 → False))) ∧ (¬ (0 : Int32) ≤ p1 → False))) ∧ (¬ p1 ≤ p2 → False)
set_option maxHeartbeats 4000000 in
theorem gm_J13_rangeCheck (l : Launch) (g : ga_G) (p0 : Int32) (p1 : Int32) (p2 : Int32) (h : ga_H) (mc ms : Nat) (post : ga_H → Prop) (hw : gw_J13_rangeCheck g.2.2 p0 p1 p2 h mc ms post) : Met l yJ13_rangeCheck (ws_ yJ13_rangeCheck cJ13_rangeCheck 3 none) ({ frames := 20, cells := mc, slots := ms, locals := 407 } : Room) (va_Pc [.int p0, .int p1, .int p2] (ga_B g h)) (va_Qv post (ga_E g) (ga_A g)) mc ms (ga_A g) := by
  refine ga_met (own := "java/util/Arrays") (nm := "rangeCheck") (by decide) rfl rfl (by exact Nat.le_of_ble_eq_true rfl) (fun p e s m below meth c ls hC hI hl => ?_)
  have hl : lv_has ls 3 [(0, .int p0), (1, .int p1), (2, .int p2)] := hl
  generalize ([.int p0, .int p1, .int p2] : List Value).toArray = args at hC ⊢
  obtain ⟨hx, hb, hml, hown, hts, hr, hlk, hnm⟩ := hC
  unfold gw_J13_rangeCheck at hw
  obtain ⟨H, eH⟩ : ∃ z, z = s.heap := ⟨_, rfl⟩
  obtain ⟨locs, elo⟩ : ∃ z : List Loc, z = [] := ⟨_, rfl⟩
  rw [← eH, ← elo] at hI ⊢
  obtain ⟨cells, slots, hbc, hbs, e0, e1⟩ : ∃ a b : Nat, a + mc ≤ mc ∧ b + ms ≤ ms ∧ a = 0 ∧ b = 0 := ⟨0, 0, by omega, by omega, rfl, rfl⟩
  show W p l e ({ frames := 20, cells := mc, slots := ms, locals := 407 } : Room) s m args below meth c H locs 0 0 (MQ below (va_Qv post (ga_E g) (ga_A g)) args s mc ms (ga_A g)) (F0 m 0 ls [])
  suffices hgoal : W p l e ({ frames := 20, cells := mc, slots := ms, locals := 407 } : Room) s m args below meth c H locs cells slots (MQ below (va_Qv post (ga_E g) (ga_A g)) args s mc ms (ga_A g)) (F0 m 0 ls []) by rw [e0, e1] at hgoal; exact hgoal
  refine lv_iload_n hx hb dJ13_rangeCheck_0 rfl (lv_at hl 1 rfl) ?_
  refine lv_iload_n hx hb dJ13_rangeCheck_1 rfl (lv_at hl 2 rfl) ?_
  refine lv_icmp_le (tgt := 46) hx hb dJ13_rangeCheck_2 (by decide) (fun hc_1 => ?_) (fun hc_1 => ?_)
  · have hw := hw.1 hc_1
    refine lv_iload_n hx hb dJ13_rangeCheck_46 rfl (lv_at hl 1 rfl) ?_
    refine lv_if_ge (tgt := 59) hx hb dJ13_rangeCheck_47 (by decide) (fun hc_2 => ?_) (fun hc_2 => ?_)
    · have hw := hw.1 hc_2
      refine lv_iload_n hx hb dJ13_rangeCheck_59 rfl (lv_at hl 2 rfl) ?_
      refine lv_iload_n hx hb dJ13_rangeCheck_60 rfl (lv_at hl 0 rfl) ?_
      refine lv_icmp_le (tgt := 73) hx hb dJ13_rangeCheck_61 (by decide) (fun hc_3 => ?_) (fun hc_3 => ?_)
      · have hw := hw.1 hc_3
        exact ga_vret hx hb hr hlk hI hw (Nat.le_trans (Nat.le_add_right _ _) hbc) (Nat.le_trans (Nat.le_add_right _ _) hbs) dJ13_rangeCheck_73
      · have hw := hw.2 hc_3
        exact hw.elim
    · have hw := hw.2 hc_2
      exact hw.elim
  · have hw := hw.2 hc_1
    exact hw.elim
theorem hdG_J13_rangeCheck : yJ13_rangeCheck.cls ≠ "java/lang/invoke/MethodHandle" ∧ yJ13_rangeCheck.cls ≠ "java/lang/invoke/VarHandle" ∧ (parseMethodDescriptor yJ13_rangeCheck.desc).map (fun d => d.parameters.length) = some 3 := by decide +kernel
def gw_J13_fill (K : ga_K) (p0 : Option Nat) (p1 : Int32) (p2 : Int32) (p3 : Int32) (h : ga_H) (mc ms : Nat) (post : ga_H → Prop) : Prop :=
  ∃ a_1 : Nat, p0 = some a_1 ∧ ∃ (n_2 : Nat) (f_3 : Nat → Int32), ga_at K h a_1 (ga_Ab n_2 f_3) ∧ (∃ kc_4 ks_5 : Nat, kc_4 ≤ mc ∧ ks_5 ≤ ms ∧ gw_J13_rangeCheck K (nI n_2) p1 p2 h kc_4 ks_5 (fun (h_6 : ga_H) => ∃ (In_7 : Int32 → ga_H → Prop) (mu_7 : Int32 → ga_H → Nat), In_7 p1 h_6 ∧ ∀ (x4_7 : Int32) (h_7 : ga_H), In_7 x4_7 h_7 → ((p2 ≤ x4_7 → (post h_7)) ∧ (¬ p2 ≤ x4_7 → (∃ a_9 : Nat, p0 = some a_9 ∧ ∃ (n_10 : Nat) (f_11 : Nat → Int32), h_7 a_9 = some (ga_Ab n_10 f_11) ∧ vp_in x4_7 n_10 ∧ ∀ h_12 : ga_H, h_12 = ga_set h_7 a_9 (ga_Ab n_10 (upd f_11 x4_7.toNatClampNeg (vp_nar .byte p3))) → (In_7 (x4_7 + (1 : Int32)) h_12 ∧ mu_7 (x4_7 + (1 : Int32)) h_12 < mu_7 x4_7 h_7))))))
set_option maxHeartbeats 4000000 in
theorem gm_J13_fill (l : Launch) (g : ga_G) (p0 : Option Nat) (p1 : Int32) (p2 : Int32) (p3 : Int32) (h : ga_H) (mc ms : Nat) (post : ga_H → Prop) (hw : gw_J13_fill g.2.2 p0 p1 p2 p3 h mc ms post) : Met l yJ13_fill (ws_ yJ13_fill cJ13_fill 5 none) ({ frames := 21, cells := mc, slots := ms, locals := 429 } : Room) (va_Pc [va_rf p0, .int p1, .int p2, .int p3] (ga_B g h)) (va_Qv post (ga_E g) (ga_A g)) mc ms (ga_A g) := by
  refine ga_met (own := "java/util/Arrays") (nm := "fill") (by decide) rfl rfl (by cases p0 <;> exact Nat.le_of_ble_eq_true rfl) (fun p e s m below meth c ls hC hI hl => ?_)
  have hl : lv_has ls 5 [(0, va_rf p0), (1, .int p1), (2, .int p2), (3, .int p3)] := (by cases p0 <;> exact hl)
  generalize ([va_rf p0, .int p1, .int p2, .int p3] : List Value).toArray = args at hC ⊢
  obtain ⟨hx, hb, hml, hown, hts, hr, hlk, hnm⟩ := hC
  unfold gw_J13_fill at hw
  obtain ⟨H, eH⟩ : ∃ z, z = s.heap := ⟨_, rfl⟩
  obtain ⟨locs, elo⟩ : ∃ z : List Loc, z = [] := ⟨_, rfl⟩
  rw [← eH, ← elo] at hI ⊢
  obtain ⟨cells, slots, hbc, hbs, e0, e1⟩ : ∃ a b : Nat, a + mc ≤ mc ∧ b + ms ≤ ms ∧ a = 0 ∧ b = 0 := ⟨0, 0, by omega, by omega, rfl, rfl⟩
  show W p l e ({ frames := 21, cells := mc, slots := ms, locals := 429 } : Room) s m args below meth c H locs 0 0 (MQ below (va_Qv post (ga_E g) (ga_A g)) args s mc ms (ga_A g)) (F0 m 0 ls [])
  suffices hgoal : W p l e ({ frames := 21, cells := mc, slots := ms, locals := 429 } : Room) s m args below meth c H locs cells slots (MQ below (va_Qv post (ga_E g) (ga_A g)) args s mc ms (ga_A g)) (F0 m 0 ls []) by rw [e0, e1] at hgoal; exact hgoal
  refine ga_aload_n hx hb dJ13_fill_0 rfl (lv_at hl 0 rfl) ?_
  obtain ⟨a_1, ea_1, hw⟩ := hw
  rewrite [ea_1]
  obtain ⟨n_2, f_3, hq, hw⟩ := hw
  refine ga_len hx hb hI hq rfl dJ13_fill_1 ?_
  refine lv_iload_n hx hb dJ13_fill_2 rfl (lv_at hl 1 rfl) ?_
  refine lv_iload_n hx hb dJ13_fill_3 rfl (lv_at hl 2 rfl) ?_
  obtain ⟨kc_4, ks_5, hk1, hk2, hw⟩ := hw
  refine ga_callv (va_runS (As := [.int (nI n_2), .int p1, .int p2]) (rest := []) ⟨hx, hb, hml, hown, hts⟩ (gm_J13_rangeCheck l g (nI n_2) p1 p2 h kc_4 ks_5 _ hw) (va_cwS 3 hts (lw_S q2700 q2701 q118 q2702) rfl rfl rfl hdG_J13_rangeCheck ⟨Nat.le_of_ble_eq_true rfl, Nat.le_of_ble_eq_true rfl⟩) (ga_preS hI rfl) rfl rfl hl.1 rfl (ga_room (Nat.le_of_ble_eq_true rfl)) dJ13_fill_4 ⟨Nat.le_trans (Nat.add_le_add_left hk1 _) hbc, Nat.le_trans (Nat.add_le_add_left hk2 _) hbs⟩) hI hbc hbs hk1 hk2 (fun h_6 H locs cells slots hw hI hbc hbs => ?_)
  refine lv_iload_n hx hb dJ13_fill_7 rfl (lv_at hl 1 rfl) ?_
  refine lv_istore (lv' := [(4, .int p1), (0, va_rf p0), (1, .int p1), (2, .int p2), (3, .int p3)]) hx hb dJ13_fill_8 hl (by decide) rfl (fun ls hl => ?_)
  obtain ⟨In_7, mu_7, h0_7, hw⟩ := hw
  have hL_7 : ∀ (n : Nat) (x4_7 : Int32) (h_7 : ga_H) (H : Heap) (locs : List Loc) (cells slots : Nat) (ls : Array Slot), mu_7 x4_7 h_7 < n → In_7 x4_7 h_7 → ga_I g h_7 s H locs → cells + (mc - kc_4) ≤ mc → slots + (ms - ks_5) ≤ ms → lv_has ls 5 [(0, va_rf p0), (2, .int p2), (3, .int p3), (4, .int x4_7)] → W p l e ({ frames := 21, cells := mc, slots := ms, locals := 429 } : Room) s m args below meth c H locs cells slots (MQ below (va_Qv post (ga_E g) (ga_A g)) args s mc ms (ga_A g)) (F0 m 10 ls []) := by
    intro n
    induction n with
    | zero => intro x4_7 h_7 H locs cells slots ls hn _ _ _ _ _; exact absurd hn (Nat.not_lt_zero _)
    | succ n ih_7 =>
      intro x4_7 h_7 H locs cells slots ls hn_7 hi_7 hI hbc hbs hl
      have hw := hw x4_7 h_7 hi_7
      refine lv_iload hx hb dJ13_fill_10 (lv_at hl 3 rfl) ?_
      refine lv_iload_n hx hb dJ13_fill_12 rfl (lv_at hl 1 rfl) ?_
      refine lv_icmp_ge (tgt := 27) hx hb dJ13_fill_13 (by decide) (fun hc_8 => ?_) (fun hc_8 => ?_)
      · have hw := hw.1 hc_8
        exact ga_vret hx hb hr hlk hI hw (Nat.le_trans (Nat.le_add_right _ _) hbc) (Nat.le_trans (Nat.le_add_right _ _) hbs) dJ13_fill_27
      · have hw := hw.2 hc_8
        refine ga_aload_n hx hb dJ13_fill_16 rfl (lv_at hl 0 rfl) ?_
        refine lv_iload hx hb dJ13_fill_17 (lv_at hl 3 rfl) ?_
        refine lv_iload_n hx hb dJ13_fill_19 rfl (lv_at hl 2 rfl) ?_
        obtain ⟨a_9, ea_9, hw⟩ := hw
        rewrite [ea_9]
        obtain ⟨n_10, f_11, hq, hi, hw⟩ := hw
        refine ga_stb hx hb hI hq hi dJ13_fill_20 (fun H locs hI => ?_)
        obtain ⟨h_12, eh_12⟩ : ∃ z, z = ga_set h_7 a_9 (ga_Ab n_10 (upd f_11 x4_7.toNatClampNeg (vp_nar .byte p3))) := ⟨_, rfl⟩
        rw [← eh_12] at hI
        have hw := hw h_12 eh_12
        refine lv_iinc (v := x4_7 + (1 : Int32)) (lv' := [(4, .int (x4_7 + (1 : Int32))), (0, va_rf p0), (2, .int p2), (3, .int p3)]) hx hb dJ13_fill_21 hl (k := 3) rfl rfl (by decide) rfl (fun ls hl => ?_)
        refine lv_goto (tgt := 10) hx hb dJ13_fill_24 (by decide) ?_
        exact ih_7 _ _ H locs cells slots ls (Nat.lt_of_lt_of_le hw.2 (Nat.le_of_lt_succ hn_7)) hw.1 hI hbc hbs (lv_sub hl [1, 2, 3, 0] rfl)
  exact hL_7 _ _ _ H locs cells slots ls (Nat.lt_succ_self _) h0_7 hI hbc hbs (lv_sub hl [1, 3, 4, 0] rfl)
theorem hdG_J13_fill : yJ13_fill.cls ≠ "java/lang/invoke/MethodHandle" ∧ yJ13_fill.cls ≠ "java/lang/invoke/VarHandle" ∧ (parseMethodDescriptor yJ13_fill.desc).map (fun d => d.parameters.length) = some 4 := by decide +kernel
def gw_J28_fillNull (K : ga_K) (p0 : Option Nat) (p1 : Int32) (p2 : Int32) (h : ga_H) (mc ms : Nat) (post : ga_H → Prop) : Prop :=
  ∃ kc_1 ks_2 : Nat, kc_1 ≤ mc ∧ ks_2 ≤ ms ∧ gw_J13_fill K p0 p1 p2 (0 : Int32) h kc_1 ks_2 (fun (h_3 : ga_H) => post h_3)
set_option maxHeartbeats 4000000 in
theorem gm_J28_fillNull (l : Launch) (g : ga_G) (p0 : Option Nat) (p1 : Int32) (p2 : Int32) (h : ga_H) (mc ms : Nat) (post : ga_H → Prop) (hw : gw_J28_fillNull g.2.2 p0 p1 p2 h mc ms post) : Met l yJ28_fillNull (ws_ yJ28_fillNull cJ28_fillNull 3 none) ({ frames := 22, cells := mc, slots := ms, locals := 453 } : Room) (va_Pc [va_rf p0, .int p1, .int p2] (ga_B g h)) (va_Qv post (ga_E g) (ga_A g)) mc ms (ga_A g) := by
  refine ga_met (own := "java/lang/StringLatin1") (nm := "fillNull") (by decide) rfl rfl (by cases p0 <;> exact Nat.le_of_ble_eq_true rfl) (fun p e s m below meth c ls hC hI hl => ?_)
  have hl : lv_has ls 3 [(0, va_rf p0), (1, .int p1), (2, .int p2)] := (by cases p0 <;> exact hl)
  generalize ([va_rf p0, .int p1, .int p2] : List Value).toArray = args at hC ⊢
  obtain ⟨hx, hb, hml, hown, hts, hr, hlk, hnm⟩ := hC
  unfold gw_J28_fillNull at hw
  obtain ⟨H, eH⟩ : ∃ z, z = s.heap := ⟨_, rfl⟩
  obtain ⟨locs, elo⟩ : ∃ z : List Loc, z = [] := ⟨_, rfl⟩
  rw [← eH, ← elo] at hI ⊢
  obtain ⟨cells, slots, hbc, hbs, e0, e1⟩ : ∃ a b : Nat, a + mc ≤ mc ∧ b + ms ≤ ms ∧ a = 0 ∧ b = 0 := ⟨0, 0, by omega, by omega, rfl, rfl⟩
  show W p l e ({ frames := 22, cells := mc, slots := ms, locals := 453 } : Room) s m args below meth c H locs 0 0 (MQ below (va_Qv post (ga_E g) (ga_A g)) args s mc ms (ga_A g)) (F0 m 0 ls [])
  suffices hgoal : W p l e ({ frames := 22, cells := mc, slots := ms, locals := 453 } : Room) s m args below meth c H locs cells slots (MQ below (va_Qv post (ga_E g) (ga_A g)) args s mc ms (ga_A g)) (F0 m 0 ls []) by rw [e0, e1] at hgoal; exact hgoal
  refine ga_aload_n hx hb dJ28_fillNull_0 rfl (lv_at hl 0 rfl) ?_
  refine lv_iload_n hx hb dJ28_fillNull_1 rfl (lv_at hl 1 rfl) ?_
  refine lv_iload_n hx hb dJ28_fillNull_2 rfl (lv_at hl 2 rfl) ?_
  refine lv_iconst (v := 0) hx hb dJ28_fillNull_3 (by decide) ?_
  obtain ⟨kc_1, ks_2, hk1, hk2, hw⟩ := hw
  refine ga_callv (va_runS (As := [va_rf p0, .int p1, .int p2, .int (0 : Int32)]) (rest := []) ⟨hx, hb, hml, hown, hts⟩ (gm_J13_fill l g p0 p1 p2 (0 : Int32) h kc_1 ks_2 _ hw) (va_cwS 4 hts (lw_S q2697 q2698 q118 q2699) rfl rfl rfl hdG_J13_fill ⟨Nat.le_of_ble_eq_true rfl, Nat.le_of_ble_eq_true rfl⟩) (ga_preS hI rfl) rfl rfl hl.1 rfl (ga_room (Nat.le_of_ble_eq_true rfl)) dJ28_fillNull_4 ⟨Nat.le_trans (Nat.add_le_add_left hk1 _) hbc, Nat.le_trans (Nat.add_le_add_left hk2 _) hbs⟩) hI hbc hbs hk1 hk2 (fun h_3 H locs cells slots hw hI hbc hbs => ?_)
  exact ga_vret hx hb hr hlk hI hw (Nat.le_trans (Nat.le_add_right _ _) hbc) (Nat.le_trans (Nat.le_add_right _ _) hbs) dJ28_fillNull_7
theorem hdG_J28_fillNull : yJ28_fillNull.cls ≠ "java/lang/invoke/MethodHandle" ∧ yJ28_fillNull.cls ≠ "java/lang/invoke/VarHandle" ∧ (parseMethodDescriptor yJ28_fillNull.desc).map (fun d => d.parameters.length) = some 3 := by decide +kernel
def gw_J5_setLength (K : ga_K) (p0 : Nat) (p1 : Int32) (h : ga_H) (mc ms : Nat) (post : ga_H → Prop) : Prop :=
  ((0 : Int32) ≤ p1 → (∃ kc_2 ks_3 : Nat, kc_2 ≤ mc ∧ ks_3 ≤ ms ∧ ∃ fs_4 : List Value, ga_at K h p0 (ga_O 22 fs_4) ∧ gw_J5_ensureCapacityInternal K p0 p1 h kc_2 ks_3 (fun (h_5 : ga_H) => ∃ (fs_6 : List Value) (v_7 : Int32), h_5 p0 = some (ga_O 22 fs_6) ∧ fs_6[3]? = some (.int v_7) ∧ ((p1 ≤ v_7 → (∃ (fs_9 : List Value) (v_10 : Int32), h_5 p0 = some (ga_O 22 fs_9) ∧ fs_9[3]? = some (.int v_10) ∧ ((v_10 ≤ p1 → (∃ fs_12 : List Value, h_5 p0 = some (ga_O 22 fs_12) ∧ 3 < fs_12.length ∧ ∀ h_13 : ga_H, h_13 = ga_set h_5 p0 (ga_O 22 (fs_12.set 3 (.int p1))) → (post h_13))) ∧ (¬ v_10 ≤ p1 → (∃ fs_14 : List Value, h_5 p0 = some (ga_O 22 fs_14) ∧ 2 < fs_14.length ∧ ∀ h_15 : ga_H, h_15 = ga_set h_5 p0 (ga_O 22 (fs_14.set 2 (.int (1 : Int32)))) → (∃ fs_16 : List Value, h_15 p0 = some (ga_O 22 fs_16) ∧ 3 < fs_16.length ∧ ∀ h_17 : ga_H, h_17 = ga_set h_15 p0 (ga_O 22 (fs_16.set 3 (.int p1))) → (post h_17))))))) ∧ (¬ p1 ≤ v_7 → (∃ fs_18 : List Value, ga_at K h_5 p0 (ga_O 22 fs_18) ∧ gw_J5_isLatin1 K p0 h_5 (fun (r_20 : Int32) (h_19 : ga_H) => (r_20 = (0 : Int32) → False) ∧ (¬ r_20 = (0 : Int32) → (∃ (fs_26 : List Value) (v_27 : Option Nat), h_19 p0 = some (ga_O 22 fs_26) ∧ fs_26[0]? = some (va_rf v_27) ∧ (∃ (fs_28 : List Value) (v_29 : Int32), h_19 p0 = some (ga_O 22 fs_28) ∧ fs_28[3]? = some (.int v_29) ∧ (∃ kc_30 ks_31 : Nat, kc_30 ≤ (mc - kc_2) ∧ ks_31 ≤ (ms - ks_3) ∧ gw_J28_fillNull K v_27 v_29 p1 h_19 kc_30 ks_31 (fun (h_32 : ga_H) => ∃ fs_33 : List Value, h_32 p0 = some (ga_O 22 fs_33) ∧ 3 < fs_33.length ∧ ∀ h_34 : ga_H, h_34 = ga_set h_32 p0 (ga_O 22 (fs_33.set 3 (.int p1))) → (post h_34))))))))))))) ∧ (¬ (0 : Int32) ≤ p1 → False)
set_option maxHeartbeats 4000000 in
theorem gm_J5_setLength (l : Launch) (g : ga_G) (p0 : Nat) (p1 : Int32) (h : ga_H) (mc ms : Nat) (post : ga_H → Prop) (hw : gw_J5_setLength g.2.2 p0 p1 h mc ms post) : Met l yJ5_setLength (ws_ yJ5_setLength cJ5_setLength 2 none) ({ frames := 23, cells := mc, slots := ms, locals := 475 } : Room) (va_Pc [.ref p0, .int p1] (ga_B g h)) (va_Qv post (ga_E g) (ga_A g)) mc ms (ga_A g) := by
  refine ga_met (own := "java/lang/AbstractStringBuilder") (nm := "setLength") (by decide) rfl rfl (by exact Nat.le_of_ble_eq_true rfl) (fun p e s m below meth c ls hC hI hl => ?_)
  have hl : lv_has ls 2 [(0, .ref p0), (1, .int p1)] := hl
  generalize ([.ref p0, .int p1] : List Value).toArray = args at hC ⊢
  obtain ⟨hx, hb, hml, hown, hts, hr, hlk, hnm⟩ := hC
  unfold gw_J5_setLength at hw
  obtain ⟨H, eH⟩ : ∃ z, z = s.heap := ⟨_, rfl⟩
  obtain ⟨locs, elo⟩ : ∃ z : List Loc, z = [] := ⟨_, rfl⟩
  rw [← eH, ← elo] at hI ⊢
  obtain ⟨cells, slots, hbc, hbs, e0, e1⟩ : ∃ a b : Nat, a + mc ≤ mc ∧ b + ms ≤ ms ∧ a = 0 ∧ b = 0 := ⟨0, 0, by omega, by omega, rfl, rfl⟩
  show W p l e ({ frames := 23, cells := mc, slots := ms, locals := 475 } : Room) s m args below meth c H locs 0 0 (MQ below (va_Qv post (ga_E g) (ga_A g)) args s mc ms (ga_A g)) (F0 m 0 ls [])
  suffices hgoal : W p l e ({ frames := 23, cells := mc, slots := ms, locals := 475 } : Room) s m args below meth c H locs cells slots (MQ below (va_Qv post (ga_E g) (ga_A g)) args s mc ms (ga_A g)) (F0 m 0 ls []) by rw [e0, e1] at hgoal; exact hgoal
  refine lv_iload_n hx hb dJ5_setLength_0 rfl (lv_at hl 1 rfl) ?_
  refine lv_if_ge (tgt := 13) hx hb dJ5_setLength_1 (by decide) (fun hc_1 => ?_) (fun hc_1 => ?_)
  · have hw := hw.1 hc_1
    refine lv_aload_n hx hb dJ5_setLength_13 rfl (lv_at hl 0 rfl) ?_
    refine lv_iload_n hx hb dJ5_setLength_14 rfl (lv_at hl 1 rfl) ?_
    obtain ⟨kc_2, ks_3, hk1, hk2, hw⟩ := hw
    obtain ⟨fs_4, hq, hw⟩ := hw
    refine ga_callv (va_runU (As := [.int p1]) (rest := []) ⟨hx, hb, hml, hown, hts⟩ (gm_J5_ensureCapacityInternal l g p0 p1 h kc_2 ks_3 _ hw) (ga_cwP (C := "java/lang/StringBuilder") 1 hts hI.2.1.1.2.1 q887 q4111 q919 rfl q888 q889 q109 (lw_meth q890) rfl rfl rfl hdG_J5_ensureCapacityInternal ⟨Nat.le_of_ble_eq_true rfl, Nat.le_of_ble_eq_true rfl⟩) (ga_preV (C := "java/lang/StringBuilder") hI hq rfl rfl) rfl rfl hl.1 rfl (ga_room (Nat.le_of_ble_eq_true rfl)) dJ5_setLength_15 ⟨Nat.le_trans (Nat.add_le_add_left hk1 _) hbc, Nat.le_trans (Nat.add_le_add_left hk2 _) hbs⟩) hI hbc hbs hk1 hk2 (fun h_5 H locs cells slots hw hI hbc hbs => ?_)
    refine lv_aload_n hx hb dJ5_setLength_18 rfl (lv_at hl 0 rfl) ?_
    obtain ⟨fs_6, v_7, hq, hv, hw⟩ := hw
    refine ga_get (ci := 22) (T := TJ6) (v := .int v_7) hx hb hts hown hI in_J6 rfl 3 (by decide) q375 (fun _ z => z) (ga_at.h hq) hv dJ5_setLength_19 ?_
    refine lv_iload_n hx hb dJ5_setLength_22 rfl (lv_at hl 1 rfl) ?_
    refine lv_icmp_ge (tgt := 63) hx hb dJ5_setLength_23 (by decide) (fun hc_8 => ?_) (fun hc_8 => ?_)
    · have hw := hw.1 hc_8
      refine lv_aload_n hx hb dJ5_setLength_63 rfl (lv_at hl 0 rfl) ?_
      obtain ⟨fs_9, v_10, hq, hv, hw⟩ := hw
      refine ga_get (ci := 22) (T := TJ6) (v := .int v_10) hx hb hts hown hI in_J6 rfl 3 (by decide) q375 (fun _ z => z) (ga_at.h hq) hv dJ5_setLength_64 ?_
      refine lv_iload_n hx hb dJ5_setLength_67 rfl (lv_at hl 1 rfl) ?_
      refine lv_icmp_le (tgt := 76) hx hb dJ5_setLength_68 (by decide) (fun hc_11 => ?_) (fun hc_11 => ?_)
      · have hw := hw.1 hc_11
        refine lv_aload_n hx hb dJ5_setLength_76 rfl (lv_at hl 0 rfl) ?_
        refine lv_iload_n hx hb dJ5_setLength_77 rfl (lv_at hl 1 rfl) ?_
        obtain ⟨fs_12, hq, hk, hw⟩ := hw
        refine ga_put (ci := 22) (T := TJ6) (v := .int p1) (ty := tyJ6 3) hx hb hts hown hI in_J6 rfl tyJ6 tyJ6_ok nmJ6 3 (by decide) q375 (fun _ z => z) rfl (tyJ6_ok 3 (by decide)) rfl rfl hq hk dJ5_setLength_78 (fun H locs hI => ?_)
        obtain ⟨h_13, eh_13⟩ : ∃ z, z = ga_set h_5 p0 (ga_O 22 (fs_12.set 3 (.int p1))) := ⟨_, rfl⟩
        rw [← eh_13] at hI
        have hw := hw h_13 eh_13
        exact ga_vret hx hb hr hlk hI hw (Nat.le_trans (Nat.le_add_right _ _) hbc) (Nat.le_trans (Nat.le_add_right _ _) hbs) dJ5_setLength_81
      · have hw := hw.2 hc_11
        refine lv_aload_n hx hb dJ5_setLength_71 rfl (lv_at hl 0 rfl) ?_
        refine lv_iconst (v := 1) hx hb dJ5_setLength_72 (by decide) ?_
        obtain ⟨fs_14, hq, hk, hw⟩ := hw
        refine ga_put (ci := 22) (T := TJ6) (v := .int (1 : Int32)) (ty := tyJ6 2) hx hb hts hown hI in_J6 rfl tyJ6 tyJ6_ok nmJ6 2 (by decide) q373 (fun _ z => z) rfl (tyJ6_ok 2 (by decide)) rfl rfl hq hk dJ5_setLength_73 (fun H locs hI => ?_)
        obtain ⟨h_15, eh_15⟩ : ∃ z, z = ga_set h_5 p0 (ga_O 22 (fs_14.set 2 (.int (1 : Int32)))) := ⟨_, rfl⟩
        rw [← eh_15] at hI
        have hw := hw h_15 eh_15
        refine lv_aload_n hx hb dJ5_setLength_76 rfl (lv_at hl 0 rfl) ?_
        refine lv_iload_n hx hb dJ5_setLength_77 rfl (lv_at hl 1 rfl) ?_
        obtain ⟨fs_16, hq, hk, hw⟩ := hw
        refine ga_put (ci := 22) (T := TJ6) (v := .int p1) (ty := tyJ6 3) hx hb hts hown hI in_J6 rfl tyJ6 tyJ6_ok nmJ6 3 (by decide) q375 (fun _ z => z) rfl (tyJ6_ok 3 (by decide)) rfl rfl hq hk dJ5_setLength_78 (fun H locs hI => ?_)
        obtain ⟨h_17, eh_17⟩ : ∃ z, z = ga_set h_15 p0 (ga_O 22 (fs_16.set 3 (.int p1))) := ⟨_, rfl⟩
        rw [← eh_17] at hI
        have hw := hw h_17 eh_17
        exact ga_vret hx hb hr hlk hI hw (Nat.le_trans (Nat.le_add_right _ _) hbc) (Nat.le_trans (Nat.le_add_right _ _) hbs) dJ5_setLength_81
    · have hw := hw.2 hc_8
      refine lv_aload_n hx hb dJ5_setLength_26 rfl (lv_at hl 0 rfl) ?_
      obtain ⟨fs_18, hq, hw⟩ := hw
      refine ga_calli (va_runU (As := []) (rest := []) ⟨hx, hb, hml, hown, hts⟩ (gm_J5_isLatin1 l g p0 h_5 _ hw) (va_cwU 0 hts (lw_app (List.forall_mem_cons.mpr ⟨q916, List.forall_mem_cons.mpr ⟨q918, List.forall_mem_cons.mpr ⟨q919, List.forall_mem_cons.mpr ⟨q917, List.forall_mem_cons.mpr ⟨q109, fun _ h => absurd h List.not_mem_nil⟩⟩⟩⟩⟩) (lw_meth q920)) rfl rfl rfl rfl hdG_J5_isLatin1 ⟨Nat.le_of_ble_eq_true rfl, Nat.le_of_ble_eq_true rfl⟩) (ga_preV (C := "java/lang/StringBuilder") hI hq rfl rfl) rfl rfl hl.1 rfl (ga_room (Nat.le_of_ble_eq_true rfl)) dJ5_setLength_27 ⟨Nat.le_trans (Nat.add_le_add_left (Nat.zero_le _) _) hbc, Nat.le_trans (Nat.add_le_add_left (Nat.zero_le _) _) hbs⟩) hI hbc hbs (Nat.zero_le _) (Nat.zero_le _) (fun r_20 h_19 H locs cells slots hw hI hbc hbs => ?_)
      refine lv_if_eq (tgt := 48) hx hb dJ5_setLength_30 (by decide) (fun hc_21 => ?_) (fun hc_21 => ?_)
      · have hw := hw.1 hc_21
        exact hw.elim
      · have hw := hw.2 hc_21
        refine lv_aload_n hx hb dJ5_setLength_33 rfl (lv_at hl 0 rfl) ?_
        obtain ⟨fs_26, v_27, hq, hv, hw⟩ := hw
        refine ga_get (ci := 22) (T := TJ6) (v := va_rf v_27) hx hb hts hown hI in_J6 rfl 0 (by decide) q371 (fun _ z => z) (ga_at.h hq) hv dJ5_setLength_34 ?_
        refine lv_aload_n hx hb dJ5_setLength_37 rfl (lv_at hl 0 rfl) ?_
        obtain ⟨fs_28, v_29, hq, hv, hw⟩ := hw
        refine ga_get (ci := 22) (T := TJ6) (v := .int v_29) hx hb hts hown hI in_J6 rfl 3 (by decide) q375 (fun _ z => z) (ga_at.h hq) hv dJ5_setLength_38 ?_
        refine lv_iload_n hx hb dJ5_setLength_41 rfl (lv_at hl 1 rfl) ?_
        obtain ⟨kc_30, ks_31, hk1, hk2, hw⟩ := hw
        refine ga_callv (va_runS (As := [va_rf v_27, .int v_29, .int p1]) (rest := []) ⟨hx, hb, hml, hown, hts⟩ (gm_J28_fillNull l g v_27 v_29 p1 h_19 kc_30 ks_31 _ hw) (va_cwS 3 hts (lw_S q2694 q2695 q134 q2696) rfl rfl rfl hdG_J28_fillNull ⟨Nat.le_of_ble_eq_true rfl, Nat.le_of_ble_eq_true rfl⟩) (ga_preS hI rfl) rfl rfl hl.1 rfl (ga_room (Nat.le_of_ble_eq_true rfl)) dJ5_setLength_42 ⟨Nat.le_trans (Nat.add_le_add_left hk1 _) hbc, Nat.le_trans (Nat.add_le_add_left hk2 _) hbs⟩) hI hbc hbs hk1 hk2 (fun h_32 H locs cells slots hw hI hbc hbs => ?_)
        refine lv_goto (tgt := 76) hx hb dJ5_setLength_45 (by decide) ?_
        refine lv_aload_n hx hb dJ5_setLength_76 rfl (lv_at hl 0 rfl) ?_
        refine lv_iload_n hx hb dJ5_setLength_77 rfl (lv_at hl 1 rfl) ?_
        obtain ⟨fs_33, hq, hk, hw⟩ := hw
        refine ga_put (ci := 22) (T := TJ6) (v := .int p1) (ty := tyJ6 3) hx hb hts hown hI in_J6 rfl tyJ6 tyJ6_ok nmJ6 3 (by decide) q375 (fun _ z => z) rfl (tyJ6_ok 3 (by decide)) rfl rfl hq hk dJ5_setLength_78 (fun H locs hI => ?_)
        obtain ⟨h_34, eh_34⟩ : ∃ z, z = ga_set h_32 p0 (ga_O 22 (fs_33.set 3 (.int p1))) := ⟨_, rfl⟩
        rw [← eh_34] at hI
        have hw := hw h_34 eh_34
        exact ga_vret hx hb hr hlk hI hw (Nat.le_trans (Nat.le_add_right _ _) hbc) (Nat.le_trans (Nat.le_add_right _ _) hbs) dJ5_setLength_81
  · have hw := hw.2 hc_1
    exact hw.elim
theorem hdG_J5_setLength : yJ5_setLength.cls ≠ "java/lang/invoke/MethodHandle" ∧ yJ5_setLength.cls ≠ "java/lang/invoke/VarHandle" ∧ (parseMethodDescriptor yJ5_setLength.desc).map (fun d => d.parameters.length) = some 1 := by decide +kernel
def gw_J6_setLength (K : ga_K) (p0 : Nat) (p1 : Int32) (h : ga_H) (mc ms : Nat) (post : ga_H → Prop) : Prop :=
  ∃ kc_1 ks_2 : Nat, kc_1 ≤ mc ∧ ks_2 ≤ ms ∧ ∃ fs_3 : List Value, ga_at K h p0 (ga_O 22 fs_3) ∧ gw_J5_setLength K p0 p1 h kc_1 ks_2 (fun (h_4 : ga_H) => post h_4)
set_option maxHeartbeats 4000000 in
theorem gm_J6_setLength (l : Launch) (g : ga_G) (p0 : Nat) (p1 : Int32) (h : ga_H) (mc ms : Nat) (post : ga_H → Prop) (hw : gw_J6_setLength g.2.2 p0 p1 h mc ms post) : Met l yJ6_setLength (ws_ yJ6_setLength cJ6_setLength 2 none) ({ frames := 24, cells := mc, slots := ms, locals := 496 } : Room) (va_Pc [.ref p0, .int p1] (ga_B g h)) (va_Qv post (ga_E g) (ga_A g)) mc ms (ga_A g) := by
  refine ga_met (own := "java/lang/StringBuilder") (nm := "setLength") (by decide) rfl rfl (by exact Nat.le_of_ble_eq_true rfl) (fun p e s m below meth c ls hC hI hl => ?_)
  have hl : lv_has ls 2 [(0, .ref p0), (1, .int p1)] := hl
  generalize ([.ref p0, .int p1] : List Value).toArray = args at hC ⊢
  obtain ⟨hx, hb, hml, hown, hts, hr, hlk, hnm⟩ := hC
  unfold gw_J6_setLength at hw
  obtain ⟨H, eH⟩ : ∃ z, z = s.heap := ⟨_, rfl⟩
  obtain ⟨locs, elo⟩ : ∃ z : List Loc, z = [] := ⟨_, rfl⟩
  rw [← eH, ← elo] at hI ⊢
  obtain ⟨cells, slots, hbc, hbs, e0, e1⟩ : ∃ a b : Nat, a + mc ≤ mc ∧ b + ms ≤ ms ∧ a = 0 ∧ b = 0 := ⟨0, 0, by omega, by omega, rfl, rfl⟩
  show W p l e ({ frames := 24, cells := mc, slots := ms, locals := 496 } : Room) s m args below meth c H locs 0 0 (MQ below (va_Qv post (ga_E g) (ga_A g)) args s mc ms (ga_A g)) (F0 m 0 ls [])
  suffices hgoal : W p l e ({ frames := 24, cells := mc, slots := ms, locals := 496 } : Room) s m args below meth c H locs cells slots (MQ below (va_Qv post (ga_E g) (ga_A g)) args s mc ms (ga_A g)) (F0 m 0 ls []) by rw [e0, e1] at hgoal; exact hgoal
  refine lv_aload_n hx hb dJ6_setLength_0 rfl (lv_at hl 0 rfl) ?_
  refine lv_iload_n hx hb dJ6_setLength_1 rfl (lv_at hl 1 rfl) ?_
  obtain ⟨kc_1, ks_2, hk1, hk2, hw⟩ := hw
  obtain ⟨fs_3, hq, hw⟩ := hw
  refine ga_callv (va_runSU (C := "java/lang/StringBuilder") (As := [.int p1]) (rest := []) (hI.2.1.1.1.1 22 _ rfl).2 ⟨hx, hb, hml, hown, hts⟩ (gm_J5_setLength l g p0 p1 h kc_1 ks_2 _ hw) (va_cwSU 1 hts (lw_app (List.forall_mem_cons.mpr ⟨q2672, List.forall_mem_cons.mpr ⟨q4123, List.forall_mem_cons.mpr ⟨q384, List.forall_mem_cons.mpr ⟨q2673, List.forall_mem_cons.mpr ⟨q109, fun _ h => absurd h List.not_mem_nil⟩⟩⟩⟩⟩) (lw_meth q2674)) rfl rfl rfl (by decide +kernel) ⟨Nat.le_of_ble_eq_true rfl, Nat.le_of_ble_eq_true rfl⟩) (ga_preV (C := "java/lang/StringBuilder") hI hq rfl rfl) rfl rfl hl.1 rfl (ga_room (Nat.le_of_ble_eq_true rfl)) dJ6_setLength_2 ⟨Nat.le_trans (Nat.add_le_add_left hk1 _) hbc, Nat.le_trans (Nat.add_le_add_left hk2 _) hbs⟩) hI hbc hbs hk1 hk2 (fun h_4 H locs cells slots hw hI hbc hbs => ?_)
  exact ga_vret hx hb hr hlk hI hw (Nat.le_trans (Nat.le_add_right _ _) hbc) (Nat.le_trans (Nat.le_add_right _ _) hbs) dJ6_setLength_5
theorem hdG_J6_setLength : yJ6_setLength.cls ≠ "java/lang/invoke/MethodHandle" ∧ yJ6_setLength.cls ≠ "java/lang/invoke/VarHandle" ∧ (parseMethodDescriptor yJ6_setLength.desc).map (fun d => d.parameters.length) = some 1 := by decide +kernel
def gw_X1_tellShelf_108 (K : ga_K) (post : ga_H → Prop) (p0 : Nat) (t0 : Option Nat) (t1 : Option Nat) (h : ga_H) (bc bs : Nat) : Prop :=
  ∃ a_26 : Nat, t1 = some a_26 ∧ ∃ kc_27 ks_28 : Nat, kc_27 ≤ bc ∧ ks_28 ≤ bs ∧ ∃ fs_29 : List Value, ga_at K h a_26 (ga_O 22 fs_29) ∧ gw_J6_append K a_26 t0 h kc_27 ks_28 (fun (r_31 : Option Nat) (h_30 : ga_H) => post h_30)
set_option maxHeartbeats 4000000 in
theorem gj_X1_tellShelf_108 {p : Program} {l : Launch} {e : Env} {s : State} {m : MethodId} {args : Array Value} {below : List Frame} {meth : Method} {c : Code} {mc ms : Nat} {H : Heap} {locs : List Loc} {cells slots : Nat} {ls : Array Slot} (g : ga_G) (post : ga_H → Prop) (p0 : Nat) (t0 : Option Nat) (t1 : Option Nat) (h : ga_H) (bc bs : Nat) (hC : ga_Cx p s m args meth c cX1_tellShelf 4 none "PaperStore" "tellShelf") (hw : gw_X1_tellShelf_108 g.2.2 post p0 t0 t1 h bc bs) (hI : ga_I g h s H locs) (hbc : cells + bc ≤ mc) (hbs : slots + bs ≤ ms) (hl : lv_has ls 4 []) : W p l e ({ frames := 14, cells := mc, slots := ms, locals := 275 } : Room) s m args below meth c H locs cells slots (MQ below (va_Qv post (ga_E g) (ga_A g)) args s mc ms (ga_A g)) (F0 m 108 ls [va_rf t0, va_rf t1]) := by
  obtain ⟨hx, hb, hml, hown, hts, hr, hlk, hnm⟩ := hC
  unfold gw_X1_tellShelf_108 at hw
  obtain ⟨a_26, ea_26, hw⟩ := hw
  rewrite [ea_26]
  obtain ⟨kc_27, ks_28, hk1, hk2, hw⟩ := hw
  obtain ⟨fs_29, hq, hw⟩ := hw
  refine ga_callq (va_runV (As := [va_rf t0]) (rest := []) ⟨hx, hb, hml, hown, hts⟩ (gm_J6_append l g a_26 t0 h kc_27 ks_28 _ hw) (cwV 1 hts (lw_V q2722 q877 q878 q110 q879) rfl rfl rfl ⟨rfl, hdG_J6_append⟩ ⟨Nat.le_of_ble_eq_true rfl, Nat.le_of_ble_eq_true rfl⟩) (ga_preV hI hq rfl rfl) rfl rfl hl.1 rfl (ga_room (Nat.le_of_ble_eq_true rfl)) dX1_tellShelf_108 ⟨Nat.le_trans (Nat.add_le_add_left hk1 _) hbc, Nat.le_trans (Nat.add_le_add_left hk2 _) hbs⟩) hI hbc hbs hk1 hk2 (fun r_31 h_30 H locs cells slots hw hI hbc hbs => ?_)
  refine lv_pop hx hb dX1_tellShelf_111 (ga_rcat _) ?_
  exact ga_vret hx hb hr hlk hI hw (Nat.le_trans (Nat.le_add_right _ _) hbc) (Nat.le_trans (Nat.le_add_right _ _) hbs) dX1_tellShelf_112
def gw_X1_tellShelf_78 (K : ga_K) (post : ga_H → Prop) (hd8 : ga_H → Nat → Nat → Prop) (p0 : Nat) (t0 : Option Nat) (t1 : Option Nat) (v1 : Option Nat) (v2 : Option Nat) (h : ga_H) (bc bs : Nat) : Prop :=
  ∃ a_68 : Nat, t1 = some a_68 ∧ ∃ kc_69 ks_70 : Nat, kc_69 ≤ bc ∧ ks_70 ≤ bs ∧ ∃ fs_71 : List Value, ga_at K h a_68 (ga_O 22 fs_71) ∧ gw_J6_append K a_68 t0 h kc_69 ks_70 (fun (r_73 : Option Nat) (h_72 : ga_H) => hd8 h_72 (bc - kc_69) (bs - ks_70))
set_option maxHeartbeats 4000000 in
theorem gj_X1_tellShelf_78 {p : Program} {l : Launch} {e : Env} {s : State} {m : MethodId} {args : Array Value} {below : List Frame} {meth : Method} {c : Code} {mc ms : Nat} {H : Heap} {locs : List Loc} {cells slots : Nat} {ls : Array Slot} (g : ga_G) (post : ga_H → Prop) (hd8 : ga_H → Nat → Nat → Prop) (p0 : Nat) (t0 : Option Nat) (t1 : Option Nat) (v1 : Option Nat) (v2 : Option Nat) (h : ga_H) (bc bs : Nat) (hC : ga_Cx p s m args meth c cX1_tellShelf 4 none "PaperStore" "tellShelf") (hw : gw_X1_tellShelf_78 g.2.2 post hd8 p0 t0 t1 v1 v2 h bc bs) (hhd8 : ∀ (T : ga_H) (B1 : Nat) (B2 : Nat) (H : Heap) (locs : List Loc) (cells slots : Nat) (ls : Array Slot), hd8 T B1 B2 → ga_I g T s H locs → cells + B1 ≤ mc → slots + B2 ≤ ms → lv_has ls 4 [(0, .ref p0), (1, va_rf v1), (2, va_rf v2)] → W p l e ({ frames := 14, cells := mc, slots := ms, locals := 275 } : Room) s m args below meth c H locs cells slots (MQ below (va_Qv post (ga_E g) (ga_A g)) args s mc ms (ga_A g)) (F0 m 8 ls [])) (hI : ga_I g h s H locs) (hbc : cells + bc ≤ mc) (hbs : slots + bs ≤ ms) (hl : lv_has ls 4 [(0, .ref p0), (1, va_rf v1), (2, va_rf v2)]) : W p l e ({ frames := 14, cells := mc, slots := ms, locals := 275 } : Room) s m args below meth c H locs cells slots (MQ below (va_Qv post (ga_E g) (ga_A g)) args s mc ms (ga_A g)) (F0 m 78 ls [va_rf t0, va_rf t1]) := by
  obtain ⟨hx, hb, hml, hown, hts, hr, hlk, hnm⟩ := hC
  unfold gw_X1_tellShelf_78 at hw
  obtain ⟨a_68, ea_68, hw⟩ := hw
  rewrite [ea_68]
  obtain ⟨kc_69, ks_70, hk1, hk2, hw⟩ := hw
  obtain ⟨fs_71, hq, hw⟩ := hw
  refine ga_callq (va_runV (As := [va_rf t0]) (rest := []) ⟨hx, hb, hml, hown, hts⟩ (gm_J6_append l g a_68 t0 h kc_69 ks_70 _ hw) (cwV 1 hts (lw_V q2722 q877 q878 q110 q879) rfl rfl rfl ⟨rfl, hdG_J6_append⟩ ⟨Nat.le_of_ble_eq_true rfl, Nat.le_of_ble_eq_true rfl⟩) (ga_preV hI hq rfl rfl) rfl rfl hl.1 rfl (ga_room (Nat.le_of_ble_eq_true rfl)) dX1_tellShelf_78 ⟨Nat.le_trans (Nat.add_le_add_left hk1 _) hbc, Nat.le_trans (Nat.add_le_add_left hk2 _) hbs⟩) hI hbc hbs hk1 hk2 (fun r_73 h_72 H locs cells slots hw hI hbc hbs => ?_)
  refine lv_pop hx hb dX1_tellShelf_81 (ga_rcat _) ?_
  refine lv_goto (tgt := 8) hx hb dX1_tellShelf_82 (by decide) ?_
  exact hhd8 _ _ _ H locs cells slots ls hw hI hbc hbs (lv_sub hl [0, 1, 2] rfl)
def gw_X1_tellShelf_52 (K : ga_K) (post : ga_H → Prop) (hd8 : ga_H → Nat → Nat → Prop) (p0 : Nat) (t0 : Option Nat) (t1 : Option Nat) (v1 : Option Nat) (v2 : Option Nat) (v3 : Option Nat) (h : ga_H) (bc bs : Nat) : Prop :=
  ∃ a_48 : Nat, t1 = some a_48 ∧ ∃ kc_49 ks_50 : Nat, kc_49 ≤ bc ∧ ks_50 ≤ bs ∧ ∃ fs_51 : List Value, ga_at K h a_48 (ga_O 22 fs_51) ∧ gw_J6_append K a_48 t0 h kc_49 ks_50 (fun (r_53 : Option Nat) (h_52 : ga_H) => ∃ a_54 : Nat, v3 = some a_54 ∧ ∃ (fs_55 : List Value) (v_56 : Int32), h_52 a_54 = some (ga_O 4 fs_55) ∧ fs_55[0]? = some (.int v_56) ∧ (∃ a_57 : Nat, r_53 = some a_57 ∧ ∃ kc_58 ks_59 : Nat, kc_58 ≤ (bc - kc_49) ∧ ks_59 ≤ (bs - ks_50) ∧ ∃ fs_60 : List Value, ga_at K h_52 a_57 (ga_O 22 fs_60) ∧ gw_J6_append_2 K a_57 v_56 h_52 kc_58 ks_59 (fun (r_62 : Option Nat) (h_61 : ga_H) => ∃ a_63 : Nat, v3 = some a_63 ∧ ∃ fs_64 : List Value, ga_at K h_61 a_63 (ga_O 4 fs_64) ∧ gw_X6_isWavy K a_63 h_61 (fun (r_66 : Int32) (h_65 : ga_H) => (r_66 = (0 : Int32) → (gw_X1_tellShelf_78 K post (fun (T : ga_H) (B1 : Nat) (B2 : Nat) => hd8 T B1 B2) p0 (some (K.2 21)) r_62 v1 v2 h_65 ((bc - kc_49) - kc_58) ((bs - ks_50) - ks_59))) ∧ (¬ r_66 = (0 : Int32) → (gw_X1_tellShelf_78 K post (fun (T : ga_H) (B1 : Nat) (B2 : Nat) => hd8 T B1 B2) p0 (some (K.2 23)) r_62 v1 v2 h_65 ((bc - kc_49) - kc_58) ((bs - ks_50) - ks_59)))))))
set_option maxHeartbeats 4000000 in
theorem gj_X1_tellShelf_52 {p : Program} {l : Launch} {e : Env} {s : State} {m : MethodId} {args : Array Value} {below : List Frame} {meth : Method} {c : Code} {mc ms : Nat} {H : Heap} {locs : List Loc} {cells slots : Nat} {ls : Array Slot} (g : ga_G) (post : ga_H → Prop) (hd8 : ga_H → Nat → Nat → Prop) (p0 : Nat) (t0 : Option Nat) (t1 : Option Nat) (v1 : Option Nat) (v2 : Option Nat) (v3 : Option Nat) (h : ga_H) (bc bs : Nat) (hC : ga_Cx p s m args meth c cX1_tellShelf 4 none "PaperStore" "tellShelf") (hw : gw_X1_tellShelf_52 g.2.2 post hd8 p0 t0 t1 v1 v2 v3 h bc bs) (hhd8 : ∀ (T : ga_H) (B1 : Nat) (B2 : Nat) (H : Heap) (locs : List Loc) (cells slots : Nat) (ls : Array Slot), hd8 T B1 B2 → ga_I g T s H locs → cells + B1 ≤ mc → slots + B2 ≤ ms → lv_has ls 4 [(0, .ref p0), (1, va_rf v1), (2, va_rf v2)] → W p l e ({ frames := 14, cells := mc, slots := ms, locals := 275 } : Room) s m args below meth c H locs cells slots (MQ below (va_Qv post (ga_E g) (ga_A g)) args s mc ms (ga_A g)) (F0 m 8 ls [])) (hI : ga_I g h s H locs) (hbc : cells + bc ≤ mc) (hbs : slots + bs ≤ ms) (hl : lv_has ls 4 [(0, .ref p0), (1, va_rf v1), (2, va_rf v2), (3, va_rf v3)]) : W p l e ({ frames := 14, cells := mc, slots := ms, locals := 275 } : Room) s m args below meth c H locs cells slots (MQ below (va_Qv post (ga_E g) (ga_A g)) args s mc ms (ga_A g)) (F0 m 52 ls [va_rf t0, va_rf t1]) := by
  obtain ⟨hx, hb, hml, hown, hts, hr, hlk, hnm⟩ := hC
  unfold gw_X1_tellShelf_52 at hw
  obtain ⟨a_48, ea_48, hw⟩ := hw
  rewrite [ea_48]
  obtain ⟨kc_49, ks_50, hk1, hk2, hw⟩ := hw
  obtain ⟨fs_51, hq, hw⟩ := hw
  refine ga_callq (va_runV (As := [va_rf t0]) (rest := []) ⟨hx, hb, hml, hown, hts⟩ (gm_J6_append l g a_48 t0 h kc_49 ks_50 _ hw) (cwV 1 hts (lw_V q2722 q877 q878 q110 q879) rfl rfl rfl ⟨rfl, hdG_J6_append⟩ ⟨Nat.le_of_ble_eq_true rfl, Nat.le_of_ble_eq_true rfl⟩) (ga_preV hI hq rfl rfl) rfl rfl hl.1 rfl (ga_room (Nat.le_of_ble_eq_true rfl)) dX1_tellShelf_52 ⟨Nat.le_trans (Nat.add_le_add_left hk1 _) hbc, Nat.le_trans (Nat.add_le_add_left hk2 _) hbs⟩) hI hbc hbs hk1 hk2 (fun r_53 h_52 H locs cells slots hw hI hbc hbs => ?_)
  refine ga_aload_n hx hb dX1_tellShelf_55 rfl (lv_at hl 3 rfl) ?_
  obtain ⟨a_54, ea_54, hw⟩ := hw
  rewrite [ea_54]
  obtain ⟨fs_55, v_56, hq, hv, hw⟩ := hw
  refine ga_getN (ci := 4) (T := TX6) (v := .int v_56) hx hb hts hown hI in_X6 rfl 0 (by decide) q1295 (fun _ z => z) (ga_at.h hq) hv dX1_tellShelf_56 ?_
  obtain ⟨a_57, ea_57, hw⟩ := hw
  rewrite [ea_57]
  obtain ⟨kc_58, ks_59, hk1, hk2, hw⟩ := hw
  obtain ⟨fs_60, hq, hw⟩ := hw
  refine ga_callq (va_runV (As := [.int v_56]) (rest := []) ⟨hx, hb, hml, hown, hts⟩ (gm_J6_append_2 l g a_57 v_56 h_52 kc_58 ks_59 _ hw) (cwV 1 hts (lw_V q2729 q991 q992 q110 q993) rfl rfl rfl ⟨rfl, hdG_J6_append_2⟩ ⟨Nat.le_of_ble_eq_true rfl, Nat.le_of_ble_eq_true rfl⟩) (ga_preV hI hq rfl rfl) rfl rfl hl.1 rfl (ga_room (Nat.le_of_ble_eq_true rfl)) dX1_tellShelf_59 ⟨Nat.le_trans (Nat.add_le_add_left hk1 _) hbc, Nat.le_trans (Nat.add_le_add_left hk2 _) hbs⟩) hI hbc hbs hk1 hk2 (fun r_62 h_61 H locs cells slots hw hI hbc hbs => ?_)
  refine ga_aload_n hx hb dX1_tellShelf_62 rfl (lv_at hl 3 rfl) ?_
  obtain ⟨a_63, ea_63, hw⟩ := hw
  rewrite [ea_63]
  obtain ⟨fs_64, hq, hw⟩ := hw
  refine ga_calli (va_runV (As := []) (rest := [va_rf r_62]) ⟨hx, hb, hml, hown, hts⟩ (gm_X6_isWavy l g a_63 h_61 _ hw) (cwV 0 hts (lw_V q2287 q2288 q2289 q137 q2290) rfl rfl rfl ⟨rfl, hdG_X6_isWavy⟩ ⟨Nat.le_of_ble_eq_true rfl, Nat.le_of_ble_eq_true rfl⟩) (ga_preV hI hq rfl rfl) rfl rfl hl.1 rfl (ga_room (Nat.le_of_ble_eq_true rfl)) dX1_tellShelf_63 ⟨Nat.le_trans (Nat.add_le_add_left (Nat.zero_le _) _) hbc, Nat.le_trans (Nat.add_le_add_left (Nat.zero_le _) _) hbs⟩) hI hbc hbs (Nat.zero_le _) (Nat.zero_le _) (fun r_66 h_65 H locs cells slots hw hI hbc hbs => ?_)
  refine lv_if_eq (tgt := 75) hx hb dX1_tellShelf_66 (by decide) (fun hc_67 => ?_) (fun hc_67 => ?_)
  · have hw := hw.1 hc_67
    refine ga_ldcws hx hb hI 1 hown rfl dX1_tellShelf_75 ?_
    exact gj_X1_tellShelf_78 g post (fun (T : ga_H) (B1 : Nat) (B2 : Nat) => hd8 T B1 B2) p0 (some (g.2.2.2 21)) r_62 v1 v2 h_65 ((bc - kc_49) - kc_58) ((bs - ks_50) - ks_59) ⟨hx, hb, hml, hown, hts, hr, hlk, hnm⟩ hw hhd8 hI hbc hbs (lv_sub hl [0, 1, 2] rfl)
  · have hw := hw.2 hc_67
    refine ga_ldcws hx hb hI 3 hown rfl dX1_tellShelf_69 ?_
    refine lv_goto (tgt := 78) hx hb dX1_tellShelf_72 (by decide) ?_
    exact gj_X1_tellShelf_78 g post (fun (T : ga_H) (B1 : Nat) (B2 : Nat) => hd8 T B1 B2) p0 (some (g.2.2.2 23)) r_62 v1 v2 h_65 ((bc - kc_49) - kc_58) ((bs - ks_50) - ks_59) ⟨hx, hb, hml, hown, hts, hr, hlk, hnm⟩ hw hhd8 hI hbc hbs (lv_sub hl [0, 1, 2] rfl)
def gw_X1_tellShelf (K : ga_K) (p0 : Nat) (p1 : Option Nat) (h : ga_H) (mc ms : Nat) (post : ga_H → Prop) : Prop :=
  ∃ a_1 : Nat, p1 = some a_1 ∧ ∃ (fs_2 : List Value) (v_3 : Option Nat), h a_1 = some (ga_O 3 fs_2) ∧ fs_2[0]? = some (va_rf v_3) ∧ (∃ a_4 : Nat, v_3 = some a_4 ∧ ∃ kc_5 ks_6 : Nat, kc_5 ≤ mc ∧ ks_6 ≤ ms ∧ ∃ fs_7 : List Value, ga_at K h a_4 (ga_O 13 fs_7) ∧ gw_J2_iterator K a_4 h kc_5 ks_6 (fun (r_9 : Option Nat) (h_8 : ga_H) => ∃ (In_10 : ga_H → Nat → Nat → Prop) (mu_10 : ga_H → Nat → Nat → Nat), In_10 h_8 (mc - kc_5) (ms - ks_6) ∧ ∀ (h_10 : ga_H) (bc_10 : Nat) (bs_10 : Nat), In_10 h_10 bc_10 bs_10 → (∃ a_11 : Nat, r_9 = some a_11 ∧ ∃ fs_12 : List Value, ga_at K h_10 a_11 (ga_O 14 fs_12) ∧ gw_J16_hasNext K a_11 h_10 (fun (r_14 : Int32) (h_13 : ga_H) => (r_14 = (0 : Int32) → (∃ (fs_16 : List Value) (v_17 : Option Nat), h_13 p0 = some (ga_O 0 fs_16) ∧ fs_16[4]? = some (va_rf v_17) ∧ (∃ a_18 : Nat, p1 = some a_18 ∧ ∃ (fs_19 : List Value) (v_20 : Option Nat), h_13 a_18 = some (ga_O 3 fs_19) ∧ fs_19[0]? = some (va_rf v_20) ∧ (∃ a_21 : Nat, v_20 = some a_21 ∧ ∃ fs_22 : List Value, ga_at K h_13 a_21 (ga_O 13 fs_22) ∧ gw_J2_isEmpty K a_21 h_13 (fun (r_24 : Int32) (h_23 : ga_H) => (r_24 = (0 : Int32) → (gw_X1_tellShelf_108 K post p0 (some (K.2 21)) v_17 h_23 bc_10 bs_10)) ∧ (¬ r_24 = (0 : Int32) → (gw_X1_tellShelf_108 K post p0 (some (K.2 24)) v_17 h_23 bc_10 bs_10))))))) ∧ (¬ r_14 = (0 : Int32) → (∃ a_32 : Nat, r_9 = some a_32 ∧ ∃ kc_33 ks_34 : Nat, kc_33 ≤ bc_10 ∧ ks_34 ≤ bs_10 ∧ ∃ fs_35 : List Value, ga_at K h_13 a_32 (ga_O 14 fs_35) ∧ gw_J16_next K a_32 h_13 kc_33 ks_34 (fun (r_37 : Option Nat) (h_36 : ga_H) => ga_ok K h_36 "PaperStore$Ream" r_37 ∧ (∃ (fs_38 : List Value) (v_39 : Option Nat), h_36 p0 = some (ga_O 0 fs_38) ∧ fs_38[4]? = some (va_rf v_39) ∧ (∃ a_40 : Nat, p1 = some a_40 ∧ ∃ (fs_41 : List Value) (v_42 : Option Nat), h_36 a_40 = some (ga_O 3 fs_41) ∧ fs_41[0]? = some (va_rf v_42) ∧ (∃ a_43 : Nat, v_42 = some a_43 ∧ ∃ fs_44 : List Value, ga_at K h_36 a_43 (ga_O 13 fs_44) ∧ gw_J2_get K a_43 (0 : Int32) h_36 (fun (r_46 : Option Nat) (h_45 : ga_H) => (¬ r_37 = r_46 → (gw_X1_tellShelf_52 K post (fun (T : ga_H) (B1 : Nat) (B2 : Nat) => In_10 T B1 B2 ∧ mu_10 T B1 B2 < mu_10 h_10 bc_10 bs_10) p0 (some (K.2 22)) v_39 p1 r_9 r_37 h_45 (bc_10 - kc_33) (bs_10 - ks_34))) ∧ (r_37 = r_46 → (gw_X1_tellShelf_52 K post (fun (T : ga_H) (B1 : Nat) (B2 : Nat) => In_10 T B1 B2 ∧ mu_10 T B1 B2 < mu_10 h_10 bc_10 bs_10) p0 (some (K.2 21)) v_39 p1 r_9 r_37 h_45 (bc_10 - kc_33) (bs_10 - ks_34))))))))))))))
set_option maxHeartbeats 4000000 in
theorem gm_X1_tellShelf (l : Launch) (g : ga_G) (p0 : Nat) (p1 : Option Nat) (h : ga_H) (mc ms : Nat) (post : ga_H → Prop) (hw : gw_X1_tellShelf g.2.2 p0 p1 h mc ms post) : Met l yX1_tellShelf (ws_ yX1_tellShelf cX1_tellShelf 4 none) ({ frames := 14, cells := mc, slots := ms, locals := 275 } : Room) (va_Pc [.ref p0, va_rf p1] (ga_B g h)) (va_Qv post (ga_E g) (ga_A g)) mc ms (ga_A g) := by
  refine ga_met (own := "PaperStore") (nm := "tellShelf") (by decide) rfl rfl (by cases p1 <;> exact Nat.le_of_ble_eq_true rfl) (fun p e s m below meth c ls hC hI hl => ?_)
  have hl : lv_has ls 4 [(0, .ref p0), (1, va_rf p1)] := (by cases p1 <;> exact hl)
  generalize ([.ref p0, va_rf p1] : List Value).toArray = args at hC ⊢
  obtain ⟨hx, hb, hml, hown, hts, hr, hlk, hnm⟩ := hC
  unfold gw_X1_tellShelf at hw
  obtain ⟨H, eH⟩ : ∃ z, z = s.heap := ⟨_, rfl⟩
  obtain ⟨locs, elo⟩ : ∃ z : List Loc, z = [] := ⟨_, rfl⟩
  rw [← eH, ← elo] at hI ⊢
  obtain ⟨cells, slots, hbc, hbs, e0, e1⟩ : ∃ a b : Nat, a + mc ≤ mc ∧ b + ms ≤ ms ∧ a = 0 ∧ b = 0 := ⟨0, 0, by omega, by omega, rfl, rfl⟩
  show W p l e ({ frames := 14, cells := mc, slots := ms, locals := 275 } : Room) s m args below meth c H locs 0 0 (MQ below (va_Qv post (ga_E g) (ga_A g)) args s mc ms (ga_A g)) (F0 m 0 ls [])
  suffices hgoal : W p l e ({ frames := 14, cells := mc, slots := ms, locals := 275 } : Room) s m args below meth c H locs cells slots (MQ below (va_Qv post (ga_E g) (ga_A g)) args s mc ms (ga_A g)) (F0 m 0 ls []) by rw [e0, e1] at hgoal; exact hgoal
  refine ga_aload_n hx hb dX1_tellShelf_0 rfl (lv_at hl 1 rfl) ?_
  obtain ⟨a_1, ea_1, hw⟩ := hw
  rewrite [ea_1]
  obtain ⟨fs_2, v_3, hq, hv, hw⟩ := hw
  refine ga_getN (ci := 3) (T := TX4) (v := va_rf v_3) hx hb hts hown hI in_X4 rfl 0 (by decide) q275 (fun _ z => z) (ga_at.h hq) hv dX1_tellShelf_1 ?_
  obtain ⟨a_4, ea_4, hw⟩ := hw
  rewrite [ea_4]
  obtain ⟨kc_5, ks_6, hk1, hk2, hw⟩ := hw
  obtain ⟨fs_7, hq, hw⟩ := hw
  refine ga_callq (va_runV (As := []) (rest := []) ⟨hx, hb, hml, hown, hts⟩ (gm_J2_iterator l g a_4 h kc_5 ks_6 _ hw) (cwV 0 hts (lw_V q2727 q564 q4118 q104 q565) rfl rfl rfl ⟨rfl, hdG_J2_iterator⟩ ⟨Nat.le_of_ble_eq_true rfl, Nat.le_of_ble_eq_true rfl⟩) (ga_preV hI hq rfl rfl) rfl rfl hl.1 rfl (ga_room (Nat.le_of_ble_eq_true rfl)) dX1_tellShelf_4 ⟨Nat.le_trans (Nat.add_le_add_left hk1 _) hbc, Nat.le_trans (Nat.add_le_add_left hk2 _) hbs⟩) hI hbc hbs hk1 hk2 (fun r_9 h_8 H locs cells slots hw hI hbc hbs => ?_)
  refine ga_astore_n (i := 2) (x := r_9) (lv' := [(2, va_rf r_9), (0, .ref p0), (1, va_rf p1)]) hx hb dX1_tellShelf_7 rfl hl (by decide) (by simp [ga_rcat, ga_cat_r, ga_cat_i, ga_cat_f, ga_cat_l, ga_cat_d]) (fun ls hl => ?_)
  obtain ⟨In_10, mu_10, h0_10, hw⟩ := hw
  have hL_10 : ∀ (n : Nat) (h_10 : ga_H) (bc_10 : Nat) (bs_10 : Nat) (H : Heap) (locs : List Loc) (cells slots : Nat) (ls : Array Slot), mu_10 h_10 bc_10 bs_10 < n → In_10 h_10 bc_10 bs_10 → ga_I g h_10 s H locs → cells + bc_10 ≤ mc → slots + bs_10 ≤ ms → lv_has ls 4 [(0, .ref p0), (1, va_rf p1), (2, va_rf r_9)] → W p l e ({ frames := 14, cells := mc, slots := ms, locals := 275 } : Room) s m args below meth c H locs cells slots (MQ below (va_Qv post (ga_E g) (ga_A g)) args s mc ms (ga_A g)) (F0 m 8 ls []) := by
    intro n
    induction n with
    | zero => intro h_10 bc_10 bs_10 H locs cells slots ls hn _ _ _ _ _; exact absurd hn (Nat.not_lt_zero _)
    | succ n ih_10 =>
      intro h_10 bc_10 bs_10 H locs cells slots ls hn_10 hi_10 hI hbc hbs hl
      have hw := hw h_10 bc_10 bs_10 hi_10
      refine ga_aload_n hx hb dX1_tellShelf_8 rfl (lv_at hl 2 rfl) ?_
      obtain ⟨a_11, ea_11, hw⟩ := hw
      rewrite [ea_11]
      obtain ⟨fs_12, hq, hw⟩ := hw
      refine ga_callFi (va_runF (As := []) (rest := []) (hI.2.1.1.1.1 14 _ rfl).2 ⟨hx, hb, hml, hown, hts⟩ (gm_J16_hasNext l g a_11 h_10 _ hw) (va_cwF 0 hts (lw_app (List.forall_mem_cons.mpr ⟨q1180, List.forall_mem_cons.mpr ⟨q696, List.forall_mem_cons.mpr ⟨q698, List.forall_mem_cons.mpr ⟨q122, fun _ h => absurd h List.not_mem_nil⟩⟩⟩⟩) (lw_meth q700)) rfl rfl rfl (hI.2.1.1.2.2 _ _ _ ⟨by decide +kernel, q694, q693, q699, q697, q695⟩) (by decide +kernel) ⟨Nat.le_of_ble_eq_true rfl, Nat.le_of_ble_eq_true rfl⟩) (ga_preV (C := "java/util/ArrayList$Itr") hI hq rfl rfl) rfl rfl hl.1 rfl (ga_room (Nat.le_of_ble_eq_true rfl)) dX1_tellShelf_9 ⟨Nat.le_trans (Nat.add_le_add_left (Nat.zero_le _) _) hbc, Nat.le_trans (Nat.add_le_add_left (Nat.zero_le _) _) hbs⟩) hI hbc hbs (Nat.zero_le _) (Nat.zero_le _) (fun r_14 h_13 H locs cells slots hw hI hbc hbs => ?_)
      refine lv_if_eq (tgt := 85) hx hb dX1_tellShelf_14 (by decide) (fun hc_15 => ?_) (fun hc_15 => ?_)
      · have hw := hw.1 hc_15
        refine lv_aload_n hx hb dX1_tellShelf_85 rfl (lv_at hl 0 rfl) ?_
        obtain ⟨fs_16, v_17, hq, hv, hw⟩ := hw
        refine ga_get (ci := 0) (T := TX1) (v := va_rf v_17) hx hb hts hown hI in_X1 rfl 4 (by decide) q391 (fun _ z => z) (ga_at.h hq) hv dX1_tellShelf_86 ?_
        refine ga_aload_n hx hb dX1_tellShelf_89 rfl (lv_at hl 1 rfl) ?_
        obtain ⟨a_18, ea_18, hw⟩ := hw
        rewrite [ea_18]
        obtain ⟨fs_19, v_20, hq, hv, hw⟩ := hw
        refine ga_getN (ci := 3) (T := TX4) (v := va_rf v_20) hx hb hts hown hI in_X4 rfl 0 (by decide) q275 (fun _ z => z) (ga_at.h hq) hv dX1_tellShelf_90 ?_
        obtain ⟨a_21, ea_21, hw⟩ := hw
        rewrite [ea_21]
        obtain ⟨fs_22, hq, hw⟩ := hw
        refine ga_calli (va_runV (As := []) (rest := [va_rf v_17]) ⟨hx, hb, hml, hown, hts⟩ (gm_J2_isEmpty l g a_21 h_13 _ hw) (cwV 0 hts (lw_V q2731 q2266 q2267 q104 q2268) rfl rfl rfl ⟨rfl, hdG_J2_isEmpty⟩ ⟨Nat.le_of_ble_eq_true rfl, Nat.le_of_ble_eq_true rfl⟩) (ga_preV hI hq rfl rfl) rfl rfl hl.1 rfl (ga_room (Nat.le_of_ble_eq_true rfl)) dX1_tellShelf_93 ⟨Nat.le_trans (Nat.add_le_add_left (Nat.zero_le _) _) hbc, Nat.le_trans (Nat.add_le_add_left (Nat.zero_le _) _) hbs⟩) hI hbc hbs (Nat.zero_le _) (Nat.zero_le _) (fun r_24 h_23 H locs cells slots hw hI hbc hbs => ?_)
        refine lv_if_eq (tgt := 105) hx hb dX1_tellShelf_96 (by decide) (fun hc_25 => ?_) (fun hc_25 => ?_)
        · have hw := hw.1 hc_25
          refine ga_ldcws hx hb hI 1 hown rfl dX1_tellShelf_105 ?_
          exact gj_X1_tellShelf_108 g post p0 (some (g.2.2.2 21)) v_17 h_23 bc_10 bs_10 ⟨hx, hb, hml, hown, hts, hr, hlk, hnm⟩ hw hI hbc hbs (lv_sub hl [] rfl)
        · have hw := hw.2 hc_25
          refine ga_ldcws hx hb hI 4 hown rfl dX1_tellShelf_99 ?_
          refine lv_goto (tgt := 108) hx hb dX1_tellShelf_102 (by decide) ?_
          exact gj_X1_tellShelf_108 g post p0 (some (g.2.2.2 24)) v_17 h_23 bc_10 bs_10 ⟨hx, hb, hml, hown, hts, hr, hlk, hnm⟩ hw hI hbc hbs (lv_sub hl [] rfl)
      · have hw := hw.2 hc_15
        refine ga_aload_n hx hb dX1_tellShelf_17 rfl (lv_at hl 2 rfl) ?_
        obtain ⟨a_32, ea_32, hw⟩ := hw
        rewrite [ea_32]
        obtain ⟨kc_33, ks_34, hk1, hk2, hw⟩ := hw
        obtain ⟨fs_35, hq, hw⟩ := hw
        refine ga_callFq (va_runF (As := []) (rest := []) (hI.2.1.1.1.1 14 _ rfl).2 ⟨hx, hb, hml, hown, hts⟩ (gm_J16_next l g a_32 h_13 kc_33 ks_34 _ hw) (va_cwF 0 hts (lw_app (List.forall_mem_cons.mpr ⟨q1182, List.forall_mem_cons.mpr ⟨q721, List.forall_mem_cons.mpr ⟨q723, List.forall_mem_cons.mpr ⟨q122, fun _ h => absurd h List.not_mem_nil⟩⟩⟩⟩) (lw_meth q725)) rfl rfl rfl (hI.2.1.1.2.2 _ _ _ ⟨by decide +kernel, q720, q719, q724, q722, q695⟩) (by decide +kernel) ⟨Nat.le_of_ble_eq_true rfl, Nat.le_of_ble_eq_true rfl⟩) (ga_preV (C := "java/util/ArrayList$Itr") hI hq rfl rfl) rfl rfl hl.1 rfl (ga_room (Nat.le_of_ble_eq_true rfl)) dX1_tellShelf_18 ⟨Nat.le_trans (Nat.add_le_add_left hk1 _) hbc, Nat.le_trans (Nat.add_le_add_left hk2 _) hbs⟩) hI hbc hbs hk1 hk2 (fun r_37 h_36 H locs cells slots hw hI hbc hbs => ?_)
        refine ga_cast (x := r_37) hx hb hts hown hI q1183 hw.1 dX1_tellShelf_23 ?_
        have hw := hw.2
        refine ga_astore_n (i := 3) (x := r_37) (lv' := [(3, va_rf r_37), (0, .ref p0), (1, va_rf p1), (2, va_rf r_9)]) hx hb dX1_tellShelf_26 rfl hl (by decide) (by simp [ga_rcat, ga_cat_r, ga_cat_i, ga_cat_f, ga_cat_l, ga_cat_d]) (fun ls hl => ?_)
        refine lv_aload_n hx hb dX1_tellShelf_27 rfl (lv_at hl 1 rfl) ?_
        obtain ⟨fs_38, v_39, hq, hv, hw⟩ := hw
        refine ga_get (ci := 0) (T := TX1) (v := va_rf v_39) hx hb hts hown hI in_X1 rfl 4 (by decide) q391 (fun _ z => z) (ga_at.h hq) hv dX1_tellShelf_28 ?_
        refine ga_aload_n hx hb dX1_tellShelf_31 rfl (lv_at hl 0 rfl) ?_
        refine ga_aload_n hx hb dX1_tellShelf_32 rfl (lv_at hl 2 rfl) ?_
        obtain ⟨a_40, ea_40, hw⟩ := hw
        rewrite [ea_40]
        obtain ⟨fs_41, v_42, hq, hv, hw⟩ := hw
        refine ga_getN (ci := 3) (T := TX4) (v := va_rf v_42) hx hb hts hown hI in_X4 rfl 0 (by decide) q275 (fun _ z => z) (ga_at.h hq) hv dX1_tellShelf_33 ?_
        refine lv_iconst (v := 0) hx hb dX1_tellShelf_36 (by decide) ?_
        obtain ⟨a_43, ea_43, hw⟩ := hw
        rewrite [ea_43]
        obtain ⟨fs_44, hq, hw⟩ := hw
        refine ga_callq (va_runV (As := [.int (0 : Int32)]) (rest := [va_rf r_37, va_rf v_39]) ⟨hx, hb, hml, hown, hts⟩ (gm_J2_get l g a_43 (0 : Int32) h_36 _ hw) (cwV 1 hts (lw_V q2142 q839 q4120 q104 q841) rfl rfl rfl ⟨rfl, hdG_J2_get⟩ ⟨Nat.le_of_ble_eq_true rfl, Nat.le_of_ble_eq_true rfl⟩) (ga_preV hI hq rfl rfl) rfl rfl hl.1 rfl (ga_room (Nat.le_of_ble_eq_true rfl)) dX1_tellShelf_37 ⟨Nat.le_trans (Nat.add_le_add_left (Nat.zero_le _) _) hbc, Nat.le_trans (Nat.add_le_add_left (Nat.zero_le _) _) hbs⟩) hI hbc hbs (Nat.zero_le _) (Nat.zero_le _) (fun r_46 h_45 H locs cells slots hw hI hbc hbs => ?_)
        refine lv_acmp_ne (rx := r_37) (ry := r_46) (tgt := 49) hx hb dX1_tellShelf_40 (by decide) (fun hc_47 => ?_) (fun hc_47 => ?_)
        · have hw := hw.1 hc_47
          refine ga_ldcws hx hb hI 2 hown rfl dX1_tellShelf_49 ?_
          exact gj_X1_tellShelf_52 g post (fun (T : ga_H) (B1 : Nat) (B2 : Nat) => In_10 T B1 B2 ∧ mu_10 T B1 B2 < mu_10 h_10 bc_10 bs_10) p0 (some (g.2.2.2 22)) v_39 p1 r_9 r_37 h_45 (bc_10 - kc_33) (bs_10 - ks_34) ⟨hx, hb, hml, hown, hts, hr, hlk, hnm⟩ hw (fun _y0 _y1 _y2 H locs cells slots ls hw hI hbc hbs hl => ih_10 _ _ _ H locs cells slots ls (Nat.lt_of_lt_of_le hw.2 (Nat.le_of_lt_succ hn_10)) hw.1 hI hbc hbs hl) hI hbc hbs (lv_sub hl [1, 2, 3, 0] rfl)
        · have hw := hw.2 hc_47
          refine ga_ldcws hx hb hI 1 hown rfl dX1_tellShelf_43 ?_
          refine lv_goto (tgt := 52) hx hb dX1_tellShelf_46 (by decide) ?_
          exact gj_X1_tellShelf_52 g post (fun (T : ga_H) (B1 : Nat) (B2 : Nat) => In_10 T B1 B2 ∧ mu_10 T B1 B2 < mu_10 h_10 bc_10 bs_10) p0 (some (g.2.2.2 21)) v_39 p1 r_9 r_37 h_45 (bc_10 - kc_33) (bs_10 - ks_34) ⟨hx, hb, hml, hown, hts, hr, hlk, hnm⟩ hw (fun _y0 _y1 _y2 H locs cells slots ls hw hI hbc hbs hl => ih_10 _ _ _ H locs cells slots ls (Nat.lt_of_lt_of_le hw.2 (Nat.le_of_lt_succ hn_10)) hw.1 hI hbc hbs hl) hI hbc hbs (lv_sub hl [1, 2, 3, 0] rfl)
  exact hL_10 _ _ _ _ H locs cells slots ls (Nat.lt_succ_self _) h0_10 hI hbc hbs (lv_sub hl [1, 2, 0] rfl)
theorem hdG_X1_tellShelf : yX1_tellShelf.cls ≠ "java/lang/invoke/MethodHandle" ∧ yX1_tellShelf.cls ≠ "java/lang/invoke/VarHandle" ∧ (parseMethodDescriptor yX1_tellShelf.desc).map (fun d => d.parameters.length) = some 1 := by decide +kernel
def gw_X1_tell_40 (K : ga_K) (post : Int32 → ga_H → Prop) (xp : String → Nat → ga_H → Prop) (hd17 : Int32 → ga_H → Nat → Nat → Prop) (p0 : Nat) (t0 : Option Nat) (t1 : Option Nat) (v1 : Int32) (v2 : Int32) (h : ga_H) (bc bs : Nat) : Prop :=
  ∃ a_26 : Nat, t1 = some a_26 ∧ ∃ kc_27 ks_28 : Nat, kc_27 ≤ bc ∧ ks_28 ≤ bs ∧ ∃ fs_29 : List Value, ga_at K h a_26 (ga_O 22 fs_29) ∧ gw_J6_append K a_26 t0 h kc_27 ks_28 (fun (r_31 : Option Nat) (h_30 : ga_H) => ∃ (fs_32 : List Value) (v_33 : Option Nat), h_30 p0 = some (ga_O 0 fs_32) ∧ fs_32[0]? = some (va_rf v_33) ∧ (∃ a_34 : Nat, v_33 = some a_34 ∧ ∃ (fs_35 : List Value) (v_36 : Option Nat), h_30 a_34 = some (ga_O 1 fs_35) ∧ fs_35[0]? = some (va_rf v_36) ∧ (∃ a_37 : Nat, v_36 = some a_37 ∧ ∃ (n_38 : Nat) (f_39 : Nat → Option Nat), h_30 a_37 = some (ga_Aq 6 n_38 f_39) ∧ vp_in v1 n_38 ∧ ∀ v_40 : Option Nat, v_40 = f_39 v1.toNatClampNeg → (∃ a_41 : Nat, v_40 = some a_41 ∧ ∃ (fs_42 : List Value) (v_43 : Option Nat), h_30 a_41 = some (ga_O 2 fs_42) ∧ fs_42[0]? = some (va_rf v_43) ∧ (∃ a_44 : Nat, v_43 = some a_44 ∧ ∃ (n_45 : Nat) (f_46 : Nat → Option Nat), h_30 a_44 = some (ga_Aq 7 n_45 f_46) ∧ vp_in v2 n_45 ∧ ∀ v_47 : Option Nat, v_47 = f_46 v2.toNatClampNeg → (∃ kc_48 ks_49 : Nat, kc_48 ≤ (bc - kc_27) ∧ ks_49 ≤ (bs - ks_28) ∧ ∃ fs_50 : List Value, ga_at K h_30 p0 (ga_O 0 fs_50) ∧ gw_X1_tellShelf K p0 v_47 h_30 kc_48 ks_49 (fun (h_51 : ga_H) => hd17 (v2 + (1 : Int32)) h_51 ((bc - kc_27) - kc_48) ((bs - ks_28) - ks_49))))))))
set_option maxHeartbeats 4000000 in
theorem gj_X1_tell_40 {p : Program} {l : Launch} {e : Env} {s : State} {m : MethodId} {args : Array Value} {below : List Frame} {meth : Method} {c : Code} {mc ms : Nat} {H : Heap} {locs : List Loc} {cells slots : Nat} {ls : Array Slot} (hst : l.stackTraces = false) (htab : c.exceptionTable.toList = []) (g : ga_G) (post : Int32 → ga_H → Prop) (xp : String → Nat → ga_H → Prop) (hd17 : Int32 → ga_H → Nat → Nat → Prop) (p0 : Nat) (t0 : Option Nat) (t1 : Option Nat) (v1 : Int32) (v2 : Int32) (h : ga_H) (bc bs : Nat) (hC : ga_Cx p s m args meth c cX1_tell 3 (some .int) "PaperStore" "tell") (hw : gw_X1_tell_40 g.2.2 post xp hd17 p0 t0 t1 v1 v2 h bc bs) (hhd17 : ∀ (y0 : Int32) (T : ga_H) (B1 : Nat) (B2 : Nat) (H : Heap) (locs : List Loc) (cells slots : Nat) (ls : Array Slot), hd17 y0 T B1 B2 → ga_I g T s H locs → cells + B1 ≤ mc → slots + B2 ≤ ms → lv_has ls 3 [(0, .ref p0), (1, .int v1), (2, .int y0)] → W p l e ({ frames := 25, cells := mc, slots := ms, locals := 517 } : Room) s m args below meth c H locs cells slots (vx_MQ below (va_Qi post (ga_E g) (ga_A g)) (ga_X g xp) args s mc ms (ga_A g)) (F0 m 17 ls [])) (hI : ga_I g h s H locs) (hbc : cells + bc ≤ mc) (hbs : slots + bs ≤ ms) (hl : lv_has ls 3 [(0, .ref p0), (1, .int v1), (2, .int v2)]) : W p l e ({ frames := 25, cells := mc, slots := ms, locals := 517 } : Room) s m args below meth c H locs cells slots (vx_MQ below (va_Qi post (ga_E g) (ga_A g)) (ga_X g xp) args s mc ms (ga_A g)) (F0 m 40 ls [va_rf t0, va_rf t1]) := by
  obtain ⟨hx, hb, hml, hown, hts, hr, hlk, hnm⟩ := hC
  unfold gw_X1_tell_40 at hw
  obtain ⟨a_26, ea_26, hw⟩ := hw
  rewrite [ea_26]
  obtain ⟨kc_27, ks_28, hk1, hk2, hw⟩ := hw
  obtain ⟨fs_29, hq, hw⟩ := hw
  refine ga_callq (va_runV (As := [va_rf t0]) (rest := []) ⟨hx, hb, hml, hown, hts⟩ (gm_J6_append l g a_26 t0 h kc_27 ks_28 _ hw) (cwV 1 hts (lw_V q2722 q877 q878 q110 q879) rfl rfl rfl ⟨rfl, hdG_J6_append⟩ ⟨Nat.le_of_ble_eq_true rfl, Nat.le_of_ble_eq_true rfl⟩) (ga_preV hI hq rfl rfl) rfl rfl hl.1 rfl (ga_room (Nat.le_of_ble_eq_true rfl)) dX1_tell_40 ⟨Nat.le_trans (Nat.add_le_add_left hk1 _) hbc, Nat.le_trans (Nat.add_le_add_left hk2 _) hbs⟩) hI hbc hbs hk1 hk2 (fun r_31 h_30 H locs cells slots hw hI hbc hbs => ?_)
  refine lv_pop hx hb dX1_tell_43 (ga_rcat _) ?_
  refine lv_aload_n hx hb dX1_tell_44 rfl (lv_at hl 0 rfl) ?_
  refine lv_aload_n hx hb dX1_tell_45 rfl (lv_at hl 0 rfl) ?_
  obtain ⟨fs_32, v_33, hq, hv, hw⟩ := hw
  refine ga_get (ci := 0) (T := TX1) (v := va_rf v_33) hx hb hts hown hI in_X1 rfl 0 (by decide) q387 (fun _ z => z) (ga_at.h hq) hv dX1_tell_46 ?_
  obtain ⟨a_34, ea_34, hw⟩ := hw
  rewrite [ea_34]
  obtain ⟨fs_35, v_36, hq, hv, hw⟩ := hw
  refine ga_getN (ci := 1) (T := TX2) (v := va_rf v_36) hx hb hts hown hI in_X2 rfl 0 (by decide) q311 (fun _ z => z) (ga_at.h hq) hv dX1_tell_49 ?_
  refine lv_iload_n hx hb dX1_tell_52 rfl (lv_at hl 1 rfl) ?_
  obtain ⟨a_37, ea_37, hw⟩ := hw
  rewrite [ea_37]
  obtain ⟨n_38, f_39, hq, hi, hw⟩ := hw
  refine ga_ldq hx hb hI (ga_at.h hq) rfl hi dX1_tell_53 ?_
  obtain ⟨v_40, ev_40⟩ : ∃ z, z = f_39 v1.toNatClampNeg := ⟨_, rfl⟩
  rw [← ev_40]
  have hw := hw v_40 ev_40
  obtain ⟨a_41, ea_41, hw⟩ := hw
  rewrite [ea_41]
  obtain ⟨fs_42, v_43, hq, hv, hw⟩ := hw
  refine ga_getN (ci := 2) (T := TX3) (v := va_rf v_43) hx hb hts hown hI in_X3 rfl 0 (by decide) q281 (fun _ z => z) (ga_at.h hq) hv dX1_tell_54 ?_
  refine lv_iload_n hx hb dX1_tell_57 rfl (lv_at hl 2 rfl) ?_
  obtain ⟨a_44, ea_44, hw⟩ := hw
  rewrite [ea_44]
  obtain ⟨n_45, f_46, hq, hi, hw⟩ := hw
  refine ga_ldq hx hb hI (ga_at.h hq) rfl hi dX1_tell_58 ?_
  obtain ⟨v_47, ev_47⟩ : ∃ z, z = f_46 v2.toNatClampNeg := ⟨_, rfl⟩
  rw [← ev_47]
  have hw := hw v_47 ev_47
  obtain ⟨kc_48, ks_49, hk1, hk2, hw⟩ := hw
  obtain ⟨fs_50, hq, hw⟩ := hw
  refine ga_callv (va_runV (As := [va_rf v_47]) (rest := []) ⟨hx, hb, hml, hown, hts⟩ (gm_X1_tellShelf l g p0 v_47 h_30 kc_48 ks_49 _ hw) (cwV 1 hts (lw_V q2723 q2725 qs18 q100 q2726) rfl rfl rfl ⟨rfl, hdG_X1_tellShelf⟩ ⟨Nat.le_of_ble_eq_true rfl, Nat.le_of_ble_eq_true rfl⟩) (ga_preV hI hq rfl rfl) rfl rfl hl.1 rfl (ga_room (Nat.le_of_ble_eq_true rfl)) dX1_tell_59 ⟨Nat.le_trans (Nat.add_le_add_left hk1 _) hbc, Nat.le_trans (Nat.add_le_add_left hk2 _) hbs⟩) hI hbc hbs hk1 hk2 (fun h_51 H locs cells slots hw hI hbc hbs => ?_)
  refine lv_iinc (v := v2 + (1 : Int32)) (lv' := [(2, .int (v2 + (1 : Int32))), (0, .ref p0), (1, .int v1)]) hx hb dX1_tell_62 hl (k := 2) rfl rfl (by decide) rfl (fun ls hl => ?_)
  refine lv_goto (tgt := 17) hx hb dX1_tell_65 (by decide) ?_
  exact hhd17 _ _ _ _ H locs cells slots ls hw hI hbc hbs (lv_sub hl [1, 2, 0] rfl)
def gw_X1_tell (K : ga_K) (p0 : Nat) (p1 : Int32) (h : ga_H) (mc ms : Nat) (post : Int32 → ga_H → Prop) (xp : String → Nat → ga_H → Prop) : Prop :=
  gw_X1_isAisle p1 (fun (r_1 : Int32) => ∃ kc_2 ks_3 : Nat, kc_2 ≤ mc ∧ ks_3 ≤ ms ∧ gw_X1_checkArgument K r_1 h kc_2 ks_3 (fun (h_4 : ga_H) => ∃ (fs_8 : List Value) (v_9 : Option Nat), h_4 p0 = some (ga_O 0 fs_8) ∧ fs_8[4]? = some (va_rf v_9) ∧ (∃ a_10 : Nat, v_9 = some a_10 ∧ ∃ kc_11 ks_12 : Nat, kc_11 ≤ (mc - kc_2) ∧ ks_12 ≤ (ms - ks_3) ∧ ∃ fs_13 : List Value, ga_at K h_4 a_10 (ga_O 22 fs_13) ∧ gw_J6_setLength K a_10 (0 : Int32) h_4 kc_11 ks_12 (fun (h_14 : ga_H) => ∃ (In_15 : Int32 → ga_H → Nat → Nat → Prop) (mu_15 : Int32 → ga_H → Nat → Nat → Nat), In_15 (0 : Int32) h_14 ((mc - kc_2) - kc_11) ((ms - ks_3) - ks_12) ∧ ∀ (x2_15 : Int32) (h_15 : ga_H) (bc_15 : Nat) (bs_15 : Nat), In_15 x2_15 h_15 bc_15 bs_15 → (((6 : Int32) ≤ x2_15 → (∃ (fs_17 : List Value) (v_18 : Option Nat), h_15 p0 = some (ga_O 0 fs_17) ∧ fs_17[4]? = some (va_rf v_18) ∧ (∃ a_19 : Nat, v_18 = some a_19 ∧ ∃ fs_20 : List Value, ga_at K h_15 a_19 (ga_O 22 fs_20) ∧ gw_J6_length K a_19 h_15 (fun (r_22 : Int32) (h_21 : ga_H) => post r_22 h_21)))) ∧ (¬ (6 : Int32) ≤ x2_15 → (∃ (fs_23 : List Value) (v_24 : Option Nat), h_15 p0 = some (ga_O 0 fs_23) ∧ fs_23[4]? = some (va_rf v_24) ∧ ((x2_15 ≤ (0 : Int32) → (gw_X1_tell_40 K post xp (fun (y0 : Int32) (T : ga_H) (B1 : Nat) (B2 : Nat) => In_15 y0 T B1 B2 ∧ mu_15 y0 T B1 B2 < mu_15 x2_15 h_15 bc_15 bs_15) p0 (some (K.2 21)) v_24 p1 x2_15 h_15 bc_15 bs_15)) ∧ (¬ x2_15 ≤ (0 : Int32) → (gw_X1_tell_40 K post xp (fun (y0 : Int32) (T : ga_H) (B1 : Nat) (B2 : Nat) => In_15 y0 T B1 B2 ∧ mu_15 y0 T B1 B2 < mu_15 x2_15 h_15 bc_15 bs_15) p0 (some (K.2 20)) v_24 p1 x2_15 h_15 bc_15 bs_15))))))))) (fun (E_5 : String) (q_6 : Nat) (h_7 : ga_H) => xp E_5 q_6 h_7))
set_option maxHeartbeats 4000000 in
theorem gm_X1_tell (l : Launch) (hst : l.stackTraces = false) (g : ga_G) (p0 : Nat) (p1 : Int32) (h : ga_H) (mc ms : Nat) (post : Int32 → ga_H → Prop) (xp : String → Nat → ga_H → Prop) (hw : gw_X1_tell g.2.2 p0 p1 h mc ms post xp) : vx_Met l yX1_tell (ws_ yX1_tell cX1_tell 3 (some .int)) ({ frames := 25, cells := mc, slots := ms, locals := 517 } : Room) (va_Pc [.ref p0, .int p1] (ga_B g h)) (va_Qi post (ga_E g) (ga_A g)) (ga_X g xp) mc ms (ga_A g) := by
  refine ga_metx (own := "PaperStore") (nm := "tell") (by decide) rfl rfl (by exact Nat.le_of_ble_eq_true rfl) (fun p e s m below meth c ls hC htab hI hl => ?_)
  have hl : lv_has ls 3 [(0, .ref p0), (1, .int p1)] := hl
  generalize ([.ref p0, .int p1] : List Value).toArray = args at hC ⊢
  obtain ⟨hx, hb, hml, hown, hts, hr, hlk, hnm⟩ := hC
  unfold gw_X1_tell at hw
  obtain ⟨H, eH⟩ : ∃ z, z = s.heap := ⟨_, rfl⟩
  obtain ⟨locs, elo⟩ : ∃ z : List Loc, z = [] := ⟨_, rfl⟩
  rw [← eH, ← elo] at hI ⊢
  obtain ⟨cells, slots, hbc, hbs, e0, e1⟩ : ∃ a b : Nat, a + mc ≤ mc ∧ b + ms ≤ ms ∧ a = 0 ∧ b = 0 := ⟨0, 0, by omega, by omega, rfl, rfl⟩
  show W p l e ({ frames := 25, cells := mc, slots := ms, locals := 517 } : Room) s m args below meth c H locs 0 0 (vx_MQ below (va_Qi post (ga_E g) (ga_A g)) (ga_X g xp) args s mc ms (ga_A g)) (F0 m 0 ls [])
  suffices hgoal : W p l e ({ frames := 25, cells := mc, slots := ms, locals := 517 } : Room) s m args below meth c H locs cells slots (vx_MQ below (va_Qi post (ga_E g) (ga_A g)) (ga_X g xp) args s mc ms (ga_A g)) (F0 m 0 ls []) by rw [e0, e1] at hgoal; exact hgoal
  refine lv_iload_n hx hb dX1_tell_0 rfl (lv_at hl 1 rfl) ?_
  refine ga_callS (As := [.int p1]) (rest := []) ⟨hx, hb, hml, hown, hts⟩ (gm_X1_isAisle l p1 _ hw) (va_cwS 1 hts (lw_S q2144 q2145 q100 q2146) rfl rfl rfl hdG_X1_isAisle ⟨Nat.le_of_ble_eq_true rfl, Nat.le_of_ble_eq_true rfl⟩) rfl hl.1 rfl (ga_room (Nat.le_of_ble_eq_true rfl)) dX1_tell_1 hbc hbs (fun r_1 hw => ?_)
  obtain ⟨kc_2, ks_3, hk1, hk2, hw⟩ := hw
  refine ga_xcallv (vx_runS (As := [.int r_1]) (rest := []) ⟨hx, hb, hml, hown, hts⟩ (gm_X1_checkArgument l hst g r_1 h kc_2 ks_3 _ _ hw) (va_cwS 1 hts (lw_S q2027 q2028 q100 q2029) rfl rfl rfl hdG_X1_checkArgument ⟨Nat.le_of_ble_eq_true rfl, Nat.le_of_ble_eq_true rfl⟩) (ga_preS hI rfl) rfl rfl hl.1 rfl (ga_room (Nat.le_of_ble_eq_true rfl)) dX1_tell_4 ⟨Nat.le_trans (Nat.add_le_add_left hk1 _) hbc, Nat.le_trans (Nat.add_le_add_left hk2 _) hbs⟩) hI hbc hbs hk1 hk2 (fun E_5 q_6 h_7 ce H locs cells slots hw hI hce hbc hbs => ?_) (fun h_4 H locs cells slots hw hI hbc hbs => ?_)
  · exact ga_out hown hlk hI hw (by rw [htab]; intro z hz; cases hz) hce (Nat.le_trans (Nat.le_add_right _ _) hbc) (Nat.le_trans (Nat.le_add_right _ _) hbs)
  · skip
    refine lv_aload_n hx hb dX1_tell_7 rfl (lv_at hl 0 rfl) ?_
    obtain ⟨fs_8, v_9, hq, hv, hw⟩ := hw
    refine ga_get (ci := 0) (T := TX1) (v := va_rf v_9) hx hb hts hown hI in_X1 rfl 4 (by decide) q391 (fun _ z => z) (ga_at.h hq) hv dX1_tell_8 ?_
    refine lv_iconst (v := 0) hx hb dX1_tell_11 (by decide) ?_
    obtain ⟨a_10, ea_10, hw⟩ := hw
    rewrite [ea_10]
    obtain ⟨kc_11, ks_12, hk1, hk2, hw⟩ := hw
    obtain ⟨fs_13, hq, hw⟩ := hw
    refine ga_callv (va_runV (As := [.int (0 : Int32)]) (rest := []) ⟨hx, hb, hml, hown, hts⟩ (gm_J6_setLength l g a_10 (0 : Int32) h_4 kc_11 ks_12 _ hw) (cwV 1 hts (lw_V q2668 q2669 q2670 q110 q2671) rfl rfl rfl ⟨rfl, hdG_J6_setLength⟩ ⟨Nat.le_of_ble_eq_true rfl, Nat.le_of_ble_eq_true rfl⟩) (ga_preV hI hq rfl rfl) rfl rfl hl.1 rfl (ga_room (Nat.le_of_ble_eq_true rfl)) dX1_tell_12 ⟨Nat.le_trans (Nat.add_le_add_left hk1 _) hbc, Nat.le_trans (Nat.add_le_add_left hk2 _) hbs⟩) hI hbc hbs hk1 hk2 (fun h_14 H locs cells slots hw hI hbc hbs => ?_)
    refine lv_iconst (v := 0) hx hb dX1_tell_15 (by decide) ?_
    refine lv_istore_n (i := 2) (lv' := [(2, .int (0 : Int32)), (0, .ref p0), (1, .int p1)]) hx hb dX1_tell_16 rfl hl (by decide) rfl (fun ls hl => ?_)
    obtain ⟨In_15, mu_15, h0_15, hw⟩ := hw
    have hL_15 : ∀ (n : Nat) (x2_15 : Int32) (h_15 : ga_H) (bc_15 : Nat) (bs_15 : Nat) (H : Heap) (locs : List Loc) (cells slots : Nat) (ls : Array Slot), mu_15 x2_15 h_15 bc_15 bs_15 < n → In_15 x2_15 h_15 bc_15 bs_15 → ga_I g h_15 s H locs → cells + bc_15 ≤ mc → slots + bs_15 ≤ ms → lv_has ls 3 [(0, .ref p0), (1, .int p1), (2, .int x2_15)] → W p l e ({ frames := 25, cells := mc, slots := ms, locals := 517 } : Room) s m args below meth c H locs cells slots (vx_MQ below (va_Qi post (ga_E g) (ga_A g)) (ga_X g xp) args s mc ms (ga_A g)) (F0 m 17 ls []) := by
      intro n
      induction n with
      | zero => intro x2_15 h_15 bc_15 bs_15 H locs cells slots ls hn _ _ _ _ _; exact absurd hn (Nat.not_lt_zero _)
      | succ n ih_15 =>
        intro x2_15 h_15 bc_15 bs_15 H locs cells slots ls hn_15 hi_15 hI hbc hbs hl
        have hw := hw x2_15 h_15 bc_15 bs_15 hi_15
        refine lv_iload_n hx hb dX1_tell_17 rfl (lv_at hl 2 rfl) ?_
        refine lv_bipush (v := 6) hx hb dX1_tell_18 (by decide) ?_
        refine lv_icmp_ge (tgt := 68) hx hb dX1_tell_20 (by decide) (fun hc_16 => ?_) (fun hc_16 => ?_)
        · have hw := hw.1 hc_16
          refine lv_aload_n hx hb dX1_tell_68 rfl (lv_at hl 0 rfl) ?_
          obtain ⟨fs_17, v_18, hq, hv, hw⟩ := hw
          refine ga_get (ci := 0) (T := TX1) (v := va_rf v_18) hx hb hts hown hI in_X1 rfl 4 (by decide) q391 (fun _ z => z) (ga_at.h hq) hv dX1_tell_69 ?_
          obtain ⟨a_19, ea_19, hw⟩ := hw
          rewrite [ea_19]
          obtain ⟨fs_20, hq, hw⟩ := hw
          refine ga_calli (va_runV (As := []) (rest := []) ⟨hx, hb, hml, hown, hts⟩ (gm_J6_length l g a_19 h_15 _ hw) (cwV 0 hts (lw_V q2733 q1038 q4124 q110 q1039) rfl rfl rfl ⟨rfl, hdG_J6_length⟩ ⟨Nat.le_of_ble_eq_true rfl, Nat.le_of_ble_eq_true rfl⟩) (ga_preV hI hq rfl rfl) rfl rfl hl.1 rfl (ga_room (Nat.le_of_ble_eq_true rfl)) dX1_tell_72 ⟨Nat.le_trans (Nat.add_le_add_left (Nat.zero_le _) _) hbc, Nat.le_trans (Nat.add_le_add_left (Nat.zero_le _) _) hbs⟩) hI hbc hbs (Nat.zero_le _) (Nat.zero_le _) (fun r_22 h_21 H locs cells slots hw hI hbc hbs => ?_)
          exact ga_iretx hx hb hr rfl hlk hI hw (Nat.le_trans (Nat.le_add_right _ _) hbc) (Nat.le_trans (Nat.le_add_right _ _) hbs) dX1_tell_75
        · have hw := hw.2 hc_16
          refine lv_aload_n hx hb dX1_tell_23 rfl (lv_at hl 0 rfl) ?_
          obtain ⟨fs_23, v_24, hq, hv, hw⟩ := hw
          refine ga_get (ci := 0) (T := TX1) (v := va_rf v_24) hx hb hts hown hI in_X1 rfl 4 (by decide) q391 (fun _ z => z) (ga_at.h hq) hv dX1_tell_24 ?_
          refine lv_iload_n hx hb dX1_tell_27 rfl (lv_at hl 2 rfl) ?_
          refine lv_if_le (tgt := 37) hx hb dX1_tell_28 (by decide) (fun hc_25 => ?_) (fun hc_25 => ?_)
          · have hw := hw.1 hc_25
            refine ga_ldcws hx hb hI 1 hown rfl dX1_tell_37 ?_
            exact gj_X1_tell_40 hst htab g post xp (fun (y0 : Int32) (T : ga_H) (B1 : Nat) (B2 : Nat) => In_15 y0 T B1 B2 ∧ mu_15 y0 T B1 B2 < mu_15 x2_15 h_15 bc_15 bs_15) p0 (some (g.2.2.2 21)) v_24 p1 x2_15 h_15 bc_15 bs_15 ⟨hx, hb, hml, hown, hts, hr, hlk, hnm⟩ hw (fun _y0 _y1 _y2 _y3 H locs cells slots ls hw hI hbc hbs hl => ih_15 _ _ _ _ H locs cells slots ls (Nat.lt_of_lt_of_le hw.2 (Nat.le_of_lt_succ hn_15)) hw.1 hI hbc hbs hl) hI hbc hbs (lv_sub hl [0, 1, 2] rfl)
          · have hw := hw.2 hc_25
            refine ga_ldcws hx hb hI 0 hown rfl dX1_tell_31 ?_
            refine lv_goto (tgt := 40) hx hb dX1_tell_34 (by decide) ?_
            exact gj_X1_tell_40 hst htab g post xp (fun (y0 : Int32) (T : ga_H) (B1 : Nat) (B2 : Nat) => In_15 y0 T B1 B2 ∧ mu_15 y0 T B1 B2 < mu_15 x2_15 h_15 bc_15 bs_15) p0 (some (g.2.2.2 20)) v_24 p1 x2_15 h_15 bc_15 bs_15 ⟨hx, hb, hml, hown, hts, hr, hlk, hnm⟩ hw (fun _y0 _y1 _y2 _y3 H locs cells slots ls hw hI hbc hbs hl => ih_15 _ _ _ _ H locs cells slots ls (Nat.lt_of_lt_of_le hw.2 (Nat.le_of_lt_succ hn_15)) hw.1 hI hbc hbs hl) hI hbc hbs (lv_sub hl [0, 1, 2] rfl)
    exact hL_15 _ _ _ _ _ H locs cells slots ls (Nat.lt_succ_self _) h0_15 hI hbc hbs (lv_sub hl [1, 2, 0] rfl)
theorem hdG_X1_tell : yX1_tell.cls ≠ "java/lang/invoke/MethodHandle" ∧ yX1_tell.cls ≠ "java/lang/invoke/VarHandle" ∧ (parseMethodDescriptor yX1_tell.desc).map (fun d => d.parameters.length) = some 1 := by decide +kernel
def gw_X0_tell (K : ga_K) (p0 : Option Nat) (p1 : Int32) (p2 : Option Nat) (h : ga_H) (mc ms : Nat) (post : Int32 → ga_H → Prop) (xp : String → Nat → ga_H → Prop) : Prop :=
  ∃ a_1 : Nat, p0 = some a_1 ∧ ∃ kc_2 ks_3 : Nat, kc_2 ≤ mc ∧ ks_3 ≤ ms ∧ ∃ fs_4 : List Value, ga_at K h a_1 (ga_O 0 fs_4) ∧ gw_X1_tell K a_1 p1 h kc_2 ks_3 (fun (r_6 : Int32) (h_5 : ga_H) => ∃ a_10 : Nat, p2 = some a_10 ∧ ∃ (n_11 : Nat) (f_12 : Nat → Int64), h_5 a_10 = some (ga_Al n_11 f_12) ∧ vp_in (0 : Int32) n_11 ∧ ∀ h_13 : ga_H, h_13 = ga_set h_5 a_10 (ga_Al n_11 (vp_updL f_12 (0 : Int32).toNatClampNeg r_6.toInt64)) → (post (0 : Int32) h_13)) (fun (E_7 : String) (q_8 : Nat) (h_9 : ga_H) => (E_7 = "java/lang/IllegalArgumentException" ∧ (post (1 : Int32) h_9)))
set_option maxHeartbeats 4000000 in
theorem gm_X0_tell (l : Launch) (hst : l.stackTraces = false) (g : ga_G) (p0 : Option Nat) (p1 : Int32) (p2 : Option Nat) (h : ga_H) (mc ms : Nat) (post : Int32 → ga_H → Prop) (xp : String → Nat → ga_H → Prop) (hw : gw_X0_tell g.2.2 p0 p1 p2 h mc ms post xp) : vx_Met l yX0_tell (wsW_ yX0_tell cX0_tell 4 (some .int) [(0, 9, 12, 13)]) ({ frames := 26, cells := mc, slots := ms, locals := 539 } : Room) (va_Pc [va_rf p0, .int p1, va_rf p2] (ga_B g h)) (va_Qi post (ga_E g) (ga_A g)) (ga_X g xp) mc ms (ga_A g) := by
  refine ga_metxW (own := "PaperStoreLaw") (nm := "tell") (by decide) rfl rfl (by cases p0 <;> cases p2 <;> exact Nat.le_of_ble_eq_true rfl) (fun p e s m below meth c ls hC htab hI hl => ?_)
  have hl : lv_has ls 4 [(0, va_rf p0), (1, .int p1), (2, va_rf p2)] := (by cases p0 <;> cases p2 <;> exact hl)
  generalize ([va_rf p0, .int p1, va_rf p2] : List Value).toArray = args at hC ⊢
  obtain ⟨hx, hb, hml, hown, hts, hr, hlk, hnm⟩ := hC
  unfold gw_X0_tell at hw
  obtain ⟨H, eH⟩ : ∃ z, z = s.heap := ⟨_, rfl⟩
  obtain ⟨locs, elo⟩ : ∃ z : List Loc, z = [] := ⟨_, rfl⟩
  rw [← eH, ← elo] at hI ⊢
  obtain ⟨cells, slots, hbc, hbs, e0, e1⟩ : ∃ a b : Nat, a + mc ≤ mc ∧ b + ms ≤ ms ∧ a = 0 ∧ b = 0 := ⟨0, 0, by omega, by omega, rfl, rfl⟩
  show W p l e ({ frames := 26, cells := mc, slots := ms, locals := 539 } : Room) s m args below meth c H locs 0 0 (vx_MQ below (va_Qi post (ga_E g) (ga_A g)) (ga_X g xp) args s mc ms (ga_A g)) (F0 m 0 ls [])
  suffices hgoal : W p l e ({ frames := 26, cells := mc, slots := ms, locals := 539 } : Room) s m args below meth c H locs cells slots (vx_MQ below (va_Qi post (ga_E g) (ga_A g)) (ga_X g xp) args s mc ms (ga_A g)) (F0 m 0 ls []) by rw [e0, e1] at hgoal; exact hgoal
  refine ga_aload_n hx hb dX0_tell_0 rfl (lv_at hl 2 rfl) ?_
  refine lv_iconst (v := 0) hx hb dX0_tell_1 (by decide) ?_
  refine ga_aload_n hx hb dX0_tell_2 rfl (lv_at hl 0 rfl) ?_
  refine lv_iload_n hx hb dX0_tell_3 rfl (lv_at hl 1 rfl) ?_
  obtain ⟨a_1, ea_1, hw⟩ := hw
  rewrite [ea_1]
  obtain ⟨kc_2, ks_3, hk1, hk2, hw⟩ := hw
  obtain ⟨fs_4, hq, hw⟩ := hw
  refine ga_xcalli (vx_runV (As := [.int p1]) (rest := [.int (0 : Int32), va_rf p2]) ⟨hx, hb, hml, hown, hts⟩ (gm_X1_tell l hst g a_1 p1 h kc_2 ks_3 _ _ hw) (cwV 1 hts (lw_V q2664 q2665 q2666 q100 q2667) rfl rfl rfl ⟨rfl, hdG_X1_tell⟩ ⟨Nat.le_of_ble_eq_true rfl, Nat.le_of_ble_eq_true rfl⟩) (ga_preV hI hq rfl rfl) rfl rfl hl.1 rfl (ga_room (Nat.le_of_ble_eq_true rfl)) dX0_tell_4 ⟨Nat.le_trans (Nat.add_le_add_left hk1 _) hbc, Nat.le_trans (Nat.add_le_add_left hk2 _) hbs⟩) hI hbc hbs hk1 hk2 (fun E_7 q_8 h_9 ce H locs cells slots hw hI hce hbc hbs => ?_) (fun r_6 h_5 H locs cells slots hw hI hbc hbs => ?_)
  · obtain ⟨rfl, hw⟩ := hw
    refine ga_catch hown hts hI ([]) (⟨0, 9, 12, 13⟩) ([]) (by rw [htab]; rfl) (fun _ h => absurd h List.not_mem_nil) rfl (by decide) q2017 q1054 hce ?_
    refine W.eq (g2 := F0 m 12 ls [.ref q_8]) rfl ?_
    refine lv_astore_n (i := 3) (lv' := [(3, .ref q_8), (0, va_rf p0), (1, .int p1), (2, va_rf p2)]) hx hb dX0_tell_12 rfl hl (by decide) (by simp [ga_rcat, ga_cat_r, ga_cat_i, ga_cat_f, ga_cat_l, ga_cat_d]) (fun ls hl => ?_)
    refine lv_iconst (v := 1) hx hb dX0_tell_13 (by decide) ?_
    exact ga_iretx hx hb hr rfl hlk hI hw (Nat.le_trans (Nat.le_add_right _ _) hbc) (Nat.le_trans (Nat.le_add_right _ _) hbs) dX0_tell_14
  · skip
    refine lv_i2l (v := r_6.toInt64) hx hb dX0_tell_7 rfl ?_
    obtain ⟨a_10, ea_10, hw⟩ := hw
    rewrite [ea_10]
    obtain ⟨n_11, f_12, hq, hi, hw⟩ := hw
    refine ga_stl hx hb hI hq hi dX0_tell_8 (fun H locs hI => ?_)
    obtain ⟨h_13, eh_13⟩ : ∃ z, z = ga_set h_5 a_10 (ga_Al n_11 (vp_updL f_12 (0 : Int32).toNatClampNeg r_6.toInt64)) := ⟨_, rfl⟩
    rw [← eh_13] at hI
    have hw := hw h_13 eh_13
    refine lv_goto (tgt := 15) hx hb dX0_tell_9 (by decide) ?_
    refine lv_iconst (v := 0) hx hb dX0_tell_15 (by decide) ?_
    exact ga_iretx hx hb hr rfl hlk hI hw (Nat.le_trans (Nat.le_add_right _ _) hbc) (Nat.le_trans (Nat.le_add_right _ _) hbs) dX0_tell_16
theorem hdG_X0_tell : yX0_tell.cls ≠ "java/lang/invoke/MethodHandle" ∧ yX0_tell.cls ≠ "java/lang/invoke/VarHandle" ∧ (parseMethodDescriptor yX0_tell.desc).map (fun d => d.parameters.length) = some 3 := by decide +kernel
def gw_J7_checkIndex (K : ga_K) (p0 : Int32) (p1 : Int32) (h : ga_H) (post : ga_H → Prop) : Prop :=
  gw_J25_checkIndex K p0 p1 (ga_op (K.2 36)) h (fun (r_2 : Int32) (h_1 : ga_H) => post h_1)
set_option maxHeartbeats 4000000 in
theorem gm_J7_checkIndex (l : Launch) (g : ga_G) (p0 : Int32) (p1 : Int32) (h : ga_H) (post : ga_H → Prop) (hw : gw_J7_checkIndex g.2.2 p0 p1 h post) : Met l yJ7_checkIndex (ws_ yJ7_checkIndex cJ7_checkIndex 2 none) ({ frames := 9, cells := 0, slots := 0, locals := 162 } : Room) (va_Pc [.int p0, .int p1] (ga_B g h)) (va_Qv post (ga_E g) (ga_A g)) 0 0 (ga_A g) := by
  refine ga_met (own := "java/lang/String") (nm := "checkIndex") (by decide) rfl rfl (by exact Nat.le_of_ble_eq_true rfl) (fun p e s m below meth c ls hC hI hl => ?_)
  have hl : lv_has ls 2 [(0, .int p0), (1, .int p1)] := hl
  generalize ([.int p0, .int p1] : List Value).toArray = args at hC ⊢
  obtain ⟨hx, hb, hml, hown, hts, hr, hlk, hnm⟩ := hC
  unfold gw_J7_checkIndex at hw
  obtain ⟨H, eH⟩ : ∃ z, z = s.heap := ⟨_, rfl⟩
  obtain ⟨locs, elo⟩ : ∃ z : List Loc, z = [] := ⟨_, rfl⟩
  rw [← eH, ← elo] at hI ⊢
  obtain ⟨cells, slots, hbc, hbs, e0, e1⟩ : ∃ a b : Nat, a ≤ 0 ∧ b ≤ 0 ∧ a = 0 ∧ b = 0 := ⟨0, 0, by omega, by omega, rfl, rfl⟩
  show W p l e ({ frames := 9, cells := 0, slots := 0, locals := 162 } : Room) s m args below meth c H locs 0 0 (MQ below (va_Qv post (ga_E g) (ga_A g)) args s 0 0 (ga_A g)) (F0 m 0 ls [])
  suffices hgoal : W p l e ({ frames := 9, cells := 0, slots := 0, locals := 162 } : Room) s m args below meth c H locs cells slots (MQ below (va_Qv post (ga_E g) (ga_A g)) args s 0 0 (ga_A g)) (F0 m 0 ls []) by rw [e0, e1] at hgoal; exact hgoal
  refine lv_iload_n hx hb dJ7_checkIndex_0 rfl (lv_at hl 0 rfl) ?_
  refine lv_iload_n hx hb dJ7_checkIndex_1 rfl (lv_at hl 1 rfl) ?_
  refine ga_sget (v := va_rf (ga_op (g.2.2.2 36))) hx hb hts hown hI 10 rfl q933 (fun _ z => z) dJ7_checkIndex_2 ?_
  refine ga_calli (va_runS (As := [.int p0, .int p1, va_rf (ga_op (g.2.2.2 36))]) (rest := []) ⟨hx, hb, hml, hown, hts⟩ (gm_J25_checkIndex l g p0 p1 (ga_op (g.2.2.2 36)) h _ hw) (va_cwS 3 hts (lw_S q2752 q846 q131 q847) rfl rfl rfl hdG_J25_checkIndex ⟨Nat.le_of_ble_eq_true rfl, Nat.le_of_ble_eq_true rfl⟩) (ga_preS hI rfl) rfl rfl hl.1 rfl (ga_room (Nat.le_of_ble_eq_true rfl)) dJ7_checkIndex_5 ⟨hbc, hbs⟩) hI (bc := 0) (bs := 0) hbc hbs (Nat.zero_le _) (Nat.zero_le _) (fun r_2 h_1 H locs cells slots hw hI hbc hbs => ?_)
  refine lv_pop hx hb dJ7_checkIndex_8 rfl ?_
  exact ga_vret hx hb hr hlk hI hw hbc hbs dJ7_checkIndex_9
theorem hdG_J7_checkIndex : yJ7_checkIndex.cls ≠ "java/lang/invoke/MethodHandle" ∧ yJ7_checkIndex.cls ≠ "java/lang/invoke/VarHandle" ∧ (parseMethodDescriptor yJ7_checkIndex.desc).map (fun d => d.parameters.length) = some 2 := by decide +kernel
def gw_J5_charAt (K : ga_K) (p0 : Nat) (p1 : Int32) (h : ga_H) (post : Int32 → ga_H → Prop) : Prop :=
  ∃ (fs_1 : List Value) (v_2 : Int32), h p0 = some (ga_O 22 fs_1) ∧ fs_1[1]? = some (.int v_2) ∧ (∃ (fs_3 : List Value) (v_4 : Option Nat), h p0 = some (ga_O 22 fs_3) ∧ fs_3[0]? = some (va_rf v_4) ∧ (∃ (fs_5 : List Value) (v_6 : Int32), h p0 = some (ga_O 22 fs_5) ∧ fs_5[3]? = some (.int v_6) ∧ (∃ a_7 : Nat, v_4 = some a_7 ∧ ∃ (n_8 : Nat) (f_9 : Nat → Int32), ga_at K h a_7 (ga_Ab n_8 f_9) ∧ (∀ r_10 : Int32, r_10 = (if ((nI n_8) >>> (v_2 &&& 31)) < v_6 then ((nI n_8) >>> (v_2 &&& 31)) else v_6) → (gw_J7_checkIndex K p1 r_10 h (fun (h_11 : ga_H) => (¬ v_2 = (0 : Int32) → False) ∧ (v_2 = (0 : Int32) → (∃ a_13 : Nat, v_4 = some a_13 ∧ ∃ (n_14 : Nat) (f_15 : Nat → Int32), ga_at K h_11 a_13 (ga_Ab n_14 f_15) ∧ vp_in p1 n_14 ∧ (zt_nar .char ((((f_15 p1.toNatClampNeg) &&& (255 : Int32)).toUInt32 % 65536).toInt32) ∧ post ((((f_15 p1.toNatClampNeg) &&& (255 : Int32)).toUInt32 % 65536).toInt32) h_11)))))))))
set_option maxHeartbeats 4000000 in
theorem gm_J5_charAt (l : Launch) (g : ga_G) (p0 : Nat) (p1 : Int32) (h : ga_H) (post : Int32 → ga_H → Prop) (hw : gw_J5_charAt g.2.2 p0 p1 h post) : Met l yJ5_charAt (ws_ yJ5_charAt cJ5_charAt 5 (some .char)) ({ frames := 10, cells := 0, slots := 0, locals := 183 } : Room) (va_Pc [.ref p0, .int p1] (ga_B g h)) (va_Qi post (ga_E g) (ga_A g)) 0 0 (ga_A g) := by
  refine ga_met (own := "java/lang/AbstractStringBuilder") (nm := "charAt") (by decide) rfl rfl (by exact Nat.le_of_ble_eq_true rfl) (fun p e s m below meth c ls hC hI hl => ?_)
  have hl : lv_has ls 5 [(0, .ref p0), (1, .int p1)] := hl
  generalize ([.ref p0, .int p1] : List Value).toArray = args at hC ⊢
  obtain ⟨hx, hb, hml, hown, hts, hr, hlk, hnm⟩ := hC
  unfold gw_J5_charAt at hw
  obtain ⟨H, eH⟩ : ∃ z, z = s.heap := ⟨_, rfl⟩
  obtain ⟨locs, elo⟩ : ∃ z : List Loc, z = [] := ⟨_, rfl⟩
  rw [← eH, ← elo] at hI ⊢
  obtain ⟨cells, slots, hbc, hbs, e0, e1⟩ : ∃ a b : Nat, a ≤ 0 ∧ b ≤ 0 ∧ a = 0 ∧ b = 0 := ⟨0, 0, by omega, by omega, rfl, rfl⟩
  show W p l e ({ frames := 10, cells := 0, slots := 0, locals := 183 } : Room) s m args below meth c H locs 0 0 (MQ below (va_Qi post (ga_E g) (ga_A g)) args s 0 0 (ga_A g)) (F0 m 0 ls [])
  suffices hgoal : W p l e ({ frames := 10, cells := 0, slots := 0, locals := 183 } : Room) s m args below meth c H locs cells slots (MQ below (va_Qi post (ga_E g) (ga_A g)) args s 0 0 (ga_A g)) (F0 m 0 ls []) by rw [e0, e1] at hgoal; exact hgoal
  refine lv_aload_n hx hb dJ5_charAt_0 rfl (lv_at hl 0 rfl) ?_
  obtain ⟨fs_1, v_2, hq, hv, hw⟩ := hw
  refine ga_get (ci := 22) (T := TJ6) (v := .int v_2) hx hb hts hown hI in_J6 rfl 1 (by decide) q372 (fun _ z => z) (ga_at.h hq) hv dJ5_charAt_1 ?_
  refine lv_istore_n (i := 2) (lv' := [(2, .int v_2), (0, .ref p0), (1, .int p1)]) hx hb dJ5_charAt_4 rfl hl (by decide) rfl (fun ls hl => ?_)
  refine lv_aload_n hx hb dJ5_charAt_5 rfl (lv_at hl 1 rfl) ?_
  obtain ⟨fs_3, v_4, hq, hv, hw⟩ := hw
  refine ga_get (ci := 22) (T := TJ6) (v := va_rf v_4) hx hb hts hown hI in_J6 rfl 0 (by decide) q371 (fun _ z => z) (ga_at.h hq) hv dJ5_charAt_6 ?_
  refine ga_astore_n (i := 3) (x := v_4) (lv' := [(3, va_rf v_4), (2, .int v_2), (0, .ref p0), (1, .int p1)]) hx hb dJ5_charAt_9 rfl hl (by decide) rfl (fun ls hl => ?_)
  refine lv_aload_n hx hb dJ5_charAt_10 rfl (lv_at hl 2 rfl) ?_
  obtain ⟨fs_5, v_6, hq, hv, hw⟩ := hw
  refine ga_get (ci := 22) (T := TJ6) (v := .int v_6) hx hb hts hown hI in_J6 rfl 3 (by decide) q375 (fun _ z => z) (ga_at.h hq) hv dJ5_charAt_11 ?_
  refine ga_aload_n hx hb dJ5_charAt_14 rfl (lv_at hl 0 rfl) ?_
  obtain ⟨a_7, ea_7, hw⟩ := hw
  rewrite [ea_7]
  obtain ⟨n_8, f_9, hq, hw⟩ := hw
  refine ga_len hx hb hI hq rfl dJ5_charAt_15 ?_
  refine lv_iload_n hx hb dJ5_charAt_16 rfl (lv_at hl 1 rfl) ?_
  refine lv_ishr hx hb dJ5_charAt_17 ?_
  refine va_mmin hx hb (hml.trans hl.1.symm) hown (hts _ q2748) (hts _ q521) (hts _ q119) (hts _ q522) (Nat.le_of_ble_eq_true rfl) (Nat.le_trans (Nat.add_le_add_right (ga_sum [] (Nat.le_of_ble_eq_true rfl)) _) (Nat.le_of_ble_eq_true rfl)) hbc hbs dJ5_charAt_18 ?_
  refine lv_topi (fun r_10 er_10 => ?_)
  have hw := hw r_10 er_10
  refine lv_istore (lv' := [(4, .int r_10), (3, va_rf v_4), (2, .int v_2), (0, .ref p0), (1, .int p1)]) hx hb dJ5_charAt_21 hl (by decide) (by simp [ga_rcat, ga_cat_r, ga_cat_i, ga_cat_f, ga_cat_l, ga_cat_d]) (fun ls hl => ?_)
  refine lv_iload_n hx hb dJ5_charAt_23 rfl (lv_at hl 4 rfl) ?_
  refine lv_iload hx hb dJ5_charAt_24 (lv_at hl 0 rfl) ?_
  refine ga_callv (va_runS (As := [.int p1, .int r_10]) (rest := []) ⟨hx, hb, hml, hown, hts⟩ (gm_J7_checkIndex l g p1 r_10 h _ hw) (va_cwS 2 hts (lw_S q2749 q2750 q111 q2751) rfl rfl rfl hdG_J7_checkIndex ⟨Nat.le_of_ble_eq_true rfl, Nat.le_of_ble_eq_true rfl⟩) (ga_preS hI rfl) rfl rfl hl.1 rfl (ga_room (Nat.le_of_ble_eq_true rfl)) dJ5_charAt_26 ⟨hbc, hbs⟩) hI (bc := 0) (bs := 0) hbc hbs (Nat.zero_le _) (Nat.zero_le _) (fun h_11 H locs cells slots hw hI hbc hbs => ?_)
  refine lv_iload_n hx hb dJ5_charAt_29 rfl (lv_at hl 2 rfl) ?_
  refine lv_if_ne (tgt := 42) hx hb dJ5_charAt_30 (by decide) (fun hc_12 => ?_) (fun hc_12 => ?_)
  · have hw := hw.1 hc_12
    exact hw.elim
  · have hw := hw.2 hc_12
    refine ga_aload_n hx hb dJ5_charAt_33 rfl (lv_at hl 1 rfl) ?_
    refine lv_iload_n hx hb dJ5_charAt_34 rfl (lv_at hl 4 rfl) ?_
    obtain ⟨a_13, ea_13, hw⟩ := hw
    rewrite [ea_13]
    obtain ⟨n_14, f_15, hq, hi, hw⟩ := hw
    refine ga_ldb hx hb hI hq hi dJ5_charAt_35 ?_
    refine lv_sipush (v := 255) hx hb dJ5_charAt_36 (by decide) ?_
    refine lv_iand hx hb dJ5_charAt_39 ?_
    refine lv_i2c (v := (((f_15 p1.toNatClampNeg) &&& (255 : Int32)).toUInt32 % 65536).toInt32) hx hb dJ5_charAt_40 rfl ?_
    exact ga_iret hx hb hr hw.1 hlk hI hw.2 hbc hbs dJ5_charAt_41
theorem hdG_J5_charAt : yJ5_charAt.cls ≠ "java/lang/invoke/MethodHandle" ∧ yJ5_charAt.cls ≠ "java/lang/invoke/VarHandle" ∧ (parseMethodDescriptor yJ5_charAt.desc).map (fun d => d.parameters.length) = some 1 := by decide +kernel
def gw_J6_charAt (K : ga_K) (p0 : Nat) (p1 : Int32) (h : ga_H) (post : Int32 → ga_H → Prop) : Prop :=
  ∃ fs_1 : List Value, ga_at K h p0 (ga_O 22 fs_1) ∧ gw_J5_charAt K p0 p1 h (fun (r_3 : Int32) (h_2 : ga_H) => zt_nar .char r_3 ∧ post r_3 h_2)
set_option maxHeartbeats 4000000 in
theorem gm_J6_charAt (l : Launch) (g : ga_G) (p0 : Nat) (p1 : Int32) (h : ga_H) (post : Int32 → ga_H → Prop) (hw : gw_J6_charAt g.2.2 p0 p1 h post) : Met l yJ6_charAt (ws_ yJ6_charAt cJ6_charAt 2 (some .char)) ({ frames := 11, cells := 0, slots := 0, locals := 207 } : Room) (va_Pc [.ref p0, .int p1] (ga_B g h)) (va_Qi post (ga_E g) (ga_A g)) 0 0 (ga_A g) := by
  refine ga_met (own := "java/lang/StringBuilder") (nm := "charAt") (by decide) rfl rfl (by exact Nat.le_of_ble_eq_true rfl) (fun p e s m below meth c ls hC hI hl => ?_)
  have hl : lv_has ls 2 [(0, .ref p0), (1, .int p1)] := hl
  generalize ([.ref p0, .int p1] : List Value).toArray = args at hC ⊢
  obtain ⟨hx, hb, hml, hown, hts, hr, hlk, hnm⟩ := hC
  unfold gw_J6_charAt at hw
  obtain ⟨H, eH⟩ : ∃ z, z = s.heap := ⟨_, rfl⟩
  obtain ⟨locs, elo⟩ : ∃ z : List Loc, z = [] := ⟨_, rfl⟩
  rw [← eH, ← elo] at hI ⊢
  obtain ⟨cells, slots, hbc, hbs, e0, e1⟩ : ∃ a b : Nat, a ≤ 0 ∧ b ≤ 0 ∧ a = 0 ∧ b = 0 := ⟨0, 0, by omega, by omega, rfl, rfl⟩
  show W p l e ({ frames := 11, cells := 0, slots := 0, locals := 207 } : Room) s m args below meth c H locs 0 0 (MQ below (va_Qi post (ga_E g) (ga_A g)) args s 0 0 (ga_A g)) (F0 m 0 ls [])
  suffices hgoal : W p l e ({ frames := 11, cells := 0, slots := 0, locals := 207 } : Room) s m args below meth c H locs cells slots (MQ below (va_Qi post (ga_E g) (ga_A g)) args s 0 0 (ga_A g)) (F0 m 0 ls []) by rw [e0, e1] at hgoal; exact hgoal
  refine lv_aload_n hx hb dJ6_charAt_0 rfl (lv_at hl 0 rfl) ?_
  refine lv_iload_n hx hb dJ6_charAt_1 rfl (lv_at hl 1 rfl) ?_
  obtain ⟨fs_1, hq, hw⟩ := hw
  refine ga_calli (va_runSU (C := "java/lang/StringBuilder") (As := [.int p1]) (rest := []) (hI.2.1.1.1.1 22 _ rfl).2 ⟨hx, hb, hml, hown, hts⟩ (gm_J5_charAt l g p0 p1 h _ hw) (va_cwSU 1 hts (lw_app (List.forall_mem_cons.mpr ⟨q2745, List.forall_mem_cons.mpr ⟨q4125, List.forall_mem_cons.mpr ⟨q384, List.forall_mem_cons.mpr ⟨q2746, List.forall_mem_cons.mpr ⟨q109, fun _ h => absurd h List.not_mem_nil⟩⟩⟩⟩⟩) (lw_meth q2747)) rfl rfl rfl (by decide +kernel) ⟨Nat.le_of_ble_eq_true rfl, Nat.le_of_ble_eq_true rfl⟩) (ga_preV (C := "java/lang/StringBuilder") hI hq rfl rfl) rfl rfl hl.1 rfl (ga_room (Nat.le_of_ble_eq_true rfl)) dJ6_charAt_2 ⟨hbc, hbs⟩) hI (bc := 0) (bs := 0) hbc hbs (Nat.zero_le _) (Nat.zero_le _) (fun r_3 h_2 H locs cells slots hw hI hbc hbs => ?_)
  exact ga_iret hx hb hr hw.1 hlk hI hw.2 hbc hbs dJ6_charAt_5
theorem hdG_J6_charAt : yJ6_charAt.cls ≠ "java/lang/invoke/MethodHandle" ∧ yJ6_charAt.cls ≠ "java/lang/invoke/VarHandle" ∧ (parseMethodDescriptor yJ6_charAt.desc).map (fun d => d.parameters.length) = some 1 := by decide +kernel
def gw_X1_character (K : ga_K) (p0 : Nat) (p1 : Int32) (h : ga_H) (mc ms : Nat) (post : Int32 → ga_H → Prop) (xp : String → Nat → ga_H → Prop) : Prop :=
  ∃ (fs_1 : List Value) (v_2 : Option Nat), h p0 = some (ga_O 0 fs_1) ∧ fs_1[4]? = some (va_rf v_2) ∧ (∃ a_3 : Nat, v_2 = some a_3 ∧ ∃ fs_4 : List Value, ga_at K h a_3 (ga_O 22 fs_4) ∧ gw_J6_length K a_3 h (fun (r_6 : Int32) (h_5 : ga_H) => gw_X1_isIn p1 (0 : Int32) (r_6 - (1 : Int32)) (fun (r_7 : Int32) => ∃ kc_8 ks_9 : Nat, kc_8 ≤ mc ∧ ks_9 ≤ ms ∧ gw_X1_checkElement K r_7 h_5 kc_8 ks_9 (fun (h_10 : ga_H) => ∃ (fs_14 : List Value) (v_15 : Option Nat), h_10 p0 = some (ga_O 0 fs_14) ∧ fs_14[4]? = some (va_rf v_15) ∧ (∃ a_16 : Nat, v_15 = some a_16 ∧ ∃ fs_17 : List Value, ga_at K h_10 a_16 (ga_O 22 fs_17) ∧ gw_J6_charAt K a_16 p1 h_10 (fun (r_19 : Int32) (h_18 : ga_H) => zt_nar .char r_19 ∧ post r_19 h_18))) (fun (E_11 : String) (q_12 : Nat) (h_13 : ga_H) => xp E_11 q_12 h_13))))
set_option maxHeartbeats 4000000 in
theorem gm_X1_character (l : Launch) (hst : l.stackTraces = false) (g : ga_G) (p0 : Nat) (p1 : Int32) (h : ga_H) (mc ms : Nat) (post : Int32 → ga_H → Prop) (xp : String → Nat → ga_H → Prop) (hw : gw_X1_character g.2.2 p0 p1 h mc ms post xp) : vx_Met l yX1_character (ws_ yX1_character cX1_character 2 (some .char)) ({ frames := 12, cells := mc, slots := ms, locals := 228 } : Room) (va_Pc [.ref p0, .int p1] (ga_B g h)) (va_Qi post (ga_E g) (ga_A g)) (ga_X g xp) mc ms (ga_A g) := by
  refine ga_metx (own := "PaperStore") (nm := "character") (by decide) rfl rfl (by exact Nat.le_of_ble_eq_true rfl) (fun p e s m below meth c ls hC htab hI hl => ?_)
  have hl : lv_has ls 2 [(0, .ref p0), (1, .int p1)] := hl
  generalize ([.ref p0, .int p1] : List Value).toArray = args at hC ⊢
  obtain ⟨hx, hb, hml, hown, hts, hr, hlk, hnm⟩ := hC
  unfold gw_X1_character at hw
  obtain ⟨H, eH⟩ : ∃ z, z = s.heap := ⟨_, rfl⟩
  obtain ⟨locs, elo⟩ : ∃ z : List Loc, z = [] := ⟨_, rfl⟩
  rw [← eH, ← elo] at hI ⊢
  obtain ⟨cells, slots, hbc, hbs, e0, e1⟩ : ∃ a b : Nat, a + mc ≤ mc ∧ b + ms ≤ ms ∧ a = 0 ∧ b = 0 := ⟨0, 0, by omega, by omega, rfl, rfl⟩
  show W p l e ({ frames := 12, cells := mc, slots := ms, locals := 228 } : Room) s m args below meth c H locs 0 0 (vx_MQ below (va_Qi post (ga_E g) (ga_A g)) (ga_X g xp) args s mc ms (ga_A g)) (F0 m 0 ls [])
  suffices hgoal : W p l e ({ frames := 12, cells := mc, slots := ms, locals := 228 } : Room) s m args below meth c H locs cells slots (vx_MQ below (va_Qi post (ga_E g) (ga_A g)) (ga_X g xp) args s mc ms (ga_A g)) (F0 m 0 ls []) by rw [e0, e1] at hgoal; exact hgoal
  refine lv_iload_n hx hb dX1_character_0 rfl (lv_at hl 1 rfl) ?_
  refine lv_iconst (v := 0) hx hb dX1_character_1 (by decide) ?_
  refine lv_aload_n hx hb dX1_character_2 rfl (lv_at hl 0 rfl) ?_
  obtain ⟨fs_1, v_2, hq, hv, hw⟩ := hw
  refine ga_get (ci := 0) (T := TX1) (v := va_rf v_2) hx hb hts hown hI in_X1 rfl 4 (by decide) q391 (fun _ z => z) (ga_at.h hq) hv dX1_character_3 ?_
  obtain ⟨a_3, ea_3, hw⟩ := hw
  rewrite [ea_3]
  obtain ⟨fs_4, hq, hw⟩ := hw
  refine ga_calli (va_runV (As := []) (rest := [.int (0 : Int32), .int p1]) ⟨hx, hb, hml, hown, hts⟩ (gm_J6_length l g a_3 h _ hw) (cwV 0 hts (lw_V q2733 q1038 q4124 q110 q1039) rfl rfl rfl ⟨rfl, hdG_J6_length⟩ ⟨Nat.le_of_ble_eq_true rfl, Nat.le_of_ble_eq_true rfl⟩) (ga_preV hI hq rfl rfl) rfl rfl hl.1 rfl (ga_room (Nat.le_of_ble_eq_true rfl)) dX1_character_6 ⟨Nat.le_trans (Nat.add_le_add_left (Nat.zero_le _) _) hbc, Nat.le_trans (Nat.add_le_add_left (Nat.zero_le _) _) hbs⟩) hI hbc hbs (Nat.zero_le _) (Nat.zero_le _) (fun r_6 h_5 H locs cells slots hw hI hbc hbs => ?_)
  refine lv_iconst (v := 1) hx hb dX1_character_9 (by decide) ?_
  refine lv_isub hx hb dX1_character_10 ?_
  refine ga_callS (As := [.int p1, .int (0 : Int32), .int (r_6 - (1 : Int32))]) (rest := []) ⟨hx, hb, hml, hown, hts⟩ (gm_X1_isIn l p1 (0 : Int32) (r_6 - (1 : Int32)) _ hw) (va_cwS 3 hts (lw_S q2024 q2025 q100 q2026) rfl rfl rfl hdG_X1_isIn ⟨Nat.le_of_ble_eq_true rfl, Nat.le_of_ble_eq_true rfl⟩) rfl hl.1 rfl (ga_room (Nat.le_of_ble_eq_true rfl)) dX1_character_11 hbc hbs (fun r_7 hw => ?_)
  obtain ⟨kc_8, ks_9, hk1, hk2, hw⟩ := hw
  refine ga_xcallv (vx_runS (As := [.int r_7]) (rest := []) ⟨hx, hb, hml, hown, hts⟩ (gm_X1_checkElement l hst g r_7 h_5 kc_8 ks_9 _ _ hw) (va_cwS 1 hts (lw_S q2271 q2272 q100 q2273) rfl rfl rfl hdG_X1_checkElement ⟨Nat.le_of_ble_eq_true rfl, Nat.le_of_ble_eq_true rfl⟩) (ga_preS hI rfl) rfl rfl hl.1 rfl (ga_room (Nat.le_of_ble_eq_true rfl)) dX1_character_14 ⟨Nat.le_trans (Nat.add_le_add_left hk1 _) hbc, Nat.le_trans (Nat.add_le_add_left hk2 _) hbs⟩) hI hbc hbs hk1 hk2 (fun E_11 q_12 h_13 ce H locs cells slots hw hI hce hbc hbs => ?_) (fun h_10 H locs cells slots hw hI hbc hbs => ?_)
  · exact ga_out hown hlk hI hw (by rw [htab]; intro z hz; cases hz) hce (Nat.le_trans (Nat.le_add_right _ _) hbc) (Nat.le_trans (Nat.le_add_right _ _) hbs)
  · skip
    refine lv_aload_n hx hb dX1_character_17 rfl (lv_at hl 0 rfl) ?_
    obtain ⟨fs_14, v_15, hq, hv, hw⟩ := hw
    refine ga_get (ci := 0) (T := TX1) (v := va_rf v_15) hx hb hts hown hI in_X1 rfl 4 (by decide) q391 (fun _ z => z) (ga_at.h hq) hv dX1_character_18 ?_
    refine lv_iload_n hx hb dX1_character_21 rfl (lv_at hl 1 rfl) ?_
    obtain ⟨a_16, ea_16, hw⟩ := hw
    rewrite [ea_16]
    obtain ⟨fs_17, hq, hw⟩ := hw
    refine ga_calli (va_runV (As := [.int p1]) (rest := []) ⟨hx, hb, hml, hown, hts⟩ (gm_J6_charAt l g a_16 p1 h_10 _ hw) (cwV 1 hts (lw_V q2741 q2742 q2743 q110 q2744) rfl rfl rfl ⟨rfl, hdG_J6_charAt⟩ ⟨Nat.le_of_ble_eq_true rfl, Nat.le_of_ble_eq_true rfl⟩) (ga_preV hI hq rfl rfl) rfl rfl hl.1 rfl (ga_room (Nat.le_of_ble_eq_true rfl)) dX1_character_22 ⟨Nat.le_trans (Nat.add_le_add_left (Nat.zero_le _) _) hbc, Nat.le_trans (Nat.add_le_add_left (Nat.zero_le _) _) hbs⟩) hI hbc hbs (Nat.zero_le _) (Nat.zero_le _) (fun r_19 h_18 H locs cells slots hw hI hbc hbs => ?_)
    exact ga_iretx hx hb hr hw.1 hlk hI hw.2 (Nat.le_trans (Nat.le_add_right _ _) hbc) (Nat.le_trans (Nat.le_add_right _ _) hbs) dX1_character_25
theorem hdG_X1_character : yX1_character.cls ≠ "java/lang/invoke/MethodHandle" ∧ yX1_character.cls ≠ "java/lang/invoke/VarHandle" ∧ (parseMethodDescriptor yX1_character.desc).map (fun d => d.parameters.length) = some 1 := by decide +kernel
def gw_X0_character (K : ga_K) (p0 : Option Nat) (p1 : Int32) (p2 : Option Nat) (h : ga_H) (mc ms : Nat) (post : Int32 → ga_H → Prop) (xp : String → Nat → ga_H → Prop) : Prop :=
  ∃ a_1 : Nat, p0 = some a_1 ∧ ∃ kc_2 ks_3 : Nat, kc_2 ≤ mc ∧ ks_3 ≤ ms ∧ ∃ fs_4 : List Value, ga_at K h a_1 (ga_O 0 fs_4) ∧ gw_X1_character K a_1 p1 h kc_2 ks_3 (fun (r_6 : Int32) (h_5 : ga_H) => ∃ a_10 : Nat, p2 = some a_10 ∧ ∃ (n_11 : Nat) (f_12 : Nat → Int64), h_5 a_10 = some (ga_Al n_11 f_12) ∧ vp_in (0 : Int32) n_11 ∧ ∀ h_13 : ga_H, h_13 = ga_set h_5 a_10 (ga_Al n_11 (vp_updL f_12 (0 : Int32).toNatClampNeg r_6.toInt64)) → (post (0 : Int32) h_13)) (fun (E_7 : String) (q_8 : Nat) (h_9 : ga_H) => (E_7 = "java/util/NoSuchElementException" ∧ (post (1 : Int32) h_9)))
set_option maxHeartbeats 4000000 in
theorem gm_X0_character (l : Launch) (hst : l.stackTraces = false) (g : ga_G) (p0 : Option Nat) (p1 : Int32) (p2 : Option Nat) (h : ga_H) (mc ms : Nat) (post : Int32 → ga_H → Prop) (xp : String → Nat → ga_H → Prop) (hw : gw_X0_character g.2.2 p0 p1 p2 h mc ms post xp) : vx_Met l yX0_character (wsW_ yX0_character cX0_character 4 (some .int) [(0, 9, 12, 37)]) ({ frames := 13, cells := mc, slots := ms, locals := 249 } : Room) (va_Pc [va_rf p0, .int p1, va_rf p2] (ga_B g h)) (va_Qi post (ga_E g) (ga_A g)) (ga_X g xp) mc ms (ga_A g) := by
  refine ga_metxW (own := "PaperStoreLaw") (nm := "character") (by decide) rfl rfl (by cases p0 <;> cases p2 <;> exact Nat.le_of_ble_eq_true rfl) (fun p e s m below meth c ls hC htab hI hl => ?_)
  have hl : lv_has ls 4 [(0, va_rf p0), (1, .int p1), (2, va_rf p2)] := (by cases p0 <;> cases p2 <;> exact hl)
  generalize ([va_rf p0, .int p1, va_rf p2] : List Value).toArray = args at hC ⊢
  obtain ⟨hx, hb, hml, hown, hts, hr, hlk, hnm⟩ := hC
  unfold gw_X0_character at hw
  obtain ⟨H, eH⟩ : ∃ z, z = s.heap := ⟨_, rfl⟩
  obtain ⟨locs, elo⟩ : ∃ z : List Loc, z = [] := ⟨_, rfl⟩
  rw [← eH, ← elo] at hI ⊢
  obtain ⟨cells, slots, hbc, hbs, e0, e1⟩ : ∃ a b : Nat, a + mc ≤ mc ∧ b + ms ≤ ms ∧ a = 0 ∧ b = 0 := ⟨0, 0, by omega, by omega, rfl, rfl⟩
  show W p l e ({ frames := 13, cells := mc, slots := ms, locals := 249 } : Room) s m args below meth c H locs 0 0 (vx_MQ below (va_Qi post (ga_E g) (ga_A g)) (ga_X g xp) args s mc ms (ga_A g)) (F0 m 0 ls [])
  suffices hgoal : W p l e ({ frames := 13, cells := mc, slots := ms, locals := 249 } : Room) s m args below meth c H locs cells slots (vx_MQ below (va_Qi post (ga_E g) (ga_A g)) (ga_X g xp) args s mc ms (ga_A g)) (F0 m 0 ls []) by rw [e0, e1] at hgoal; exact hgoal
  refine ga_aload_n hx hb dX0_character_0 rfl (lv_at hl 2 rfl) ?_
  refine lv_iconst (v := 0) hx hb dX0_character_1 (by decide) ?_
  refine ga_aload_n hx hb dX0_character_2 rfl (lv_at hl 0 rfl) ?_
  refine lv_iload_n hx hb dX0_character_3 rfl (lv_at hl 1 rfl) ?_
  obtain ⟨a_1, ea_1, hw⟩ := hw
  rewrite [ea_1]
  obtain ⟨kc_2, ks_3, hk1, hk2, hw⟩ := hw
  obtain ⟨fs_4, hq, hw⟩ := hw
  refine ga_xcalli (vx_runV (As := [.int p1]) (rest := [.int (0 : Int32), va_rf p2]) ⟨hx, hb, hml, hown, hts⟩ (gm_X1_character l hst g a_1 p1 h kc_2 ks_3 _ _ hw) (cwV 1 hts (lw_V q2737 q2738 q2739 q100 q2740) rfl rfl rfl ⟨rfl, hdG_X1_character⟩ ⟨Nat.le_of_ble_eq_true rfl, Nat.le_of_ble_eq_true rfl⟩) (ga_preV hI hq rfl rfl) rfl rfl hl.1 rfl (ga_room (Nat.le_of_ble_eq_true rfl)) dX0_character_4 ⟨Nat.le_trans (Nat.add_le_add_left hk1 _) hbc, Nat.le_trans (Nat.add_le_add_left hk2 _) hbs⟩) hI hbc hbs hk1 hk2 (fun E_7 q_8 h_9 ce H locs cells slots hw hI hce hbc hbs => ?_) (fun r_6 h_5 H locs cells slots hw hI hbc hbs => ?_)
  · obtain ⟨rfl, hw⟩ := hw
    refine ga_catch hown hts hI ([]) (⟨0, 9, 12, 37⟩) ([]) (by rw [htab]; rfl) (fun _ h => absurd h List.not_mem_nil) rfl (by decide) q2256 q732 hce ?_
    refine W.eq (g2 := F0 m 12 ls [.ref q_8]) rfl ?_
    refine lv_astore_n (i := 3) (lv' := [(3, .ref q_8), (0, va_rf p0), (1, .int p1), (2, va_rf p2)]) hx hb dX0_character_12 rfl hl (by decide) (by simp [ga_rcat, ga_cat_r, ga_cat_i, ga_cat_f, ga_cat_l, ga_cat_d]) (fun ls hl => ?_)
    refine lv_iconst (v := 1) hx hb dX0_character_13 (by decide) ?_
    exact ga_iretx hx hb hr rfl hlk hI hw (Nat.le_trans (Nat.le_add_right _ _) hbc) (Nat.le_trans (Nat.le_add_right _ _) hbs) dX0_character_14
  · skip
    refine lv_i2l (v := r_6.toInt64) hx hb dX0_character_7 rfl ?_
    obtain ⟨a_10, ea_10, hw⟩ := hw
    rewrite [ea_10]
    obtain ⟨n_11, f_12, hq, hi, hw⟩ := hw
    refine ga_stl hx hb hI hq hi dX0_character_8 (fun H locs hI => ?_)
    obtain ⟨h_13, eh_13⟩ : ∃ z, z = ga_set h_5 a_10 (ga_Al n_11 (vp_updL f_12 (0 : Int32).toNatClampNeg r_6.toInt64)) := ⟨_, rfl⟩
    rw [← eh_13] at hI
    have hw := hw h_13 eh_13
    refine lv_goto (tgt := 15) hx hb dX0_character_9 (by decide) ?_
    refine lv_iconst (v := 0) hx hb dX0_character_15 (by decide) ?_
    exact ga_iretx hx hb hr rfl hlk hI hw (Nat.le_trans (Nat.le_add_right _ _) hbc) (Nat.le_trans (Nat.le_add_right _ _) hbs) dX0_character_16
theorem hdG_X0_character : yX0_character.cls ≠ "java/lang/invoke/MethodHandle" ∧ yX0_character.cls ≠ "java/lang/invoke/VarHandle" ∧ (parseMethodDescriptor yX0_character.desc).map (fun d => d.parameters.length) = some 3 := by decide +kernel
def gw_X1_checkCount (K : ga_K) (p0 : Int32) (h : ga_H) (mc ms : Nat) (post : ga_H → Prop) (xp : String → Nat → ga_H → Prop) : Prop :=
  (¬ p0 = (0 : Int32) → (post h)) ∧ (p0 = (0 : Int32) → (1 ≤ mc ∧ 6 ≤ ms ∧ ∀ q_2 : Nat, xp "java/lang/ArithmeticException" q_2 h))
set_option maxHeartbeats 4000000 in
theorem gm_X1_checkCount (l : Launch) (hst : l.stackTraces = false) (g : ga_G) (p0 : Int32) (h : ga_H) (mc ms : Nat) (post : ga_H → Prop) (xp : String → Nat → ga_H → Prop) (hw : gw_X1_checkCount g.2.2 p0 h mc ms post xp) : vx_Met l yX1_checkCount (ws_ yX1_checkCount cX1_checkCount 1 none) ({ frames := 8, cells := mc, slots := ms, locals := 140 } : Room) (va_Pc [.int p0] (ga_B g h)) (va_Qv post (ga_E g) (ga_A g)) (ga_X g xp) mc ms (ga_A g) := by
  refine ga_metx (own := "PaperStore") (nm := "checkCount") (by decide) rfl rfl (by exact Nat.le_of_ble_eq_true rfl) (fun p e s m below meth c ls hC htab hI hl => ?_)
  have hl : lv_has ls 1 [(0, .int p0)] := hl
  generalize ([.int p0] : List Value).toArray = args at hC ⊢
  obtain ⟨hx, hb, hml, hown, hts, hr, hlk, hnm⟩ := hC
  unfold gw_X1_checkCount at hw
  obtain ⟨H, eH⟩ : ∃ z, z = s.heap := ⟨_, rfl⟩
  obtain ⟨locs, elo⟩ : ∃ z : List Loc, z = [] := ⟨_, rfl⟩
  rw [← eH, ← elo] at hI ⊢
  obtain ⟨cells, slots, hbc, hbs, e0, e1⟩ : ∃ a b : Nat, a + mc ≤ mc ∧ b + ms ≤ ms ∧ a = 0 ∧ b = 0 := ⟨0, 0, by omega, by omega, rfl, rfl⟩
  show W p l e ({ frames := 8, cells := mc, slots := ms, locals := 140 } : Room) s m args below meth c H locs 0 0 (vx_MQ below (va_Qv post (ga_E g) (ga_A g)) (ga_X g xp) args s mc ms (ga_A g)) (F0 m 0 ls [])
  suffices hgoal : W p l e ({ frames := 8, cells := mc, slots := ms, locals := 140 } : Room) s m args below meth c H locs cells slots (vx_MQ below (va_Qv post (ga_E g) (ga_A g)) (ga_X g xp) args s mc ms (ga_A g)) (F0 m 0 ls []) by rw [e0, e1] at hgoal; exact hgoal
  refine lv_iload_n hx hb dX1_checkCount_0 rfl (lv_at hl 0 rfl) ?_
  refine lv_if_ne (tgt := 12) hx hb dX1_checkCount_1 (by decide) (fun hc_1 => ?_) (fun hc_1 => ?_)
  · have hw := hw.1 hc_1
    exact ga_vretx hx hb hr hlk hI hw (Nat.le_trans (Nat.le_add_right _ _) hbc) (Nat.le_trans (Nat.le_add_right _ _) hbs) dX1_checkCount_12
  · have hw := hw.2 hc_1
    exact ga_thr_are (ik := 22) (ic := 24) hx hb hst hts hown q2778 q2779 hI (hl.1.trans hml.symm) dX1_checkCount_4 dX1_checkCount_7 dX1_checkCount_8 dX1_checkCount_11 (by rw [htab]; intro z hz; cases hz) (Nat.le_of_ble_eq_true rfl) (Nat.le_trans (Nat.add_le_add_right (ga_sum [] (Nat.le_of_ble_eq_true rfl)) 81) (Nat.le_of_ble_eq_true rfl)) hlk hbc hbs hw.1 hw.2.1 hw.2.2
theorem hdG_X1_checkCount : yX1_checkCount.cls ≠ "java/lang/invoke/MethodHandle" ∧ yX1_checkCount.cls ≠ "java/lang/invoke/VarHandle" ∧ (parseMethodDescriptor yX1_checkCount.desc).map (fun d => d.parameters.length) = some 1 := by decide +kernel
def gw_X1_meanDamp (K : ga_K) (p0 : Nat) (h : ga_H) (mc ms : Nat) (post : UInt32 → ga_H → Prop) (xp : String → Nat → ga_H → Prop) : Prop :=
  ∃ (fs_1 : List Value) (v_2 : Option Nat), h p0 = some (ga_O 0 fs_1) ∧ fs_1[0]? = some (va_rf v_2) ∧ (∃ a_3 : Nat, v_2 = some a_3 ∧ ∃ kc_4 ks_5 : Nat, kc_4 ≤ mc ∧ ks_5 ≤ ms ∧ ∃ fs_6 : List Value, ga_at K h a_3 (ga_O 1 fs_6) ∧ gw_X2_lying K a_3 h kc_4 ks_5 (fun (r_8 : Option Nat) (h_7 : ga_H) => ∃ a_9 : Nat, r_8 = some a_9 ∧ ∃ fs_10 : List Value, ga_at K h_7 a_9 (ga_O 13 fs_10) ∧ gw_J2_size K a_9 h_7 (fun (r_12 : Int32) (h_11 : ga_H) => ∃ kc_13 ks_14 : Nat, kc_13 ≤ (mc - kc_4) ∧ ks_14 ≤ (ms - ks_5) ∧ gw_X1_checkCount K r_12 h_11 kc_13 ks_14 (fun (h_15 : ga_H) => ∃ a_19 : Nat, r_8 = some a_19 ∧ ∃ kc_20 ks_21 : Nat, kc_20 ≤ ((mc - kc_4) - kc_13) ∧ ks_21 ≤ ((ms - ks_5) - ks_14) ∧ ∃ fs_22 : List Value, ga_at K h_15 a_19 (ga_O 13 fs_22) ∧ gw_J2_iterator K a_19 h_15 kc_20 ks_21 (fun (r_24 : Option Nat) (h_23 : ga_H) => ∃ (In_25 : Int32 → ga_H → Nat → Nat → Prop) (mu_25 : Int32 → ga_H → Nat → Nat → Nat), In_25 (0 : Int32) h_23 (((mc - kc_4) - kc_13) - kc_20) (((ms - ks_5) - ks_14) - ks_21) ∧ ∀ (x2_25 : Int32) (h_25 : ga_H) (bc_25 : Nat) (bs_25 : Nat), In_25 x2_25 h_25 bc_25 bs_25 → (∃ a_26 : Nat, r_24 = some a_26 ∧ ∃ fs_27 : List Value, ga_at K h_25 a_26 (ga_O 14 fs_27) ∧ gw_J16_hasNext K a_26 h_25 (fun (r_29 : Int32) (h_28 : ga_H) => (r_29 = (0 : Int32) → (∃ a_31 : Nat, r_8 = some a_31 ∧ ∃ fs_32 : List Value, ga_at K h_28 a_31 (ga_O 13 fs_32) ∧ gw_J2_size K a_31 h_28 (fun (r_34 : Int32) (h_33 : ga_H) => vf_n32 (FP.fdiv (FP.i2f x2_25) (FP.i2f r_34)) ∧ (post (FP.fdiv (FP.i2f x2_25) (FP.i2f r_34)) h_33)))) ∧ (¬ r_29 = (0 : Int32) → (∃ a_35 : Nat, r_24 = some a_35 ∧ ∃ kc_36 ks_37 : Nat, kc_36 ≤ bc_25 ∧ ks_37 ≤ bs_25 ∧ ∃ fs_38 : List Value, ga_at K h_28 a_35 (ga_O 14 fs_38) ∧ gw_J16_next K a_35 h_28 kc_36 ks_37 (fun (r_40 : Option Nat) (h_39 : ga_H) => ga_ok K h_39 "PaperStore$Ream" r_40 ∧ (∃ a_41 : Nat, r_40 = some a_41 ∧ ∃ (fs_42 : List Value) (v_43 : Int32), h_39 a_41 = some (ga_O 4 fs_42) ∧ fs_42[3]? = some (.int v_43) ∧ (In_25 (x2_25 + v_43) h_39 (bc_25 - kc_36) (bs_25 - ks_37) ∧ mu_25 (x2_25 + v_43) h_39 (bc_25 - kc_36) (bs_25 - ks_37) < mu_25 x2_25 h_25 bc_25 bs_25))))))))) (fun (E_16 : String) (q_17 : Nat) (h_18 : ga_H) => xp E_16 q_17 h_18))))
set_option maxHeartbeats 4000000 in
theorem gm_X1_meanDamp (l : Launch) (hst : l.stackTraces = false) (g : ga_G) (p0 : Nat) (h : ga_H) (mc ms : Nat) (post : UInt32 → ga_H → Prop) (xp : String → Nat → ga_H → Prop) (hw : gw_X1_meanDamp g.2.2 p0 h mc ms post xp) : vx_Met l yX1_meanDamp (ws_ yX1_meanDamp cX1_meanDamp 5 (some .float)) ({ frames := 14, cells := mc, slots := ms, locals := 282 } : Room) (va_Pc [.ref p0] (ga_B g h)) (va_Qf post (ga_E g) (ga_A g)) (ga_X g xp) mc ms (ga_A g) := by
  refine ga_metx (own := "PaperStore") (nm := "meanDamp") (by decide) rfl rfl (by exact Nat.le_of_ble_eq_true rfl) (fun p e s m below meth c ls hC htab hI hl => ?_)
  have hl : lv_has ls 5 [(0, .ref p0)] := hl
  generalize ([.ref p0] : List Value).toArray = args at hC ⊢
  obtain ⟨hx, hb, hml, hown, hts, hr, hlk, hnm⟩ := hC
  unfold gw_X1_meanDamp at hw
  obtain ⟨H, eH⟩ : ∃ z, z = s.heap := ⟨_, rfl⟩
  obtain ⟨locs, elo⟩ : ∃ z : List Loc, z = [] := ⟨_, rfl⟩
  rw [← eH, ← elo] at hI ⊢
  obtain ⟨cells, slots, hbc, hbs, e0, e1⟩ : ∃ a b : Nat, a + mc ≤ mc ∧ b + ms ≤ ms ∧ a = 0 ∧ b = 0 := ⟨0, 0, by omega, by omega, rfl, rfl⟩
  show W p l e ({ frames := 14, cells := mc, slots := ms, locals := 282 } : Room) s m args below meth c H locs 0 0 (vx_MQ below (va_Qf post (ga_E g) (ga_A g)) (ga_X g xp) args s mc ms (ga_A g)) (F0 m 0 ls [])
  suffices hgoal : W p l e ({ frames := 14, cells := mc, slots := ms, locals := 282 } : Room) s m args below meth c H locs cells slots (vx_MQ below (va_Qf post (ga_E g) (ga_A g)) (ga_X g xp) args s mc ms (ga_A g)) (F0 m 0 ls []) by rw [e0, e1] at hgoal; exact hgoal
  refine lv_aload_n hx hb dX1_meanDamp_0 rfl (lv_at hl 0 rfl) ?_
  obtain ⟨fs_1, v_2, hq, hv, hw⟩ := hw
  refine ga_get (ci := 0) (T := TX1) (v := va_rf v_2) hx hb hts hown hI in_X1 rfl 0 (by decide) q387 (fun _ z => z) (ga_at.h hq) hv dX1_meanDamp_1 ?_
  obtain ⟨a_3, ea_3, hw⟩ := hw
  rewrite [ea_3]
  obtain ⟨kc_4, ks_5, hk1, hk2, hw⟩ := hw
  obtain ⟨fs_6, hq, hw⟩ := hw
  refine ga_callq (va_runV (As := []) (rest := []) ⟨hx, hb, hml, hown, hts⟩ (gm_X2_lying l g a_3 h kc_4 ks_5 _ hw) (cwV 0 hts (lw_V q440 q441 q442 q101 q443) rfl rfl rfl ⟨rfl, hdG_X2_lying⟩ ⟨Nat.le_of_ble_eq_true rfl, Nat.le_of_ble_eq_true rfl⟩) (ga_preV hI hq rfl rfl) rfl rfl hl.1 rfl (ga_room (Nat.le_of_ble_eq_true rfl)) dX1_meanDamp_4 ⟨Nat.le_trans (Nat.add_le_add_left hk1 _) hbc, Nat.le_trans (Nat.add_le_add_left hk2 _) hbs⟩) hI hbc hbs hk1 hk2 (fun r_8 h_7 H locs cells slots hw hI hbc hbs => ?_)
  refine ga_astore_n (i := 1) (x := r_8) (lv' := [(1, va_rf r_8), (0, .ref p0)]) hx hb dX1_meanDamp_7 rfl hl (by decide) rfl (fun ls hl => ?_)
  refine ga_aload_n hx hb dX1_meanDamp_8 rfl (lv_at hl 0 rfl) ?_
  obtain ⟨a_9, ea_9, hw⟩ := hw
  rewrite [ea_9]
  obtain ⟨fs_10, hq, hw⟩ := hw
  refine ga_callFi (va_runF (As := []) (rest := []) (hI.2.1.1.1.1 13 _ rfl).2 ⟨hx, hb, hml, hown, hts⟩ (gm_J2_size l g a_9 h_7 _ hw) (va_cwF 0 hts (lw_app (List.forall_mem_cons.mpr ⟨q2335, List.forall_mem_cons.mpr ⟨q2338, List.forall_mem_cons.mpr ⟨q536, List.forall_mem_cons.mpr ⟨q104, fun _ h => absurd h List.not_mem_nil⟩⟩⟩⟩) (lw_meth q537)) rfl rfl rfl (hI.2.1.1.2.2 _ _ _ ⟨by decide +kernel, q2337, q2336, q2340, q2339, q836⟩) (by decide +kernel) ⟨Nat.le_of_ble_eq_true rfl, Nat.le_of_ble_eq_true rfl⟩) (ga_preV (C := "java/util/ArrayList") hI hq rfl rfl) rfl rfl hl.1 rfl (ga_room (Nat.le_of_ble_eq_true rfl)) dX1_meanDamp_9 ⟨Nat.le_trans (Nat.add_le_add_left (Nat.zero_le _) _) hbc, Nat.le_trans (Nat.add_le_add_left (Nat.zero_le _) _) hbs⟩) hI hbc hbs (Nat.zero_le _) (Nat.zero_le _) (fun r_12 h_11 H locs cells slots hw hI hbc hbs => ?_)
  obtain ⟨kc_13, ks_14, hk1, hk2, hw⟩ := hw
  refine ga_xcallv (vx_runS (As := [.int r_12]) (rest := []) ⟨hx, hb, hml, hown, hts⟩ (gm_X1_checkCount l hst g r_12 h_11 kc_13 ks_14 _ _ hw) (va_cwS 1 hts (lw_S q2775 q2776 q100 q2777) rfl rfl rfl hdG_X1_checkCount ⟨Nat.le_of_ble_eq_true rfl, Nat.le_of_ble_eq_true rfl⟩) (ga_preS hI rfl) rfl rfl hl.1 rfl (ga_room (Nat.le_of_ble_eq_true rfl)) dX1_meanDamp_14 ⟨Nat.le_trans (Nat.add_le_add_left hk1 _) hbc, Nat.le_trans (Nat.add_le_add_left hk2 _) hbs⟩) hI hbc hbs hk1 hk2 (fun E_16 q_17 h_18 ce H locs cells slots hw hI hce hbc hbs => ?_) (fun h_15 H locs cells slots hw hI hbc hbs => ?_)
  · exact ga_out hown hlk hI hw (by rw [htab]; intro z hz; cases hz) hce (Nat.le_trans (Nat.le_add_right _ _) hbc) (Nat.le_trans (Nat.le_add_right _ _) hbs)
  · skip
    refine lv_iconst (v := 0) hx hb dX1_meanDamp_17 (by decide) ?_
    refine lv_istore_n (i := 2) (lv' := [(2, .int (0 : Int32)), (1, va_rf r_8), (0, .ref p0)]) hx hb dX1_meanDamp_18 rfl hl (by decide) (by simp [ga_rcat, ga_cat_r, ga_cat_i, ga_cat_f, ga_cat_l, ga_cat_d]) (fun ls hl => ?_)
    refine ga_aload_n hx hb dX1_meanDamp_19 rfl (lv_at hl 1 rfl) ?_
    obtain ⟨a_19, ea_19, hw⟩ := hw
    rewrite [ea_19]
    obtain ⟨kc_20, ks_21, hk1, hk2, hw⟩ := hw
    obtain ⟨fs_22, hq, hw⟩ := hw
    refine ga_callFq (va_runF (As := []) (rest := []) (hI.2.1.1.1.1 13 _ rfl).2 ⟨hx, hb, hml, hown, hts⟩ (gm_J2_iterator l g a_19 h_15 kc_20 ks_21 _ hw) (va_cwF 0 hts (lw_app (List.forall_mem_cons.mpr ⟨q1168, List.forall_mem_cons.mpr ⟨q1171, List.forall_mem_cons.mpr ⟨q564, List.forall_mem_cons.mpr ⟨q104, fun _ h => absurd h List.not_mem_nil⟩⟩⟩⟩) (lw_meth q565)) rfl rfl rfl (hI.2.1.1.2.2 _ _ _ ⟨by decide +kernel, q1170, q1169, q1173, q1172, q836⟩) (by decide +kernel) ⟨Nat.le_of_ble_eq_true rfl, Nat.le_of_ble_eq_true rfl⟩) (ga_preV (C := "java/util/ArrayList") hI hq rfl rfl) rfl rfl hl.1 rfl (ga_room (Nat.le_of_ble_eq_true rfl)) dX1_meanDamp_20 ⟨Nat.le_trans (Nat.add_le_add_left hk1 _) hbc, Nat.le_trans (Nat.add_le_add_left hk2 _) hbs⟩) hI hbc hbs hk1 hk2 (fun r_24 h_23 H locs cells slots hw hI hbc hbs => ?_)
    refine ga_astore_n (i := 3) (x := r_24) (lv' := [(3, va_rf r_24), (2, .int (0 : Int32)), (1, va_rf r_8), (0, .ref p0)]) hx hb dX1_meanDamp_25 rfl hl (by decide) rfl (fun ls hl => ?_)
    obtain ⟨In_25, mu_25, h0_25, hw⟩ := hw
    have hL_25 : ∀ (n : Nat) (x2_25 : Int32) (h_25 : ga_H) (bc_25 : Nat) (bs_25 : Nat) (H : Heap) (locs : List Loc) (cells slots : Nat) (ls : Array Slot), mu_25 x2_25 h_25 bc_25 bs_25 < n → In_25 x2_25 h_25 bc_25 bs_25 → ga_I g h_25 s H locs → cells + bc_25 ≤ mc → slots + bs_25 ≤ ms → lv_has ls 5 [(1, va_rf r_8), (2, .int x2_25), (3, va_rf r_24)] → W p l e ({ frames := 14, cells := mc, slots := ms, locals := 282 } : Room) s m args below meth c H locs cells slots (vx_MQ below (va_Qf post (ga_E g) (ga_A g)) (ga_X g xp) args s mc ms (ga_A g)) (F0 m 26 ls []) := by
      intro n
      induction n with
      | zero => intro x2_25 h_25 bc_25 bs_25 H locs cells slots ls hn _ _ _ _ _; exact absurd hn (Nat.not_lt_zero _)
      | succ n ih_25 =>
        intro x2_25 h_25 bc_25 bs_25 H locs cells slots ls hn_25 hi_25 hI hbc hbs hl
        have hw := hw x2_25 h_25 bc_25 bs_25 hi_25
        refine ga_aload_n hx hb dX1_meanDamp_26 rfl (lv_at hl 2 rfl) ?_
        obtain ⟨a_26, ea_26, hw⟩ := hw
        rewrite [ea_26]
        obtain ⟨fs_27, hq, hw⟩ := hw
        refine ga_callFi (va_runF (As := []) (rest := []) (hI.2.1.1.1.1 14 _ rfl).2 ⟨hx, hb, hml, hown, hts⟩ (gm_J16_hasNext l g a_26 h_25 _ hw) (va_cwF 0 hts (lw_app (List.forall_mem_cons.mpr ⟨q1180, List.forall_mem_cons.mpr ⟨q696, List.forall_mem_cons.mpr ⟨q698, List.forall_mem_cons.mpr ⟨q122, fun _ h => absurd h List.not_mem_nil⟩⟩⟩⟩) (lw_meth q700)) rfl rfl rfl (hI.2.1.1.2.2 _ _ _ ⟨by decide +kernel, q694, q693, q699, q697, q695⟩) (by decide +kernel) ⟨Nat.le_of_ble_eq_true rfl, Nat.le_of_ble_eq_true rfl⟩) (ga_preV (C := "java/util/ArrayList$Itr") hI hq rfl rfl) rfl rfl hl.1 rfl (ga_room (Nat.le_of_ble_eq_true rfl)) dX1_meanDamp_27 ⟨Nat.le_trans (Nat.add_le_add_left (Nat.zero_le _) _) hbc, Nat.le_trans (Nat.add_le_add_left (Nat.zero_le _) _) hbs⟩) hI hbc hbs (Nat.zero_le _) (Nat.zero_le _) (fun r_29 h_28 H locs cells slots hw hI hbc hbs => ?_)
        refine lv_if_eq (tgt := 57) hx hb dX1_meanDamp_32 (by decide) (fun hc_30 => ?_) (fun hc_30 => ?_)
        · have hw := hw.1 hc_30
          refine lv_iload_n hx hb dX1_meanDamp_57 rfl (lv_at hl 1 rfl) ?_
          refine lv_i2f hx hb dX1_meanDamp_58 ?_
          refine ga_aload_n hx hb dX1_meanDamp_59 rfl (lv_at hl 0 rfl) ?_
          obtain ⟨a_31, ea_31, hw⟩ := hw
          rewrite [ea_31]
          obtain ⟨fs_32, hq, hw⟩ := hw
          refine ga_callFi (va_runF (As := []) (rest := [.float (FP.i2f x2_25)]) (hI.2.1.1.1.1 13 _ rfl).2 ⟨hx, hb, hml, hown, hts⟩ (gm_J2_size l g a_31 h_28 _ hw) (va_cwF 0 hts (lw_app (List.forall_mem_cons.mpr ⟨q2335, List.forall_mem_cons.mpr ⟨q2338, List.forall_mem_cons.mpr ⟨q536, List.forall_mem_cons.mpr ⟨q104, fun _ h => absurd h List.not_mem_nil⟩⟩⟩⟩) (lw_meth q537)) rfl rfl rfl (hI.2.1.1.2.2 _ _ _ ⟨by decide +kernel, q2337, q2336, q2340, q2339, q836⟩) (by decide +kernel) ⟨Nat.le_of_ble_eq_true rfl, Nat.le_of_ble_eq_true rfl⟩) (ga_preV (C := "java/util/ArrayList") hI hq rfl rfl) rfl rfl hl.1 rfl (ga_room (Nat.le_of_ble_eq_true rfl)) dX1_meanDamp_60 ⟨Nat.le_trans (Nat.add_le_add_left (Nat.zero_le _) _) hbc, Nat.le_trans (Nat.add_le_add_left (Nat.zero_le _) _) hbs⟩) hI hbc hbs (Nat.zero_le _) (Nat.zero_le _) (fun r_34 h_33 H locs cells slots hw hI hbc hbs => ?_)
          refine lv_i2f hx hb dX1_meanDamp_65 ?_
          refine lv_fdiv hx hb dX1_meanDamp_66 hw.1 ?_
          have hw := hw.2
          exact ga_fretx hx hb hr hlk hI hw (Nat.le_trans (Nat.le_add_right _ _) hbc) (Nat.le_trans (Nat.le_add_right _ _) hbs) dX1_meanDamp_67
        · have hw := hw.2 hc_30
          refine ga_aload_n hx hb dX1_meanDamp_35 rfl (lv_at hl 2 rfl) ?_
          obtain ⟨a_35, ea_35, hw⟩ := hw
          rewrite [ea_35]
          obtain ⟨kc_36, ks_37, hk1, hk2, hw⟩ := hw
          obtain ⟨fs_38, hq, hw⟩ := hw
          refine ga_callFq (va_runF (As := []) (rest := []) (hI.2.1.1.1.1 14 _ rfl).2 ⟨hx, hb, hml, hown, hts⟩ (gm_J16_next l g a_35 h_28 kc_36 ks_37 _ hw) (va_cwF 0 hts (lw_app (List.forall_mem_cons.mpr ⟨q1182, List.forall_mem_cons.mpr ⟨q721, List.forall_mem_cons.mpr ⟨q723, List.forall_mem_cons.mpr ⟨q122, fun _ h => absurd h List.not_mem_nil⟩⟩⟩⟩) (lw_meth q725)) rfl rfl rfl (hI.2.1.1.2.2 _ _ _ ⟨by decide +kernel, q720, q719, q724, q722, q695⟩) (by decide +kernel) ⟨Nat.le_of_ble_eq_true rfl, Nat.le_of_ble_eq_true rfl⟩) (ga_preV (C := "java/util/ArrayList$Itr") hI hq rfl rfl) rfl rfl hl.1 rfl (ga_room (Nat.le_of_ble_eq_true rfl)) dX1_meanDamp_36 ⟨Nat.le_trans (Nat.add_le_add_left hk1 _) hbc, Nat.le_trans (Nat.add_le_add_left hk2 _) hbs⟩) hI hbc hbs hk1 hk2 (fun r_40 h_39 H locs cells slots hw hI hbc hbs => ?_)
          refine ga_cast (x := r_40) hx hb hts hown hI q1183 hw.1 dX1_meanDamp_41 ?_
          have hw := hw.2
          refine ga_astore (x := r_40) (lv' := [(4, va_rf r_40), (1, va_rf r_8), (2, .int x2_25), (3, va_rf r_24)]) hx hb dX1_meanDamp_44 hl (by decide) (by simp [ga_rcat, ga_cat_r, ga_cat_i, ga_cat_f, ga_cat_l, ga_cat_d]) (fun ls hl => ?_)
          refine lv_iload_n hx hb dX1_meanDamp_46 rfl (lv_at hl 2 rfl) ?_
          refine ga_aload hx hb dX1_meanDamp_47 (lv_at hl 0 rfl) ?_
          obtain ⟨a_41, ea_41, hw⟩ := hw
          rewrite [ea_41]
          obtain ⟨fs_42, v_43, hq, hv, hw⟩ := hw
          refine ga_getN (ci := 4) (T := TX6) (v := .int v_43) hx hb hts hown hI in_X6 rfl 3 (by decide) q1305 (fun _ z => z) (ga_at.h hq) hv dX1_meanDamp_49 ?_
          refine lv_iadd hx hb dX1_meanDamp_52 ?_
          refine lv_istore_n (i := 2) (lv' := [(2, .int (x2_25 + v_43)), (4, va_rf r_40), (1, va_rf r_8), (3, va_rf r_24)]) hx hb dX1_meanDamp_53 rfl hl (by decide) (by simp [ga_rcat, ga_cat_r, ga_cat_i, ga_cat_f, ga_cat_l, ga_cat_d]) (fun ls hl => ?_)
          refine lv_goto (tgt := 26) hx hb dX1_meanDamp_54 (by decide) ?_
          exact ih_25 _ _ _ _ H locs cells slots ls (Nat.lt_of_lt_of_le hw.2 (Nat.le_of_lt_succ hn_25)) hw.1 hI hbc hbs (lv_sub hl [2, 0, 3] rfl)
    exact hL_25 _ _ _ _ _ H locs cells slots ls (Nat.lt_succ_self _) h0_25 hI hbc hbs (lv_sub hl [2, 1, 0] rfl)
theorem hdG_X1_meanDamp : yX1_meanDamp.cls ≠ "java/lang/invoke/MethodHandle" ∧ yX1_meanDamp.cls ≠ "java/lang/invoke/VarHandle" ∧ (parseMethodDescriptor yX1_meanDamp.desc).map (fun d => d.parameters.length) = some 0 := by decide +kernel
def gw_X0_meanDamp (K : ga_K) (p0 : Option Nat) (p1 : Option Nat) (h : ga_H) (mc ms : Nat) (post : Int32 → ga_H → Prop) (xp : String → Nat → ga_H → Prop) : Prop :=
  ∃ a_1 : Nat, p0 = some a_1 ∧ ∃ kc_2 ks_3 : Nat, kc_2 ≤ mc ∧ ks_3 ≤ ms ∧ ∃ fs_4 : List Value, ga_at K h a_1 (ga_O 0 fs_4) ∧ gw_X1_meanDamp K a_1 h kc_2 ks_3 (fun (r_6 : UInt32) (h_5 : ga_H) => vf_n64 (FP.f2d r_6) ∧ (∃ a_10 : Nat, p1 = some a_10 ∧ ∃ (n_11 : Nat) (f_12 : Nat → UInt64), h_5 a_10 = some (ga_Ad n_11 f_12) ∧ vp_in (0 : Int32) n_11 ∧ ∀ h_13 : ga_H, h_13 = ga_set h_5 a_10 (ga_Ad n_11 (vf_upd f_12 (0 : Int32).toNatClampNeg (FP.f2d r_6))) → (post (0 : Int32) h_13))) (fun (E_7 : String) (q_8 : Nat) (h_9 : ga_H) => (E_7 = "java/lang/ArithmeticException" ∧ (post (1 : Int32) h_9)))
set_option maxHeartbeats 4000000 in
theorem gm_X0_meanDamp (l : Launch) (hst : l.stackTraces = false) (g : ga_G) (p0 : Option Nat) (p1 : Option Nat) (h : ga_H) (mc ms : Nat) (post : Int32 → ga_H → Prop) (xp : String → Nat → ga_H → Prop) (hw : gw_X0_meanDamp g.2.2 p0 p1 h mc ms post xp) : vx_Met l yX0_meanDamp (wsW_ yX0_meanDamp cX0_meanDamp 3 (some .int) [(0, 8, 11, 113)]) ({ frames := 15, cells := mc, slots := ms, locals := 306 } : Room) (va_Pc [va_rf p0, va_rf p1] (ga_B g h)) (va_Qi post (ga_E g) (ga_A g)) (ga_X g xp) mc ms (ga_A g) := by
  refine ga_metxW (own := "PaperStoreLaw") (nm := "meanDamp") (by decide) rfl rfl (by cases p0 <;> cases p1 <;> exact Nat.le_of_ble_eq_true rfl) (fun p e s m below meth c ls hC htab hI hl => ?_)
  have hl : lv_has ls 3 [(0, va_rf p0), (1, va_rf p1)] := (by cases p0 <;> cases p1 <;> exact hl)
  generalize ([va_rf p0, va_rf p1] : List Value).toArray = args at hC ⊢
  obtain ⟨hx, hb, hml, hown, hts, hr, hlk, hnm⟩ := hC
  unfold gw_X0_meanDamp at hw
  obtain ⟨H, eH⟩ : ∃ z, z = s.heap := ⟨_, rfl⟩
  obtain ⟨locs, elo⟩ : ∃ z : List Loc, z = [] := ⟨_, rfl⟩
  rw [← eH, ← elo] at hI ⊢
  obtain ⟨cells, slots, hbc, hbs, e0, e1⟩ : ∃ a b : Nat, a + mc ≤ mc ∧ b + ms ≤ ms ∧ a = 0 ∧ b = 0 := ⟨0, 0, by omega, by omega, rfl, rfl⟩
  show W p l e ({ frames := 15, cells := mc, slots := ms, locals := 306 } : Room) s m args below meth c H locs 0 0 (vx_MQ below (va_Qi post (ga_E g) (ga_A g)) (ga_X g xp) args s mc ms (ga_A g)) (F0 m 0 ls [])
  suffices hgoal : W p l e ({ frames := 15, cells := mc, slots := ms, locals := 306 } : Room) s m args below meth c H locs cells slots (vx_MQ below (va_Qi post (ga_E g) (ga_A g)) (ga_X g xp) args s mc ms (ga_A g)) (F0 m 0 ls []) by rw [e0, e1] at hgoal; exact hgoal
  refine ga_aload_n hx hb dX0_meanDamp_0 rfl (lv_at hl 1 rfl) ?_
  refine lv_iconst (v := 0) hx hb dX0_meanDamp_1 (by decide) ?_
  refine ga_aload_n hx hb dX0_meanDamp_2 rfl (lv_at hl 0 rfl) ?_
  obtain ⟨a_1, ea_1, hw⟩ := hw
  rewrite [ea_1]
  obtain ⟨kc_2, ks_3, hk1, hk2, hw⟩ := hw
  obtain ⟨fs_4, hq, hw⟩ := hw
  refine ga_xcallf (vx_runV (As := []) (rest := [.int (0 : Int32), va_rf p1]) ⟨hx, hb, hml, hown, hts⟩ (gm_X1_meanDamp l hst g a_1 h kc_2 ks_3 _ _ hw) (cwV 0 hts (lw_V q2771 q2772 q2773 q100 q2774) rfl rfl rfl ⟨rfl, hdG_X1_meanDamp⟩ ⟨Nat.le_of_ble_eq_true rfl, Nat.le_of_ble_eq_true rfl⟩) (ga_preV hI hq rfl rfl) rfl rfl hl.1 rfl (ga_room (Nat.le_of_ble_eq_true rfl)) dX0_meanDamp_3 ⟨Nat.le_trans (Nat.add_le_add_left hk1 _) hbc, Nat.le_trans (Nat.add_le_add_left hk2 _) hbs⟩) hI hbc hbs hk1 hk2 (fun E_7 q_8 h_9 ce H locs cells slots hw hI hce hbc hbs => ?_) (fun r_6 h_5 H locs cells slots hw hI hbc hbs => ?_)
  · obtain ⟨rfl, hw⟩ := hw
    refine ga_catch hown hts hI ([]) (⟨0, 8, 11, 113⟩) ([]) (by rw [htab]; rfl) (fun _ h => absurd h List.not_mem_nil) rfl (by decide) q2757 q2769 hce ?_
    refine W.eq (g2 := F0 m 11 ls [.ref q_8]) rfl ?_
    refine lv_astore_n (i := 2) (lv' := [(2, .ref q_8), (0, va_rf p0), (1, va_rf p1)]) hx hb dX0_meanDamp_11 rfl hl (by decide) (by simp [ga_rcat, ga_cat_r, ga_cat_i, ga_cat_f, ga_cat_l, ga_cat_d]) (fun ls hl => ?_)
    refine lv_iconst (v := 1) hx hb dX0_meanDamp_12 (by decide) ?_
    exact ga_iretx hx hb hr rfl hlk hI hw (Nat.le_trans (Nat.le_add_right _ _) hbc) (Nat.le_trans (Nat.le_add_right _ _) hbs) dX0_meanDamp_13
  · skip
    refine lv_f2d hx hb dX0_meanDamp_6 hw.1 ?_
    have hw := hw.2
    obtain ⟨a_10, ea_10, hw⟩ := hw
    rewrite [ea_10]
    obtain ⟨n_11, f_12, hq, hi, hw⟩ := hw
    refine ga_std hx hb hI hq hi dX0_meanDamp_7 (fun H locs hI => ?_)
    obtain ⟨h_13, eh_13⟩ : ∃ z, z = ga_set h_5 a_10 (ga_Ad n_11 (vf_upd f_12 (0 : Int32).toNatClampNeg (FP.f2d r_6))) := ⟨_, rfl⟩
    rw [← eh_13] at hI
    have hw := hw h_13 eh_13
    refine lv_goto (tgt := 14) hx hb dX0_meanDamp_8 (by decide) ?_
    refine lv_iconst (v := 0) hx hb dX0_meanDamp_14 (by decide) ?_
    exact ga_iretx hx hb hr rfl hlk hI hw (Nat.le_trans (Nat.le_add_right _ _) hbc) (Nat.le_trans (Nat.le_add_right _ _) hbs) dX0_meanDamp_15
theorem hdG_X0_meanDamp : yX0_meanDamp.cls ≠ "java/lang/invoke/MethodHandle" ∧ yX0_meanDamp.cls ≠ "java/lang/invoke/VarHandle" ∧ (parseMethodDescriptor yX0_meanDamp.desc).map (fun d => d.parameters.length) = some 2 := by decide +kernel
def gw_X2_ofAisles (K : ga_K) (p0 : Nat) (p1 : Int32) (h : ga_H) (post : Int32 → ga_H → Prop) : Prop :=
  ∃ (fs_1 : List Value) (v_2 : Option Nat), h p0 = some (ga_O 1 fs_1) ∧ fs_1[0]? = some (va_rf v_2) ∧ (∃ a_3 : Nat, v_2 = some a_3 ∧ ∃ (n_4 : Nat) (f_5 : Nat → Option Nat), h a_3 = some (ga_Aq 6 n_4 f_5) ∧ (∃ (In_6 : Int32 → Int32 → Prop) (mu_6 : Int32 → Int32 → Nat), In_6 (0 : Int32) (0 : Int32) ∧ ∀ (x2_6 : Int32) (x5_6 : Int32), In_6 x2_6 x5_6 → ((nI n_4 ≤ x5_6 → (post x2_6 h)) ∧ (¬ nI n_4 ≤ x5_6 → (∃ a_8 : Nat, v_2 = some a_8 ∧ ∃ (n_9 : Nat) (f_10 : Nat → Option Nat), h a_8 = some (ga_Aq 6 n_9 f_10) ∧ vp_in x5_6 n_9 ∧ ∀ v_11 : Option Nat, v_11 = f_10 x5_6.toNatClampNeg → ((¬ p1 = (0 : Int32) → ((¬ p1 = (1 : Int32) → (∃ a_14 : Nat, v_11 = some a_14 ∧ ∃ (fs_15 : List Value) (v_16 : Int32), h a_14 = some (ga_O 2 fs_15) ∧ fs_15[5]? = some (.int v_16) ∧ (In_6 (x2_6 + v_16) (x5_6 + (1 : Int32)) ∧ mu_6 (x2_6 + v_16) (x5_6 + (1 : Int32)) < mu_6 x2_6 x5_6))) ∧ (p1 = (1 : Int32) → (∃ a_17 : Nat, v_11 = some a_17 ∧ ∃ (fs_18 : List Value) (v_19 : Int32), h a_17 = some (ga_O 2 fs_18) ∧ fs_18[2]? = some (.int v_19) ∧ (In_6 (x2_6 + v_19) (x5_6 + (1 : Int32)) ∧ mu_6 (x2_6 + v_19) (x5_6 + (1 : Int32)) < mu_6 x2_6 x5_6))))) ∧ (p1 = (0 : Int32) → (∃ a_20 : Nat, v_11 = some a_20 ∧ ∃ (fs_21 : List Value) (v_22 : Int32), h a_20 = some (ga_O 2 fs_21) ∧ fs_21[4]? = some (.int v_22) ∧ (In_6 (x2_6 + v_22) (x5_6 + (1 : Int32)) ∧ mu_6 (x2_6 + v_22) (x5_6 + (1 : Int32)) < mu_6 x2_6 x5_6)))))))))
set_option maxHeartbeats 4000000 in
theorem gm_X2_ofAisles (l : Launch) (g : ga_G) (p0 : Nat) (p1 : Int32) (h : ga_H) (post : Int32 → ga_H → Prop) (hw : gw_X2_ofAisles g.2.2 p0 p1 h post) : Met l yX2_ofAisles (ws_ yX2_ofAisles cX2_ofAisles 7 (some .int)) ({ frames := 8, cells := 0, slots := 0, locals := 140 } : Room) (va_Pc [.ref p0, .int p1] (ga_B g h)) (va_Qi post (ga_E g) (ga_A g)) 0 0 (ga_A g) := by
  refine ga_met (own := "PaperStore$Store") (nm := "ofAisles") (by decide) rfl rfl (by exact Nat.le_of_ble_eq_true rfl) (fun p e s m below meth c ls hC hI hl => ?_)
  have hl : lv_has ls 7 [(0, .ref p0), (1, .int p1)] := hl
  generalize ([.ref p0, .int p1] : List Value).toArray = args at hC ⊢
  obtain ⟨hx, hb, hml, hown, hts, hr, hlk, hnm⟩ := hC
  unfold gw_X2_ofAisles at hw
  obtain ⟨H, eH⟩ : ∃ z, z = s.heap := ⟨_, rfl⟩
  obtain ⟨locs, elo⟩ : ∃ z : List Loc, z = [] := ⟨_, rfl⟩
  rw [← eH, ← elo] at hI ⊢
  obtain ⟨cells, slots, hbc, hbs, e0, e1⟩ : ∃ a b : Nat, a ≤ 0 ∧ b ≤ 0 ∧ a = 0 ∧ b = 0 := ⟨0, 0, by omega, by omega, rfl, rfl⟩
  show W p l e ({ frames := 8, cells := 0, slots := 0, locals := 140 } : Room) s m args below meth c H locs 0 0 (MQ below (va_Qi post (ga_E g) (ga_A g)) args s 0 0 (ga_A g)) (F0 m 0 ls [])
  suffices hgoal : W p l e ({ frames := 8, cells := 0, slots := 0, locals := 140 } : Room) s m args below meth c H locs cells slots (MQ below (va_Qi post (ga_E g) (ga_A g)) args s 0 0 (ga_A g)) (F0 m 0 ls []) by rw [e0, e1] at hgoal; exact hgoal
  refine lv_iconst (v := 0) hx hb dX2_ofAisles_0 (by decide) ?_
  refine lv_istore_n (i := 2) (lv' := [(2, .int (0 : Int32)), (0, .ref p0), (1, .int p1)]) hx hb dX2_ofAisles_1 rfl hl (by decide) rfl (fun ls hl => ?_)
  refine lv_aload_n hx hb dX2_ofAisles_2 rfl (lv_at hl 1 rfl) ?_
  obtain ⟨fs_1, v_2, hq, hv, hw⟩ := hw
  refine ga_get (ci := 1) (T := TX2) (v := va_rf v_2) hx hb hts hown hI in_X2 rfl 0 (by decide) q310 (fun _ z => z) (ga_at.h hq) hv dX2_ofAisles_3 ?_
  refine ga_astore_n (i := 3) (x := v_2) (lv' := [(3, va_rf v_2), (2, .int (0 : Int32)), (0, .ref p0), (1, .int p1)]) hx hb dX2_ofAisles_6 rfl hl (by decide) rfl (fun ls hl => ?_)
  refine ga_aload_n hx hb dX2_ofAisles_7 rfl (lv_at hl 0 rfl) ?_
  obtain ⟨a_3, ea_3, hw⟩ := hw
  rewrite [ea_3]
  obtain ⟨n_4, f_5, hq, hw⟩ := hw
  refine ga_len hx hb hI (ga_at.h hq) rfl dX2_ofAisles_8 ?_
  refine lv_istore (lv' := [(4, .int (nI n_4)), (3, va_rf v_2), (2, .int (0 : Int32)), (0, .ref p0), (1, .int p1)]) hx hb dX2_ofAisles_9 hl (by decide) (by simp [ga_rcat, ga_cat_r, ga_cat_i, ga_cat_f, ga_cat_l, ga_cat_d]) (fun ls hl => ?_)
  refine lv_iconst (v := 0) hx hb dX2_ofAisles_11 (by decide) ?_
  refine lv_istore (lv' := [(5, .int (0 : Int32)), (4, .int (nI n_4)), (3, va_rf v_2), (2, .int (0 : Int32)), (0, .ref p0), (1, .int p1)]) hx hb dX2_ofAisles_12 hl (by decide) rfl (fun ls hl => ?_)
  obtain ⟨In_6, mu_6, h0_6, hw⟩ := hw
  have hL_6 : ∀ (n : Nat) (x2_6 : Int32) (x5_6 : Int32) (ls : Array Slot), mu_6 x2_6 x5_6 < n → In_6 x2_6 x5_6 → lv_has ls 7 [(1, .int p1), (2, .int x2_6), (3, va_rf v_2), (4, .int (nI n_4)), (5, .int x5_6)] → W p l e ({ frames := 8, cells := 0, slots := 0, locals := 140 } : Room) s m args below meth c H locs cells slots (MQ below (va_Qi post (ga_E g) (ga_A g)) args s 0 0 (ga_A g)) (F0 m 14 ls []) := by
    intro n
    induction n with
    | zero => intro x2_6 x5_6 ls hn _ _; exact absurd hn (Nat.not_lt_zero _)
    | succ n ih_6 =>
      intro x2_6 x5_6 ls hn_6 hi_6 hl
      have hw := hw x2_6 x5_6 hi_6
      refine lv_iload hx hb dX2_ofAisles_14 (lv_at hl 4 rfl) ?_
      refine lv_iload hx hb dX2_ofAisles_16 (lv_at hl 3 rfl) ?_
      refine lv_icmp_ge (tgt := 66) hx hb dX2_ofAisles_18 (by decide) (fun hc_7 => ?_) (fun hc_7 => ?_)
      · have hw := hw.1 hc_7
        refine lv_iload_n hx hb dX2_ofAisles_66 rfl (lv_at hl 1 rfl) ?_
        exact ga_iret hx hb hr rfl hlk hI hw hbc hbs dX2_ofAisles_67
      · have hw := hw.2 hc_7
        refine ga_aload_n hx hb dX2_ofAisles_21 rfl (lv_at hl 2 rfl) ?_
        refine lv_iload hx hb dX2_ofAisles_22 (lv_at hl 4 rfl) ?_
        obtain ⟨a_8, ea_8, hw⟩ := hw
        rewrite [ea_8]
        obtain ⟨n_9, f_10, hq, hi, hw⟩ := hw
        refine ga_ldq hx hb hI (ga_at.h hq) rfl hi dX2_ofAisles_24 ?_
        obtain ⟨v_11, ev_11⟩ : ∃ z, z = f_10 x5_6.toNatClampNeg := ⟨_, rfl⟩
        rw [← ev_11]
        have hw := hw v_11 ev_11
        refine ga_astore (x := v_11) (lv' := [(6, va_rf v_11), (1, .int p1), (2, .int x2_6), (3, va_rf v_2), (4, .int (nI n_4)), (5, .int x5_6)]) hx hb dX2_ofAisles_25 hl (by decide) rfl (fun ls hl => ?_)
        refine lv_iload_n hx hb dX2_ofAisles_27 rfl (lv_at hl 2 rfl) ?_
        refine lv_iload_n hx hb dX2_ofAisles_28 rfl (lv_at hl 1 rfl) ?_
        refine lv_if_ne (tgt := 40) hx hb dX2_ofAisles_29 (by decide) (fun hc_12 => ?_) (fun hc_12 => ?_)
        · have hw := hw.1 hc_12
          refine lv_iload_n hx hb dX2_ofAisles_40 rfl (lv_at hl 1 rfl) ?_
          refine lv_iconst (v := 1) hx hb dX2_ofAisles_41 (by decide) ?_
          refine lv_icmp_ne (tgt := 53) hx hb dX2_ofAisles_42 (by decide) (fun hc_13 => ?_) (fun hc_13 => ?_)
          · have hw := hw.1 hc_13
            refine ga_aload hx hb dX2_ofAisles_53 (lv_at hl 0 rfl) ?_
            obtain ⟨a_14, ea_14, hw⟩ := hw
            rewrite [ea_14]
            obtain ⟨fs_15, v_16, hq, hv, hw⟩ := hw
            refine ga_getN (ci := 2) (T := TX3) (v := .int v_16) hx hb hts hown hI in_X3 rfl 5 (by decide) q295 (fun _ z => z) (ga_at.h hq) hv dX2_ofAisles_55 ?_
            refine lv_iadd hx hb dX2_ofAisles_58 ?_
            refine lv_istore_n (i := 2) (lv' := [(2, .int (x2_6 + v_16)), (6, va_rf v_11), (1, .int p1), (3, va_rf v_2), (4, .int (nI n_4)), (5, .int x5_6)]) hx hb dX2_ofAisles_59 rfl hl (by decide) rfl (fun ls hl => ?_)
            refine lv_iinc (v := x5_6 + (1 : Int32)) (lv' := [(5, .int (x5_6 + (1 : Int32))), (2, .int (x2_6 + v_16)), (6, va_rf v_11), (1, .int p1), (3, va_rf v_2), (4, .int (nI n_4))]) hx hb dX2_ofAisles_60 hl (k := 5) rfl rfl (by decide) rfl (fun ls hl => ?_)
            refine lv_goto (tgt := 14) hx hb dX2_ofAisles_63 (by decide) ?_
            exact ih_6 _ _ ls (Nat.lt_of_lt_of_le hw.2 (Nat.le_of_lt_succ hn_6)) hw.1 (lv_sub hl [3, 1, 4, 5, 0] rfl)
          · have hw := hw.2 hc_13
            refine ga_aload hx hb dX2_ofAisles_45 (lv_at hl 0 rfl) ?_
            obtain ⟨a_17, ea_17, hw⟩ := hw
            rewrite [ea_17]
            obtain ⟨fs_18, v_19, hq, hv, hw⟩ := hw
            refine ga_getN (ci := 2) (T := TX3) (v := .int v_19) hx hb hts hown hI in_X3 rfl 2 (by decide) q286 (fun _ z => z) (ga_at.h hq) hv dX2_ofAisles_47 ?_
            refine lv_goto (tgt := 58) hx hb dX2_ofAisles_50 (by decide) ?_
            refine lv_iadd hx hb dX2_ofAisles_58 ?_
            refine lv_istore_n (i := 2) (lv' := [(2, .int (x2_6 + v_19)), (6, va_rf v_11), (1, .int p1), (3, va_rf v_2), (4, .int (nI n_4)), (5, .int x5_6)]) hx hb dX2_ofAisles_59 rfl hl (by decide) rfl (fun ls hl => ?_)
            refine lv_iinc (v := x5_6 + (1 : Int32)) (lv' := [(5, .int (x5_6 + (1 : Int32))), (2, .int (x2_6 + v_19)), (6, va_rf v_11), (1, .int p1), (3, va_rf v_2), (4, .int (nI n_4))]) hx hb dX2_ofAisles_60 hl (k := 5) rfl rfl (by decide) rfl (fun ls hl => ?_)
            refine lv_goto (tgt := 14) hx hb dX2_ofAisles_63 (by decide) ?_
            exact ih_6 _ _ ls (Nat.lt_of_lt_of_le hw.2 (Nat.le_of_lt_succ hn_6)) hw.1 (lv_sub hl [3, 1, 4, 5, 0] rfl)
        · have hw := hw.2 hc_12
          refine ga_aload hx hb dX2_ofAisles_32 (lv_at hl 0 rfl) ?_
          obtain ⟨a_20, ea_20, hw⟩ := hw
          rewrite [ea_20]
          obtain ⟨fs_21, v_22, hq, hv, hw⟩ := hw
          refine ga_getN (ci := 2) (T := TX3) (v := .int v_22) hx hb hts hown hI in_X3 rfl 4 (by decide) q292 (fun _ z => z) (ga_at.h hq) hv dX2_ofAisles_34 ?_
          refine lv_goto (tgt := 58) hx hb dX2_ofAisles_37 (by decide) ?_
          refine lv_iadd hx hb dX2_ofAisles_58 ?_
          refine lv_istore_n (i := 2) (lv' := [(2, .int (x2_6 + v_22)), (6, va_rf v_11), (1, .int p1), (3, va_rf v_2), (4, .int (nI n_4)), (5, .int x5_6)]) hx hb dX2_ofAisles_59 rfl hl (by decide) rfl (fun ls hl => ?_)
          refine lv_iinc (v := x5_6 + (1 : Int32)) (lv' := [(5, .int (x5_6 + (1 : Int32))), (2, .int (x2_6 + v_22)), (6, va_rf v_11), (1, .int p1), (3, va_rf v_2), (4, .int (nI n_4))]) hx hb dX2_ofAisles_60 hl (k := 5) rfl rfl (by decide) rfl (fun ls hl => ?_)
          refine lv_goto (tgt := 14) hx hb dX2_ofAisles_63 (by decide) ?_
          exact ih_6 _ _ ls (Nat.lt_of_lt_of_le hw.2 (Nat.le_of_lt_succ hn_6)) hw.1 (lv_sub hl [3, 1, 4, 5, 0] rfl)
  exact hL_6 _ _ _ ls (Nat.lt_succ_self _) h0_6 (lv_sub hl [5, 3, 2, 1, 0] rfl)
theorem hdG_X2_ofAisles : yX2_ofAisles.cls ≠ "java/lang/invoke/MethodHandle" ∧ yX2_ofAisles.cls ≠ "java/lang/invoke/VarHandle" ∧ (parseMethodDescriptor yX2_ofAisles.desc).map (fun d => d.parameters.length) = some 1 := by decide +kernel
def gw_X1_eatenShare (K : ga_K) (p0 : Nat) (h : ga_H) (mc ms : Nat) (post : UInt64 → ga_H → Prop) (xp : String → Nat → ga_H → Prop) : Prop :=
  ∃ (fs_1 : List Value) (v_2 : Option Nat), h p0 = some (ga_O 0 fs_1) ∧ fs_1[0]? = some (va_rf v_2) ∧ (∃ a_3 : Nat, v_2 = some a_3 ∧ ∃ (fs_4 : List Value) (v_5 : Option Nat), h a_3 = some (ga_O 1 fs_4) ∧ fs_4[4]? = some (va_rf v_5) ∧ (∃ a_6 : Nat, v_5 = some a_6 ∧ ∃ fs_7 : List Value, ga_at K h a_6 (ga_O 13 fs_7) ∧ gw_J2_size K a_6 h (fun (r_9 : Int32) (h_8 : ga_H) => ∃ kc_10 ks_11 : Nat, kc_10 ≤ mc ∧ ks_11 ≤ ms ∧ gw_X1_checkCount K ((20 : Int32) * r_9) h_8 kc_10 ks_11 (fun (h_12 : ga_H) => ∃ (fs_16 : List Value) (v_17 : Option Nat), h_12 p0 = some (ga_O 0 fs_16) ∧ fs_16[0]? = some (va_rf v_17) ∧ (∃ a_18 : Nat, v_17 = some a_18 ∧ ∃ fs_19 : List Value, ga_at K h_12 a_18 (ga_O 1 fs_19) ∧ gw_X2_ofAisles K a_18 (0 : Int32) h_12 (fun (r_21 : Int32) (h_20 : ga_H) => vf_n64 (FP.ddiv (FP.i2d r_21) (FP.i2d ((20 : Int32) * r_9))) ∧ (post (FP.ddiv (FP.i2d r_21) (FP.i2d ((20 : Int32) * r_9))) h_20)))) (fun (E_13 : String) (q_14 : Nat) (h_15 : ga_H) => xp E_13 q_14 h_15))))
set_option maxHeartbeats 4000000 in
theorem gm_X1_eatenShare (l : Launch) (hst : l.stackTraces = false) (g : ga_G) (p0 : Nat) (h : ga_H) (mc ms : Nat) (post : UInt64 → ga_H → Prop) (xp : String → Nat → ga_H → Prop) (hw : gw_X1_eatenShare g.2.2 p0 h mc ms post xp) : vx_Met l yX1_eatenShare (ws_ yX1_eatenShare cX1_eatenShare 2 (some .double)) ({ frames := 9, cells := mc, slots := ms, locals := 166 } : Room) (va_Pc [.ref p0] (ga_B g h)) (va_Qd post (ga_E g) (ga_A g)) (ga_X g xp) mc ms (ga_A g) := by
  refine ga_metx (own := "PaperStore") (nm := "eatenShare") (by decide) rfl rfl (by exact Nat.le_of_ble_eq_true rfl) (fun p e s m below meth c ls hC htab hI hl => ?_)
  have hl : lv_has ls 2 [(0, .ref p0)] := hl
  generalize ([.ref p0] : List Value).toArray = args at hC ⊢
  obtain ⟨hx, hb, hml, hown, hts, hr, hlk, hnm⟩ := hC
  unfold gw_X1_eatenShare at hw
  obtain ⟨H, eH⟩ : ∃ z, z = s.heap := ⟨_, rfl⟩
  obtain ⟨locs, elo⟩ : ∃ z : List Loc, z = [] := ⟨_, rfl⟩
  rw [← eH, ← elo] at hI ⊢
  obtain ⟨cells, slots, hbc, hbs, e0, e1⟩ : ∃ a b : Nat, a + mc ≤ mc ∧ b + ms ≤ ms ∧ a = 0 ∧ b = 0 := ⟨0, 0, by omega, by omega, rfl, rfl⟩
  show W p l e ({ frames := 9, cells := mc, slots := ms, locals := 166 } : Room) s m args below meth c H locs 0 0 (vx_MQ below (va_Qd post (ga_E g) (ga_A g)) (ga_X g xp) args s mc ms (ga_A g)) (F0 m 0 ls [])
  suffices hgoal : W p l e ({ frames := 9, cells := mc, slots := ms, locals := 166 } : Room) s m args below meth c H locs cells slots (vx_MQ below (va_Qd post (ga_E g) (ga_A g)) (ga_X g xp) args s mc ms (ga_A g)) (F0 m 0 ls []) by rw [e0, e1] at hgoal; exact hgoal
  refine lv_bipush (v := 20) hx hb dX1_eatenShare_0 (by decide) ?_
  refine lv_aload_n hx hb dX1_eatenShare_2 rfl (lv_at hl 0 rfl) ?_
  obtain ⟨fs_1, v_2, hq, hv, hw⟩ := hw
  refine ga_get (ci := 0) (T := TX1) (v := va_rf v_2) hx hb hts hown hI in_X1 rfl 0 (by decide) q387 (fun _ z => z) (ga_at.h hq) hv dX1_eatenShare_3 ?_
  obtain ⟨a_3, ea_3, hw⟩ := hw
  rewrite [ea_3]
  obtain ⟨fs_4, v_5, hq, hv, hw⟩ := hw
  refine ga_getN (ci := 1) (T := TX2) (v := va_rf v_5) hx hb hts hown hI in_X2 rfl 4 (by decide) q319 (fun _ z => z) (ga_at.h hq) hv dX1_eatenShare_6 ?_
  obtain ⟨a_6, ea_6, hw⟩ := hw
  rewrite [ea_6]
  obtain ⟨fs_7, hq, hw⟩ := hw
  refine ga_calli (va_runV (As := []) (rest := [.int (20 : Int32)]) ⟨hx, hb, hml, hown, hts⟩ (gm_J2_size l g a_6 h _ hw) (cwV 0 hts (lw_V q1240 q536 q4117 q104 q537) rfl rfl rfl ⟨rfl, hdG_J2_size⟩ ⟨Nat.le_of_ble_eq_true rfl, Nat.le_of_ble_eq_true rfl⟩) (ga_preV hI hq rfl rfl) rfl rfl hl.1 rfl (ga_room (Nat.le_of_ble_eq_true rfl)) dX1_eatenShare_9 ⟨Nat.le_trans (Nat.add_le_add_left (Nat.zero_le _) _) hbc, Nat.le_trans (Nat.add_le_add_left (Nat.zero_le _) _) hbs⟩) hI hbc hbs (Nat.zero_le _) (Nat.zero_le _) (fun r_9 h_8 H locs cells slots hw hI hbc hbs => ?_)
  refine lv_imul hx hb dX1_eatenShare_12 ?_
  refine lv_istore_n (i := 1) (lv' := [(1, .int ((20 : Int32) * r_9)), (0, .ref p0)]) hx hb dX1_eatenShare_13 rfl hl (by decide) rfl (fun ls hl => ?_)
  refine lv_iload_n hx hb dX1_eatenShare_14 rfl (lv_at hl 0 rfl) ?_
  obtain ⟨kc_10, ks_11, hk1, hk2, hw⟩ := hw
  refine ga_xcallv (vx_runS (As := [.int ((20 : Int32) * r_9)]) (rest := []) ⟨hx, hb, hml, hown, hts⟩ (gm_X1_checkCount l hst g ((20 : Int32) * r_9) h_8 kc_10 ks_11 _ _ hw) (va_cwS 1 hts (lw_S q2775 q2776 q100 q2777) rfl rfl rfl hdG_X1_checkCount ⟨Nat.le_of_ble_eq_true rfl, Nat.le_of_ble_eq_true rfl⟩) (ga_preS hI rfl) rfl rfl hl.1 rfl (ga_room (Nat.le_of_ble_eq_true rfl)) dX1_eatenShare_15 ⟨Nat.le_trans (Nat.add_le_add_left hk1 _) hbc, Nat.le_trans (Nat.add_le_add_left hk2 _) hbs⟩) hI hbc hbs hk1 hk2 (fun E_13 q_14 h_15 ce H locs cells slots hw hI hce hbc hbs => ?_) (fun h_12 H locs cells slots hw hI hbc hbs => ?_)
  · exact ga_out hown hlk hI hw (by rw [htab]; intro z hz; cases hz) hce (Nat.le_trans (Nat.le_add_right _ _) hbc) (Nat.le_trans (Nat.le_add_right _ _) hbs)
  · skip
    refine lv_aload_n hx hb dX1_eatenShare_18 rfl (lv_at hl 1 rfl) ?_
    obtain ⟨fs_16, v_17, hq, hv, hw⟩ := hw
    refine ga_get (ci := 0) (T := TX1) (v := va_rf v_17) hx hb hts hown hI in_X1 rfl 0 (by decide) q387 (fun _ z => z) (ga_at.h hq) hv dX1_eatenShare_19 ?_
    refine lv_iconst (v := 0) hx hb dX1_eatenShare_22 (by decide) ?_
    obtain ⟨a_18, ea_18, hw⟩ := hw
    rewrite [ea_18]
    obtain ⟨fs_19, hq, hw⟩ := hw
    refine ga_calli (va_runV (As := [.int (0 : Int32)]) (rest := []) ⟨hx, hb, hml, hown, hts⟩ (gm_X2_ofAisles l g a_18 (0 : Int32) h_12 _ hw) (cwV 1 hts (lw_V q1251 q1252 q1253 q101 q1254) rfl rfl rfl ⟨rfl, hdG_X2_ofAisles⟩ ⟨Nat.le_of_ble_eq_true rfl, Nat.le_of_ble_eq_true rfl⟩) (ga_preV hI hq rfl rfl) rfl rfl hl.1 rfl (ga_room (Nat.le_of_ble_eq_true rfl)) dX1_eatenShare_23 ⟨Nat.le_trans (Nat.add_le_add_left (Nat.zero_le _) _) hbc, Nat.le_trans (Nat.add_le_add_left (Nat.zero_le _) _) hbs⟩) hI hbc hbs (Nat.zero_le _) (Nat.zero_le _) (fun r_21 h_20 H locs cells slots hw hI hbc hbs => ?_)
    refine lv_i2d hx hb dX1_eatenShare_26 ?_
    refine lv_iload_n hx hb dX1_eatenShare_27 rfl (lv_at hl 0 rfl) ?_
    refine lv_i2d hx hb dX1_eatenShare_28 ?_
    refine lv_ddiv hx hb dX1_eatenShare_29 hw.1 ?_
    have hw := hw.2
    exact ga_dretx hx hb hr hlk hI hw (Nat.le_trans (Nat.le_add_right _ _) hbc) (Nat.le_trans (Nat.le_add_right _ _) hbs) dX1_eatenShare_30
theorem hdG_X1_eatenShare : yX1_eatenShare.cls ≠ "java/lang/invoke/MethodHandle" ∧ yX1_eatenShare.cls ≠ "java/lang/invoke/VarHandle" ∧ (parseMethodDescriptor yX1_eatenShare.desc).map (fun d => d.parameters.length) = some 0 := by decide +kernel
def gw_X0_eatenShare (K : ga_K) (p0 : Option Nat) (p1 : Option Nat) (h : ga_H) (mc ms : Nat) (post : Int32 → ga_H → Prop) (xp : String → Nat → ga_H → Prop) : Prop :=
  ∃ a_1 : Nat, p0 = some a_1 ∧ ∃ kc_2 ks_3 : Nat, kc_2 ≤ mc ∧ ks_3 ≤ ms ∧ ∃ fs_4 : List Value, ga_at K h a_1 (ga_O 0 fs_4) ∧ gw_X1_eatenShare K a_1 h kc_2 ks_3 (fun (r_6 : UInt64) (h_5 : ga_H) => ∃ a_10 : Nat, p1 = some a_10 ∧ ∃ (n_11 : Nat) (f_12 : Nat → UInt64), h_5 a_10 = some (ga_Ad n_11 f_12) ∧ vp_in (0 : Int32) n_11 ∧ ∀ h_13 : ga_H, h_13 = ga_set h_5 a_10 (ga_Ad n_11 (vf_upd f_12 (0 : Int32).toNatClampNeg r_6)) → (post (0 : Int32) h_13)) (fun (E_7 : String) (q_8 : Nat) (h_9 : ga_H) => (E_7 = "java/lang/ArithmeticException" ∧ (post (1 : Int32) h_9)))
set_option maxHeartbeats 4000000 in
theorem gm_X0_eatenShare (l : Launch) (hst : l.stackTraces = false) (g : ga_G) (p0 : Option Nat) (p1 : Option Nat) (h : ga_H) (mc ms : Nat) (post : Int32 → ga_H → Prop) (xp : String → Nat → ga_H → Prop) (hw : gw_X0_eatenShare g.2.2 p0 p1 h mc ms post xp) : vx_Met l yX0_eatenShare (wsW_ yX0_eatenShare cX0_eatenShare 3 (some .int) [(0, 7, 10, 113)]) ({ frames := 10, cells := mc, slots := ms, locals := 187 } : Room) (va_Pc [va_rf p0, va_rf p1] (ga_B g h)) (va_Qi post (ga_E g) (ga_A g)) (ga_X g xp) mc ms (ga_A g) := by
  refine ga_metxW (own := "PaperStoreLaw") (nm := "eatenShare") (by decide) rfl rfl (by cases p0 <;> cases p1 <;> exact Nat.le_of_ble_eq_true rfl) (fun p e s m below meth c ls hC htab hI hl => ?_)
  have hl : lv_has ls 3 [(0, va_rf p0), (1, va_rf p1)] := (by cases p0 <;> cases p1 <;> exact hl)
  generalize ([va_rf p0, va_rf p1] : List Value).toArray = args at hC ⊢
  obtain ⟨hx, hb, hml, hown, hts, hr, hlk, hnm⟩ := hC
  unfold gw_X0_eatenShare at hw
  obtain ⟨H, eH⟩ : ∃ z, z = s.heap := ⟨_, rfl⟩
  obtain ⟨locs, elo⟩ : ∃ z : List Loc, z = [] := ⟨_, rfl⟩
  rw [← eH, ← elo] at hI ⊢
  obtain ⟨cells, slots, hbc, hbs, e0, e1⟩ : ∃ a b : Nat, a + mc ≤ mc ∧ b + ms ≤ ms ∧ a = 0 ∧ b = 0 := ⟨0, 0, by omega, by omega, rfl, rfl⟩
  show W p l e ({ frames := 10, cells := mc, slots := ms, locals := 187 } : Room) s m args below meth c H locs 0 0 (vx_MQ below (va_Qi post (ga_E g) (ga_A g)) (ga_X g xp) args s mc ms (ga_A g)) (F0 m 0 ls [])
  suffices hgoal : W p l e ({ frames := 10, cells := mc, slots := ms, locals := 187 } : Room) s m args below meth c H locs cells slots (vx_MQ below (va_Qi post (ga_E g) (ga_A g)) (ga_X g xp) args s mc ms (ga_A g)) (F0 m 0 ls []) by rw [e0, e1] at hgoal; exact hgoal
  refine ga_aload_n hx hb dX0_eatenShare_0 rfl (lv_at hl 1 rfl) ?_
  refine lv_iconst (v := 0) hx hb dX0_eatenShare_1 (by decide) ?_
  refine ga_aload_n hx hb dX0_eatenShare_2 rfl (lv_at hl 0 rfl) ?_
  obtain ⟨a_1, ea_1, hw⟩ := hw
  rewrite [ea_1]
  obtain ⟨kc_2, ks_3, hk1, hk2, hw⟩ := hw
  obtain ⟨fs_4, hq, hw⟩ := hw
  refine ga_xcalld (vx_runV (As := []) (rest := [.int (0 : Int32), va_rf p1]) ⟨hx, hb, hml, hown, hts⟩ (gm_X1_eatenShare l hst g a_1 h kc_2 ks_3 _ _ hw) (cwV 0 hts (lw_V q2786 q2787 q2788 q100 q2789) rfl rfl rfl ⟨rfl, hdG_X1_eatenShare⟩ ⟨Nat.le_of_ble_eq_true rfl, Nat.le_of_ble_eq_true rfl⟩) (ga_preV hI hq rfl rfl) rfl rfl hl.1 rfl (ga_room (Nat.le_of_ble_eq_true rfl)) dX0_eatenShare_3 ⟨Nat.le_trans (Nat.add_le_add_left hk1 _) hbc, Nat.le_trans (Nat.add_le_add_left hk2 _) hbs⟩) hI hbc hbs hk1 hk2 (fun E_7 q_8 h_9 ce H locs cells slots hw hI hce hbc hbs => ?_) (fun r_6 h_5 H locs cells slots hw hI hbc hbs => ?_)
  · obtain ⟨rfl, hw⟩ := hw
    refine ga_catch hown hts hI ([]) (⟨0, 7, 10, 113⟩) ([]) (by rw [htab]; rfl) (fun _ h => absurd h List.not_mem_nil) rfl (by decide) q2757 q2769 hce ?_
    refine W.eq (g2 := F0 m 10 ls [.ref q_8]) rfl ?_
    refine lv_astore_n (i := 2) (lv' := [(2, .ref q_8), (0, va_rf p0), (1, va_rf p1)]) hx hb dX0_eatenShare_10 rfl hl (by decide) (by simp [ga_rcat, ga_cat_r, ga_cat_i, ga_cat_f, ga_cat_l, ga_cat_d]) (fun ls hl => ?_)
    refine lv_iconst (v := 1) hx hb dX0_eatenShare_11 (by decide) ?_
    exact ga_iretx hx hb hr rfl hlk hI hw (Nat.le_trans (Nat.le_add_right _ _) hbc) (Nat.le_trans (Nat.le_add_right _ _) hbs) dX0_eatenShare_12
  · skip
    obtain ⟨a_10, ea_10, hw⟩ := hw
    rewrite [ea_10]
    obtain ⟨n_11, f_12, hq, hi, hw⟩ := hw
    refine ga_std hx hb hI hq hi dX0_eatenShare_6 (fun H locs hI => ?_)
    obtain ⟨h_13, eh_13⟩ : ∃ z, z = ga_set h_5 a_10 (ga_Ad n_11 (vf_upd f_12 (0 : Int32).toNatClampNeg r_6)) := ⟨_, rfl⟩
    rw [← eh_13] at hI
    have hw := hw h_13 eh_13
    refine lv_goto (tgt := 13) hx hb dX0_eatenShare_7 (by decide) ?_
    refine lv_iconst (v := 0) hx hb dX0_eatenShare_13 (by decide) ?_
    exact ga_iretx hx hb hr rfl hlk hI hw (Nat.le_trans (Nat.le_add_right _ _) hbc) (Nat.le_trans (Nat.le_add_right _ _) hbs) dX0_eatenShare_14
theorem hdG_X0_eatenShare : yX0_eatenShare.cls ≠ "java/lang/invoke/MethodHandle" ∧ yX0_eatenShare.cls ≠ "java/lang/invoke/VarHandle" ∧ (parseMethodDescriptor yX0_eatenShare.desc).map (fun d => d.parameters.length) = some 2 := by decide +kernel
def gw_X2_quires (K : ga_K) (p0 : Nat) (h : ga_H) (mc ms : Nat) (post : Int32 → ga_H → Prop) : Prop :=
  ∃ (fs_1 : List Value) (v_2 : Option Nat), h p0 = some (ga_O 1 fs_1) ∧ fs_1[0]? = some (va_rf v_2) ∧ (∃ a_3 : Nat, v_2 = some a_3 ∧ ∃ (n_4 : Nat) (f_5 : Nat → Option Nat), h a_3 = some (ga_Aq 6 n_4 f_5) ∧ (∃ (In_6 : Int32 → Int32 → ga_H → Nat → Nat → Prop) (mu_6 : Int32 → Int32 → ga_H → Nat → Nat → Nat), In_6 (0 : Int32) (0 : Int32) h mc ms ∧ ∀ (x1_6 : Int32) (x4_6 : Int32) (h_6 : ga_H) (bc_6 : Nat) (bs_6 : Nat), In_6 x1_6 x4_6 h_6 bc_6 bs_6 → ((nI n_4 ≤ x4_6 → (post x1_6 h_6)) ∧ (¬ nI n_4 ≤ x4_6 → (∃ a_8 : Nat, v_2 = some a_8 ∧ ∃ (n_9 : Nat) (f_10 : Nat → Option Nat), h_6 a_8 = some (ga_Aq 6 n_9 f_10) ∧ vp_in x4_6 n_9 ∧ ∀ v_11 : Option Nat, v_11 = f_10 x4_6.toNatClampNeg → (∃ a_12 : Nat, v_11 = some a_12 ∧ ∃ kc_13 ks_14 : Nat, kc_13 ≤ bc_6 ∧ ks_14 ≤ bs_6 ∧ ∃ fs_15 : List Value, ga_at K h_6 a_12 (ga_O 2 fs_15) ∧ gw_X3_quires K a_12 h_6 kc_13 ks_14 (fun (r_17 : Int32) (h_16 : ga_H) => In_6 (x1_6 + r_17) (x4_6 + (1 : Int32)) h_16 (bc_6 - kc_13) (bs_6 - ks_14) ∧ mu_6 (x1_6 + r_17) (x4_6 + (1 : Int32)) h_16 (bc_6 - kc_13) (bs_6 - ks_14) < mu_6 x1_6 x4_6 h_6 bc_6 bs_6)))))))
set_option maxHeartbeats 4000000 in
theorem gm_X2_quires (l : Launch) (g : ga_G) (p0 : Nat) (h : ga_H) (mc ms : Nat) (post : Int32 → ga_H → Prop) (hw : gw_X2_quires g.2.2 p0 h mc ms post) : Met l yX2_quires (ws_ yX2_quires cX2_quires 6 (some .int)) ({ frames := 14, cells := mc, slots := ms, locals := 280 } : Room) (va_Pc [.ref p0] (ga_B g h)) (va_Qi post (ga_E g) (ga_A g)) mc ms (ga_A g) := by
  refine ga_met (own := "PaperStore$Store") (nm := "quires") (by decide) rfl rfl (by exact Nat.le_of_ble_eq_true rfl) (fun p e s m below meth c ls hC hI hl => ?_)
  have hl : lv_has ls 6 [(0, .ref p0)] := hl
  generalize ([.ref p0] : List Value).toArray = args at hC ⊢
  obtain ⟨hx, hb, hml, hown, hts, hr, hlk, hnm⟩ := hC
  unfold gw_X2_quires at hw
  obtain ⟨H, eH⟩ : ∃ z, z = s.heap := ⟨_, rfl⟩
  obtain ⟨locs, elo⟩ : ∃ z : List Loc, z = [] := ⟨_, rfl⟩
  rw [← eH, ← elo] at hI ⊢
  obtain ⟨cells, slots, hbc, hbs, e0, e1⟩ : ∃ a b : Nat, a + mc ≤ mc ∧ b + ms ≤ ms ∧ a = 0 ∧ b = 0 := ⟨0, 0, by omega, by omega, rfl, rfl⟩
  show W p l e ({ frames := 14, cells := mc, slots := ms, locals := 280 } : Room) s m args below meth c H locs 0 0 (MQ below (va_Qi post (ga_E g) (ga_A g)) args s mc ms (ga_A g)) (F0 m 0 ls [])
  suffices hgoal : W p l e ({ frames := 14, cells := mc, slots := ms, locals := 280 } : Room) s m args below meth c H locs cells slots (MQ below (va_Qi post (ga_E g) (ga_A g)) args s mc ms (ga_A g)) (F0 m 0 ls []) by rw [e0, e1] at hgoal; exact hgoal
  refine lv_iconst (v := 0) hx hb dX2_quires_0 (by decide) ?_
  refine lv_istore_n (i := 1) (lv' := [(1, .int (0 : Int32)), (0, .ref p0)]) hx hb dX2_quires_1 rfl hl (by decide) rfl (fun ls hl => ?_)
  refine lv_aload_n hx hb dX2_quires_2 rfl (lv_at hl 1 rfl) ?_
  obtain ⟨fs_1, v_2, hq, hv, hw⟩ := hw
  refine ga_get (ci := 1) (T := TX2) (v := va_rf v_2) hx hb hts hown hI in_X2 rfl 0 (by decide) q310 (fun _ z => z) (ga_at.h hq) hv dX2_quires_3 ?_
  refine ga_astore_n (i := 2) (x := v_2) (lv' := [(2, va_rf v_2), (1, .int (0 : Int32)), (0, .ref p0)]) hx hb dX2_quires_6 rfl hl (by decide) rfl (fun ls hl => ?_)
  refine ga_aload_n hx hb dX2_quires_7 rfl (lv_at hl 0 rfl) ?_
  obtain ⟨a_3, ea_3, hw⟩ := hw
  rewrite [ea_3]
  obtain ⟨n_4, f_5, hq, hw⟩ := hw
  refine ga_len hx hb hI (ga_at.h hq) rfl dX2_quires_8 ?_
  refine lv_istore_n (i := 3) (lv' := [(3, .int (nI n_4)), (2, va_rf v_2), (1, .int (0 : Int32)), (0, .ref p0)]) hx hb dX2_quires_9 rfl hl (by decide) (by simp [ga_rcat, ga_cat_r, ga_cat_i, ga_cat_f, ga_cat_l, ga_cat_d]) (fun ls hl => ?_)
  refine lv_iconst (v := 0) hx hb dX2_quires_10 (by decide) ?_
  refine lv_istore (lv' := [(4, .int (0 : Int32)), (3, .int (nI n_4)), (2, va_rf v_2), (1, .int (0 : Int32)), (0, .ref p0)]) hx hb dX2_quires_11 hl (by decide) rfl (fun ls hl => ?_)
  obtain ⟨In_6, mu_6, h0_6, hw⟩ := hw
  have hL_6 : ∀ (n : Nat) (x1_6 : Int32) (x4_6 : Int32) (h_6 : ga_H) (bc_6 : Nat) (bs_6 : Nat) (H : Heap) (locs : List Loc) (cells slots : Nat) (ls : Array Slot), mu_6 x1_6 x4_6 h_6 bc_6 bs_6 < n → In_6 x1_6 x4_6 h_6 bc_6 bs_6 → ga_I g h_6 s H locs → cells + bc_6 ≤ mc → slots + bs_6 ≤ ms → lv_has ls 6 [(1, .int x1_6), (2, va_rf v_2), (3, .int (nI n_4)), (4, .int x4_6)] → W p l e ({ frames := 14, cells := mc, slots := ms, locals := 280 } : Room) s m args below meth c H locs cells slots (MQ below (va_Qi post (ga_E g) (ga_A g)) args s mc ms (ga_A g)) (F0 m 13 ls []) := by
    intro n
    induction n with
    | zero => intro x1_6 x4_6 h_6 bc_6 bs_6 H locs cells slots ls hn _ _ _ _ _; exact absurd hn (Nat.not_lt_zero _)
    | succ n ih_6 =>
      intro x1_6 x4_6 h_6 bc_6 bs_6 H locs cells slots ls hn_6 hi_6 hI hbc hbs hl
      have hw := hw x1_6 x4_6 h_6 bc_6 bs_6 hi_6
      refine lv_iload hx hb dX2_quires_13 (lv_at hl 3 rfl) ?_
      refine lv_iload_n hx hb dX2_quires_15 rfl (lv_at hl 2 rfl) ?_
      refine lv_icmp_ge (tgt := 39) hx hb dX2_quires_16 (by decide) (fun hc_7 => ?_) (fun hc_7 => ?_)
      · have hw := hw.1 hc_7
        refine lv_iload_n hx hb dX2_quires_39 rfl (lv_at hl 0 rfl) ?_
        exact ga_iret hx hb hr rfl hlk hI hw (Nat.le_trans (Nat.le_add_right _ _) hbc) (Nat.le_trans (Nat.le_add_right _ _) hbs) dX2_quires_40
      · have hw := hw.2 hc_7
        refine ga_aload_n hx hb dX2_quires_19 rfl (lv_at hl 1 rfl) ?_
        refine lv_iload hx hb dX2_quires_20 (lv_at hl 3 rfl) ?_
        obtain ⟨a_8, ea_8, hw⟩ := hw
        rewrite [ea_8]
        obtain ⟨n_9, f_10, hq, hi, hw⟩ := hw
        refine ga_ldq hx hb hI (ga_at.h hq) rfl hi dX2_quires_22 ?_
        obtain ⟨v_11, ev_11⟩ : ∃ z, z = f_10 x4_6.toNatClampNeg := ⟨_, rfl⟩
        rw [← ev_11]
        have hw := hw v_11 ev_11
        refine ga_astore (x := v_11) (lv' := [(5, va_rf v_11), (1, .int x1_6), (2, va_rf v_2), (3, .int (nI n_4)), (4, .int x4_6)]) hx hb dX2_quires_23 hl (by decide) rfl (fun ls hl => ?_)
        refine lv_iload_n hx hb dX2_quires_25 rfl (lv_at hl 1 rfl) ?_
        refine ga_aload hx hb dX2_quires_26 (lv_at hl 0 rfl) ?_
        obtain ⟨a_12, ea_12, hw⟩ := hw
        rewrite [ea_12]
        obtain ⟨kc_13, ks_14, hk1, hk2, hw⟩ := hw
        obtain ⟨fs_15, hq, hw⟩ := hw
        refine ga_calli (va_runV (As := []) (rest := [.int x1_6]) ⟨hx, hb, hml, hown, hts⟩ (gm_X3_quires l g a_12 h_6 kc_13 ks_14 _ hw) (cwV 0 hts (lw_V q2400 q2348 q2349 q107 q2350) rfl rfl rfl ⟨rfl, hdG_X3_quires⟩ ⟨Nat.le_of_ble_eq_true rfl, Nat.le_of_ble_eq_true rfl⟩) (ga_preV hI hq rfl rfl) rfl rfl hl.1 rfl (ga_room (Nat.le_of_ble_eq_true rfl)) dX2_quires_28 ⟨Nat.le_trans (Nat.add_le_add_left hk1 _) hbc, Nat.le_trans (Nat.add_le_add_left hk2 _) hbs⟩) hI hbc hbs hk1 hk2 (fun r_17 h_16 H locs cells slots hw hI hbc hbs => ?_)
        refine lv_iadd hx hb dX2_quires_31 ?_
        refine lv_istore_n (i := 1) (lv' := [(1, .int (x1_6 + r_17)), (5, va_rf v_11), (2, va_rf v_2), (3, .int (nI n_4)), (4, .int x4_6)]) hx hb dX2_quires_32 rfl hl (by decide) rfl (fun ls hl => ?_)
        refine lv_iinc (v := x4_6 + (1 : Int32)) (lv' := [(4, .int (x4_6 + (1 : Int32))), (1, .int (x1_6 + r_17)), (5, va_rf v_11), (2, va_rf v_2), (3, .int (nI n_4))]) hx hb dX2_quires_33 hl (k := 4) rfl rfl (by decide) rfl (fun ls hl => ?_)
        refine lv_goto (tgt := 13) hx hb dX2_quires_36 (by decide) ?_
        exact ih_6 _ _ _ _ _ H locs cells slots ls (Nat.lt_of_lt_of_le hw.2 (Nat.le_of_lt_succ hn_6)) hw.1 hI hbc hbs (lv_sub hl [1, 3, 4, 0] rfl)
  exact hL_6 _ _ _ _ _ _ H locs cells slots ls (Nat.lt_succ_self _) h0_6 hI hbc hbs (lv_sub hl [3, 2, 1, 0] rfl)
theorem hdG_X2_quires : yX2_quires.cls ≠ "java/lang/invoke/MethodHandle" ∧ yX2_quires.cls ≠ "java/lang/invoke/VarHandle" ∧ (parseMethodDescriptor yX2_quires.desc).map (fun d => d.parameters.length) = some 0 := by decide +kernel
def gw_X1_wavy (K : ga_K) (p0 : Nat) (h : ga_H) (mc ms : Nat) (post : Int32 → ga_H → Prop) : Prop :=
  ∃ (fs_1 : List Value) (v_2 : Option Nat), h p0 = some (ga_O 0 fs_1) ∧ fs_1[0]? = some (va_rf v_2) ∧ (∃ a_3 : Nat, v_2 = some a_3 ∧ ∃ kc_4 ks_5 : Nat, kc_4 ≤ mc ∧ ks_5 ≤ ms ∧ ∃ fs_6 : List Value, ga_at K h a_3 (ga_O 1 fs_6) ∧ gw_X2_lying K a_3 h kc_4 ks_5 (fun (r_8 : Option Nat) (h_7 : ga_H) => ∃ a_9 : Nat, r_8 = some a_9 ∧ ∃ kc_10 ks_11 : Nat, kc_10 ≤ (mc - kc_4) ∧ ks_11 ≤ (ms - ks_5) ∧ ∃ fs_12 : List Value, ga_at K h_7 a_9 (ga_O 13 fs_12) ∧ gw_J2_iterator K a_9 h_7 kc_10 ks_11 (fun (r_14 : Option Nat) (h_13 : ga_H) => ∃ (In_15 : Int32 → ga_H → Nat → Nat → Prop) (mu_15 : Int32 → ga_H → Nat → Nat → Nat), In_15 (0 : Int32) h_13 ((mc - kc_4) - kc_10) ((ms - ks_5) - ks_11) ∧ ∀ (x1_15 : Int32) (h_15 : ga_H) (bc_15 : Nat) (bs_15 : Nat), In_15 x1_15 h_15 bc_15 bs_15 → (∃ a_16 : Nat, r_14 = some a_16 ∧ ∃ fs_17 : List Value, ga_at K h_15 a_16 (ga_O 14 fs_17) ∧ gw_J16_hasNext K a_16 h_15 (fun (r_19 : Int32) (h_18 : ga_H) => (r_19 = (0 : Int32) → (post x1_15 h_18)) ∧ (¬ r_19 = (0 : Int32) → (∃ a_21 : Nat, r_14 = some a_21 ∧ ∃ kc_22 ks_23 : Nat, kc_22 ≤ bc_15 ∧ ks_23 ≤ bs_15 ∧ ∃ fs_24 : List Value, ga_at K h_18 a_21 (ga_O 14 fs_24) ∧ gw_J16_next K a_21 h_18 kc_22 ks_23 (fun (r_26 : Option Nat) (h_25 : ga_H) => ga_ok K h_25 "PaperStore$Ream" r_26 ∧ (∃ a_27 : Nat, r_26 = some a_27 ∧ ∃ fs_28 : List Value, ga_at K h_25 a_27 (ga_O 4 fs_28) ∧ gw_X6_isWavy K a_27 h_25 (fun (r_30 : Int32) (h_29 : ga_H) => (r_30 = (0 : Int32) → (In_15 (x1_15 + (0 : Int32)) h_29 (bc_15 - kc_22) (bs_15 - ks_23) ∧ mu_15 (x1_15 + (0 : Int32)) h_29 (bc_15 - kc_22) (bs_15 - ks_23) < mu_15 x1_15 h_15 bc_15 bs_15)) ∧ (¬ r_30 = (0 : Int32) → (In_15 (x1_15 + (1 : Int32)) h_29 (bc_15 - kc_22) (bs_15 - ks_23) ∧ mu_15 (x1_15 + (1 : Int32)) h_29 (bc_15 - kc_22) (bs_15 - ks_23) < mu_15 x1_15 h_15 bc_15 bs_15))))))))))))
set_option maxHeartbeats 4000000 in
theorem gm_X1_wavy (l : Launch) (g : ga_G) (p0 : Nat) (h : ga_H) (mc ms : Nat) (post : Int32 → ga_H → Prop) (hw : gw_X1_wavy g.2.2 p0 h mc ms post) : Met l yX1_wavy (ws_ yX1_wavy cX1_wavy 4 (some .int)) ({ frames := 14, cells := mc, slots := ms, locals := 282 } : Room) (va_Pc [.ref p0] (ga_B g h)) (va_Qi post (ga_E g) (ga_A g)) mc ms (ga_A g) := by
  refine ga_met (own := "PaperStore") (nm := "wavy") (by decide) rfl rfl (by exact Nat.le_of_ble_eq_true rfl) (fun p e s m below meth c ls hC hI hl => ?_)
  have hl : lv_has ls 4 [(0, .ref p0)] := hl
  generalize ([.ref p0] : List Value).toArray = args at hC ⊢
  obtain ⟨hx, hb, hml, hown, hts, hr, hlk, hnm⟩ := hC
  unfold gw_X1_wavy at hw
  obtain ⟨H, eH⟩ : ∃ z, z = s.heap := ⟨_, rfl⟩
  obtain ⟨locs, elo⟩ : ∃ z : List Loc, z = [] := ⟨_, rfl⟩
  rw [← eH, ← elo] at hI ⊢
  obtain ⟨cells, slots, hbc, hbs, e0, e1⟩ : ∃ a b : Nat, a + mc ≤ mc ∧ b + ms ≤ ms ∧ a = 0 ∧ b = 0 := ⟨0, 0, by omega, by omega, rfl, rfl⟩
  show W p l e ({ frames := 14, cells := mc, slots := ms, locals := 282 } : Room) s m args below meth c H locs 0 0 (MQ below (va_Qi post (ga_E g) (ga_A g)) args s mc ms (ga_A g)) (F0 m 0 ls [])
  suffices hgoal : W p l e ({ frames := 14, cells := mc, slots := ms, locals := 282 } : Room) s m args below meth c H locs cells slots (MQ below (va_Qi post (ga_E g) (ga_A g)) args s mc ms (ga_A g)) (F0 m 0 ls []) by rw [e0, e1] at hgoal; exact hgoal
  refine lv_iconst (v := 0) hx hb dX1_wavy_0 (by decide) ?_
  refine lv_istore_n (i := 1) (lv' := [(1, .int (0 : Int32)), (0, .ref p0)]) hx hb dX1_wavy_1 rfl hl (by decide) rfl (fun ls hl => ?_)
  refine lv_aload_n hx hb dX1_wavy_2 rfl (lv_at hl 1 rfl) ?_
  obtain ⟨fs_1, v_2, hq, hv, hw⟩ := hw
  refine ga_get (ci := 0) (T := TX1) (v := va_rf v_2) hx hb hts hown hI in_X1 rfl 0 (by decide) q387 (fun _ z => z) (ga_at.h hq) hv dX1_wavy_3 ?_
  obtain ⟨a_3, ea_3, hw⟩ := hw
  rewrite [ea_3]
  obtain ⟨kc_4, ks_5, hk1, hk2, hw⟩ := hw
  obtain ⟨fs_6, hq, hw⟩ := hw
  refine ga_callq (va_runV (As := []) (rest := []) ⟨hx, hb, hml, hown, hts⟩ (gm_X2_lying l g a_3 h kc_4 ks_5 _ hw) (cwV 0 hts (lw_V q440 q441 q442 q101 q443) rfl rfl rfl ⟨rfl, hdG_X2_lying⟩ ⟨Nat.le_of_ble_eq_true rfl, Nat.le_of_ble_eq_true rfl⟩) (ga_preV hI hq rfl rfl) rfl rfl hl.1 rfl (ga_room (Nat.le_of_ble_eq_true rfl)) dX1_wavy_6 ⟨Nat.le_trans (Nat.add_le_add_left hk1 _) hbc, Nat.le_trans (Nat.add_le_add_left hk2 _) hbs⟩) hI hbc hbs hk1 hk2 (fun r_8 h_7 H locs cells slots hw hI hbc hbs => ?_)
  obtain ⟨a_9, ea_9, hw⟩ := hw
  rewrite [ea_9]
  obtain ⟨kc_10, ks_11, hk1, hk2, hw⟩ := hw
  obtain ⟨fs_12, hq, hw⟩ := hw
  refine ga_callFq (va_runF (As := []) (rest := []) (hI.2.1.1.1.1 13 _ rfl).2 ⟨hx, hb, hml, hown, hts⟩ (gm_J2_iterator l g a_9 h_7 kc_10 ks_11 _ hw) (va_cwF 0 hts (lw_app (List.forall_mem_cons.mpr ⟨q1168, List.forall_mem_cons.mpr ⟨q1171, List.forall_mem_cons.mpr ⟨q564, List.forall_mem_cons.mpr ⟨q104, fun _ h => absurd h List.not_mem_nil⟩⟩⟩⟩) (lw_meth q565)) rfl rfl rfl (hI.2.1.1.2.2 _ _ _ ⟨by decide +kernel, q1170, q1169, q1173, q1172, q836⟩) (by decide +kernel) ⟨Nat.le_of_ble_eq_true rfl, Nat.le_of_ble_eq_true rfl⟩) (ga_preV (C := "java/util/ArrayList") hI hq rfl rfl) rfl rfl hl.1 rfl (ga_room (Nat.le_of_ble_eq_true rfl)) dX1_wavy_9 ⟨Nat.le_trans (Nat.add_le_add_left hk1 _) hbc, Nat.le_trans (Nat.add_le_add_left hk2 _) hbs⟩) hI hbc hbs hk1 hk2 (fun r_14 h_13 H locs cells slots hw hI hbc hbs => ?_)
  refine ga_astore_n (i := 2) (x := r_14) (lv' := [(2, va_rf r_14), (1, .int (0 : Int32)), (0, .ref p0)]) hx hb dX1_wavy_14 rfl hl (by decide) rfl (fun ls hl => ?_)
  obtain ⟨In_15, mu_15, h0_15, hw⟩ := hw
  have hL_15 : ∀ (n : Nat) (x1_15 : Int32) (h_15 : ga_H) (bc_15 : Nat) (bs_15 : Nat) (H : Heap) (locs : List Loc) (cells slots : Nat) (ls : Array Slot), mu_15 x1_15 h_15 bc_15 bs_15 < n → In_15 x1_15 h_15 bc_15 bs_15 → ga_I g h_15 s H locs → cells + bc_15 ≤ mc → slots + bs_15 ≤ ms → lv_has ls 4 [(1, .int x1_15), (2, va_rf r_14)] → W p l e ({ frames := 14, cells := mc, slots := ms, locals := 282 } : Room) s m args below meth c H locs cells slots (MQ below (va_Qi post (ga_E g) (ga_A g)) args s mc ms (ga_A g)) (F0 m 15 ls []) := by
    intro n
    induction n with
    | zero => intro x1_15 h_15 bc_15 bs_15 H locs cells slots ls hn _ _ _ _ _; exact absurd hn (Nat.not_lt_zero _)
    | succ n ih_15 =>
      intro x1_15 h_15 bc_15 bs_15 H locs cells slots ls hn_15 hi_15 hI hbc hbs hl
      have hw := hw x1_15 h_15 bc_15 bs_15 hi_15
      refine ga_aload_n hx hb dX1_wavy_15 rfl (lv_at hl 1 rfl) ?_
      obtain ⟨a_16, ea_16, hw⟩ := hw
      rewrite [ea_16]
      obtain ⟨fs_17, hq, hw⟩ := hw
      refine ga_callFi (va_runF (As := []) (rest := []) (hI.2.1.1.1.1 14 _ rfl).2 ⟨hx, hb, hml, hown, hts⟩ (gm_J16_hasNext l g a_16 h_15 _ hw) (va_cwF 0 hts (lw_app (List.forall_mem_cons.mpr ⟨q1180, List.forall_mem_cons.mpr ⟨q696, List.forall_mem_cons.mpr ⟨q698, List.forall_mem_cons.mpr ⟨q122, fun _ h => absurd h List.not_mem_nil⟩⟩⟩⟩) (lw_meth q700)) rfl rfl rfl (hI.2.1.1.2.2 _ _ _ ⟨by decide +kernel, q694, q693, q699, q697, q695⟩) (by decide +kernel) ⟨Nat.le_of_ble_eq_true rfl, Nat.le_of_ble_eq_true rfl⟩) (ga_preV (C := "java/util/ArrayList$Itr") hI hq rfl rfl) rfl rfl hl.1 rfl (ga_room (Nat.le_of_ble_eq_true rfl)) dX1_wavy_16 ⟨Nat.le_trans (Nat.add_le_add_left (Nat.zero_le _) _) hbc, Nat.le_trans (Nat.add_le_add_left (Nat.zero_le _) _) hbs⟩) hI hbc hbs (Nat.zero_le _) (Nat.zero_le _) (fun r_19 h_18 H locs cells slots hw hI hbc hbs => ?_)
      refine lv_if_eq (tgt := 52) hx hb dX1_wavy_21 (by decide) (fun hc_20 => ?_) (fun hc_20 => ?_)
      · have hw := hw.1 hc_20
        refine lv_iload_n hx hb dX1_wavy_52 rfl (lv_at hl 0 rfl) ?_
        exact ga_iret hx hb hr rfl hlk hI hw (Nat.le_trans (Nat.le_add_right _ _) hbc) (Nat.le_trans (Nat.le_add_right _ _) hbs) dX1_wavy_53
      · have hw := hw.2 hc_20
        refine ga_aload_n hx hb dX1_wavy_24 rfl (lv_at hl 1 rfl) ?_
        obtain ⟨a_21, ea_21, hw⟩ := hw
        rewrite [ea_21]
        obtain ⟨kc_22, ks_23, hk1, hk2, hw⟩ := hw
        obtain ⟨fs_24, hq, hw⟩ := hw
        refine ga_callFq (va_runF (As := []) (rest := []) (hI.2.1.1.1.1 14 _ rfl).2 ⟨hx, hb, hml, hown, hts⟩ (gm_J16_next l g a_21 h_18 kc_22 ks_23 _ hw) (va_cwF 0 hts (lw_app (List.forall_mem_cons.mpr ⟨q1182, List.forall_mem_cons.mpr ⟨q721, List.forall_mem_cons.mpr ⟨q723, List.forall_mem_cons.mpr ⟨q122, fun _ h => absurd h List.not_mem_nil⟩⟩⟩⟩) (lw_meth q725)) rfl rfl rfl (hI.2.1.1.2.2 _ _ _ ⟨by decide +kernel, q720, q719, q724, q722, q695⟩) (by decide +kernel) ⟨Nat.le_of_ble_eq_true rfl, Nat.le_of_ble_eq_true rfl⟩) (ga_preV (C := "java/util/ArrayList$Itr") hI hq rfl rfl) rfl rfl hl.1 rfl (ga_room (Nat.le_of_ble_eq_true rfl)) dX1_wavy_25 ⟨Nat.le_trans (Nat.add_le_add_left hk1 _) hbc, Nat.le_trans (Nat.add_le_add_left hk2 _) hbs⟩) hI hbc hbs hk1 hk2 (fun r_26 h_25 H locs cells slots hw hI hbc hbs => ?_)
        refine ga_cast (x := r_26) hx hb hts hown hI q1183 hw.1 dX1_wavy_30 ?_
        have hw := hw.2
        refine ga_astore_n (i := 3) (x := r_26) (lv' := [(3, va_rf r_26), (1, .int x1_15), (2, va_rf r_14)]) hx hb dX1_wavy_33 rfl hl (by decide) (by simp [ga_rcat, ga_cat_r, ga_cat_i, ga_cat_f, ga_cat_l, ga_cat_d]) (fun ls hl => ?_)
        refine lv_iload_n hx hb dX1_wavy_34 rfl (lv_at hl 1 rfl) ?_
        refine ga_aload_n hx hb dX1_wavy_35 rfl (lv_at hl 0 rfl) ?_
        obtain ⟨a_27, ea_27, hw⟩ := hw
        rewrite [ea_27]
        obtain ⟨fs_28, hq, hw⟩ := hw
        refine ga_calli (va_runV (As := []) (rest := [.int x1_15]) ⟨hx, hb, hml, hown, hts⟩ (gm_X6_isWavy l g a_27 h_25 _ hw) (cwV 0 hts (lw_V q2287 q2288 q2289 q137 q2290) rfl rfl rfl ⟨rfl, hdG_X6_isWavy⟩ ⟨Nat.le_of_ble_eq_true rfl, Nat.le_of_ble_eq_true rfl⟩) (ga_preV hI hq rfl rfl) rfl rfl hl.1 rfl (ga_room (Nat.le_of_ble_eq_true rfl)) dX1_wavy_36 ⟨Nat.le_trans (Nat.add_le_add_left (Nat.zero_le _) _) hbc, Nat.le_trans (Nat.add_le_add_left (Nat.zero_le _) _) hbs⟩) hI hbc hbs (Nat.zero_le _) (Nat.zero_le _) (fun r_30 h_29 H locs cells slots hw hI hbc hbs => ?_)
        refine lv_if_eq (tgt := 46) hx hb dX1_wavy_39 (by decide) (fun hc_31 => ?_) (fun hc_31 => ?_)
        · have hw := hw.1 hc_31
          refine lv_iconst (v := 0) hx hb dX1_wavy_46 (by decide) ?_
          refine lv_iadd hx hb dX1_wavy_47 ?_
          refine lv_istore_n (i := 1) (lv' := [(1, .int (x1_15 + (0 : Int32))), (3, va_rf r_26), (2, va_rf r_14)]) hx hb dX1_wavy_48 rfl hl (by decide) rfl (fun ls hl => ?_)
          refine lv_goto (tgt := 15) hx hb dX1_wavy_49 (by decide) ?_
          exact ih_15 _ _ _ _ H locs cells slots ls (Nat.lt_of_lt_of_le hw.2 (Nat.le_of_lt_succ hn_15)) hw.1 hI hbc hbs (lv_sub hl [0, 2] rfl)
        · have hw := hw.2 hc_31
          refine lv_iconst (v := 1) hx hb dX1_wavy_42 (by decide) ?_
          refine lv_goto (tgt := 47) hx hb dX1_wavy_43 (by decide) ?_
          refine lv_iadd hx hb dX1_wavy_47 ?_
          refine lv_istore_n (i := 1) (lv' := [(1, .int (x1_15 + (1 : Int32))), (3, va_rf r_26), (2, va_rf r_14)]) hx hb dX1_wavy_48 rfl hl (by decide) rfl (fun ls hl => ?_)
          refine lv_goto (tgt := 15) hx hb dX1_wavy_49 (by decide) ?_
          exact ih_15 _ _ _ _ H locs cells slots ls (Nat.lt_of_lt_of_le hw.2 (Nat.le_of_lt_succ hn_15)) hw.1 hI hbc hbs (lv_sub hl [0, 2] rfl)
  exact hL_15 _ _ _ _ _ H locs cells slots ls (Nat.lt_succ_self _) h0_15 hI hbc hbs (lv_sub hl [1, 0] rfl)
theorem hdG_X1_wavy : yX1_wavy.cls ≠ "java/lang/invoke/MethodHandle" ∧ yX1_wavy.cls ≠ "java/lang/invoke/VarHandle" ∧ (parseMethodDescriptor yX1_wavy.desc).map (fun d => d.parameters.length) = some 0 := by decide +kernel
def gw_X2_onCarts (K : ga_K) (p0 : Nat) (h : ga_H) (mc ms : Nat) (post : Int32 → ga_H → Prop) : Prop :=
  ∃ (fs_1 : List Value) (v_2 : Option Nat), h p0 = some (ga_O 1 fs_1) ∧ fs_1[3]? = some (va_rf v_2) ∧ (∃ a_3 : Nat, v_2 = some a_3 ∧ ∃ kc_4 ks_5 : Nat, kc_4 ≤ mc ∧ ks_5 ≤ ms ∧ ∃ fs_6 : List Value, ga_at K h a_3 (ga_O 13 fs_6) ∧ gw_J2_iterator K a_3 h kc_4 ks_5 (fun (r_8 : Option Nat) (h_7 : ga_H) => ∃ (In_9 : Int32 → ga_H → Nat → Nat → Prop) (mu_9 : Int32 → ga_H → Nat → Nat → Nat), In_9 (0 : Int32) h_7 (mc - kc_4) (ms - ks_5) ∧ ∀ (x1_9 : Int32) (h_9 : ga_H) (bc_9 : Nat) (bs_9 : Nat), In_9 x1_9 h_9 bc_9 bs_9 → (∃ a_10 : Nat, r_8 = some a_10 ∧ ∃ fs_11 : List Value, ga_at K h_9 a_10 (ga_O 14 fs_11) ∧ gw_J16_hasNext K a_10 h_9 (fun (r_13 : Int32) (h_12 : ga_H) => (r_13 = (0 : Int32) → (post x1_9 h_12)) ∧ (¬ r_13 = (0 : Int32) → (∃ a_15 : Nat, r_8 = some a_15 ∧ ∃ kc_16 ks_17 : Nat, kc_16 ≤ bc_9 ∧ ks_17 ≤ bs_9 ∧ ∃ fs_18 : List Value, ga_at K h_12 a_15 (ga_O 14 fs_18) ∧ gw_J16_next K a_15 h_12 kc_16 ks_17 (fun (r_20 : Option Nat) (h_19 : ga_H) => ga_ok K h_19 "PaperStore$Cart" r_20 ∧ (∃ a_21 : Nat, r_20 = some a_21 ∧ ∃ (fs_22 : List Value) (v_23 : Int32), h_19 a_21 = some (ga_O 7 fs_22) ∧ fs_22[1]? = some (.int v_23) ∧ (In_9 (x1_9 + v_23) h_19 (bc_9 - kc_16) (bs_9 - ks_17) ∧ mu_9 (x1_9 + v_23) h_19 (bc_9 - kc_16) (bs_9 - ks_17) < mu_9 x1_9 h_9 bc_9 bs_9)))))))))
set_option maxHeartbeats 4000000 in
theorem gm_X2_onCarts (l : Launch) (g : ga_G) (p0 : Nat) (h : ga_H) (mc ms : Nat) (post : Int32 → ga_H → Prop) (hw : gw_X2_onCarts g.2.2 p0 h mc ms post) : Met l yX2_onCarts (ws_ yX2_onCarts cX2_onCarts 4 (some .int)) ({ frames := 10, cells := mc, slots := ms, locals := 182 } : Room) (va_Pc [.ref p0] (ga_B g h)) (va_Qi post (ga_E g) (ga_A g)) mc ms (ga_A g) := by
  refine ga_met (own := "PaperStore$Store") (nm := "onCarts") (by decide) rfl rfl (by exact Nat.le_of_ble_eq_true rfl) (fun p e s m below meth c ls hC hI hl => ?_)
  have hl : lv_has ls 4 [(0, .ref p0)] := hl
  generalize ([.ref p0] : List Value).toArray = args at hC ⊢
  obtain ⟨hx, hb, hml, hown, hts, hr, hlk, hnm⟩ := hC
  unfold gw_X2_onCarts at hw
  obtain ⟨H, eH⟩ : ∃ z, z = s.heap := ⟨_, rfl⟩
  obtain ⟨locs, elo⟩ : ∃ z : List Loc, z = [] := ⟨_, rfl⟩
  rw [← eH, ← elo] at hI ⊢
  obtain ⟨cells, slots, hbc, hbs, e0, e1⟩ : ∃ a b : Nat, a + mc ≤ mc ∧ b + ms ≤ ms ∧ a = 0 ∧ b = 0 := ⟨0, 0, by omega, by omega, rfl, rfl⟩
  show W p l e ({ frames := 10, cells := mc, slots := ms, locals := 182 } : Room) s m args below meth c H locs 0 0 (MQ below (va_Qi post (ga_E g) (ga_A g)) args s mc ms (ga_A g)) (F0 m 0 ls [])
  suffices hgoal : W p l e ({ frames := 10, cells := mc, slots := ms, locals := 182 } : Room) s m args below meth c H locs cells slots (MQ below (va_Qi post (ga_E g) (ga_A g)) args s mc ms (ga_A g)) (F0 m 0 ls []) by rw [e0, e1] at hgoal; exact hgoal
  refine lv_iconst (v := 0) hx hb dX2_onCarts_0 (by decide) ?_
  refine lv_istore_n (i := 1) (lv' := [(1, .int (0 : Int32)), (0, .ref p0)]) hx hb dX2_onCarts_1 rfl hl (by decide) rfl (fun ls hl => ?_)
  refine lv_aload_n hx hb dX2_onCarts_2 rfl (lv_at hl 1 rfl) ?_
  obtain ⟨fs_1, v_2, hq, hv, hw⟩ := hw
  refine ga_get (ci := 1) (T := TX2) (v := va_rf v_2) hx hb hts hown hI in_X2 rfl 3 (by decide) q316 (fun _ z => z) (ga_at.h hq) hv dX2_onCarts_3 ?_
  obtain ⟨a_3, ea_3, hw⟩ := hw
  rewrite [ea_3]
  obtain ⟨kc_4, ks_5, hk1, hk2, hw⟩ := hw
  obtain ⟨fs_6, hq, hw⟩ := hw
  refine ga_callq (va_runV (As := []) (rest := []) ⟨hx, hb, hml, hown, hts⟩ (gm_J2_iterator l g a_3 h kc_4 ks_5 _ hw) (cwV 0 hts (lw_V q1245 q564 q4118 q104 q565) rfl rfl rfl ⟨rfl, hdG_J2_iterator⟩ ⟨Nat.le_of_ble_eq_true rfl, Nat.le_of_ble_eq_true rfl⟩) (ga_preV hI hq rfl rfl) rfl rfl hl.1 rfl (ga_room (Nat.le_of_ble_eq_true rfl)) dX2_onCarts_6 ⟨Nat.le_trans (Nat.add_le_add_left hk1 _) hbc, Nat.le_trans (Nat.add_le_add_left hk2 _) hbs⟩) hI hbc hbs hk1 hk2 (fun r_8 h_7 H locs cells slots hw hI hbc hbs => ?_)
  refine ga_astore_n (i := 2) (x := r_8) (lv' := [(2, va_rf r_8), (1, .int (0 : Int32)), (0, .ref p0)]) hx hb dX2_onCarts_9 rfl hl (by decide) rfl (fun ls hl => ?_)
  obtain ⟨In_9, mu_9, h0_9, hw⟩ := hw
  have hL_9 : ∀ (n : Nat) (x1_9 : Int32) (h_9 : ga_H) (bc_9 : Nat) (bs_9 : Nat) (H : Heap) (locs : List Loc) (cells slots : Nat) (ls : Array Slot), mu_9 x1_9 h_9 bc_9 bs_9 < n → In_9 x1_9 h_9 bc_9 bs_9 → ga_I g h_9 s H locs → cells + bc_9 ≤ mc → slots + bs_9 ≤ ms → lv_has ls 4 [(1, .int x1_9), (2, va_rf r_8)] → W p l e ({ frames := 10, cells := mc, slots := ms, locals := 182 } : Room) s m args below meth c H locs cells slots (MQ below (va_Qi post (ga_E g) (ga_A g)) args s mc ms (ga_A g)) (F0 m 10 ls []) := by
    intro n
    induction n with
    | zero => intro x1_9 h_9 bc_9 bs_9 H locs cells slots ls hn _ _ _ _ _; exact absurd hn (Nat.not_lt_zero _)
    | succ n ih_9 =>
      intro x1_9 h_9 bc_9 bs_9 H locs cells slots ls hn_9 hi_9 hI hbc hbs hl
      have hw := hw x1_9 h_9 bc_9 bs_9 hi_9
      refine ga_aload_n hx hb dX2_onCarts_10 rfl (lv_at hl 1 rfl) ?_
      obtain ⟨a_10, ea_10, hw⟩ := hw
      rewrite [ea_10]
      obtain ⟨fs_11, hq, hw⟩ := hw
      refine ga_callFi (va_runF (As := []) (rest := []) (hI.2.1.1.1.1 14 _ rfl).2 ⟨hx, hb, hml, hown, hts⟩ (gm_J16_hasNext l g a_10 h_9 _ hw) (va_cwF 0 hts (lw_app (List.forall_mem_cons.mpr ⟨q1247, List.forall_mem_cons.mpr ⟨q696, List.forall_mem_cons.mpr ⟨q698, List.forall_mem_cons.mpr ⟨q122, fun _ h => absurd h List.not_mem_nil⟩⟩⟩⟩) (lw_meth q700)) rfl rfl rfl (hI.2.1.1.2.2 _ _ _ ⟨by decide +kernel, q694, q693, q699, q697, q695⟩) (by decide +kernel) ⟨Nat.le_of_ble_eq_true rfl, Nat.le_of_ble_eq_true rfl⟩) (ga_preV (C := "java/util/ArrayList$Itr") hI hq rfl rfl) rfl rfl hl.1 rfl (ga_room (Nat.le_of_ble_eq_true rfl)) dX2_onCarts_11 ⟨Nat.le_trans (Nat.add_le_add_left (Nat.zero_le _) _) hbc, Nat.le_trans (Nat.add_le_add_left (Nat.zero_le _) _) hbs⟩) hI hbc hbs (Nat.zero_le _) (Nat.zero_le _) (fun r_13 h_12 H locs cells slots hw hI hbc hbs => ?_)
      refine lv_if_eq (tgt := 39) hx hb dX2_onCarts_16 (by decide) (fun hc_14 => ?_) (fun hc_14 => ?_)
      · have hw := hw.1 hc_14
        refine lv_iload_n hx hb dX2_onCarts_39 rfl (lv_at hl 0 rfl) ?_
        exact ga_iret hx hb hr rfl hlk hI hw (Nat.le_trans (Nat.le_add_right _ _) hbc) (Nat.le_trans (Nat.le_add_right _ _) hbs) dX2_onCarts_40
      · have hw := hw.2 hc_14
        refine ga_aload_n hx hb dX2_onCarts_19 rfl (lv_at hl 1 rfl) ?_
        obtain ⟨a_15, ea_15, hw⟩ := hw
        rewrite [ea_15]
        obtain ⟨kc_16, ks_17, hk1, hk2, hw⟩ := hw
        obtain ⟨fs_18, hq, hw⟩ := hw
        refine ga_callFq (va_runF (As := []) (rest := []) (hI.2.1.1.1.1 14 _ rfl).2 ⟨hx, hb, hml, hown, hts⟩ (gm_J16_next l g a_15 h_12 kc_16 ks_17 _ hw) (va_cwF 0 hts (lw_app (List.forall_mem_cons.mpr ⟨q1249, List.forall_mem_cons.mpr ⟨q721, List.forall_mem_cons.mpr ⟨q723, List.forall_mem_cons.mpr ⟨q122, fun _ h => absurd h List.not_mem_nil⟩⟩⟩⟩) (lw_meth q725)) rfl rfl rfl (hI.2.1.1.2.2 _ _ _ ⟨by decide +kernel, q720, q719, q724, q722, q695⟩) (by decide +kernel) ⟨Nat.le_of_ble_eq_true rfl, Nat.le_of_ble_eq_true rfl⟩) (ga_preV (C := "java/util/ArrayList$Itr") hI hq rfl rfl) rfl rfl hl.1 rfl (ga_room (Nat.le_of_ble_eq_true rfl)) dX2_onCarts_20 ⟨Nat.le_trans (Nat.add_le_add_left hk1 _) hbc, Nat.le_trans (Nat.add_le_add_left hk2 _) hbs⟩) hI hbc hbs hk1 hk2 (fun r_20 h_19 H locs cells slots hw hI hbc hbs => ?_)
        refine ga_cast (x := r_20) hx hb hts hown hI q1250 hw.1 dX2_onCarts_25 ?_
        have hw := hw.2
        refine ga_astore_n (i := 3) (x := r_20) (lv' := [(3, va_rf r_20), (1, .int x1_9), (2, va_rf r_8)]) hx hb dX2_onCarts_28 rfl hl (by decide) (by simp [ga_rcat, ga_cat_r, ga_cat_i, ga_cat_f, ga_cat_l, ga_cat_d]) (fun ls hl => ?_)
        refine lv_iload_n hx hb dX2_onCarts_29 rfl (lv_at hl 1 rfl) ?_
        refine ga_aload_n hx hb dX2_onCarts_30 rfl (lv_at hl 0 rfl) ?_
        obtain ⟨a_21, ea_21, hw⟩ := hw
        rewrite [ea_21]
        obtain ⟨fs_22, v_23, hq, hv, hw⟩ := hw
        refine ga_getN (ci := 7) (T := TX9) (v := .int v_23) hx hb hts hown hI in_X9 rfl 1 (by decide) q1408 (fun _ z => z) (ga_at.h hq) hv dX2_onCarts_31 ?_
        refine lv_iadd hx hb dX2_onCarts_34 ?_
        refine lv_istore_n (i := 1) (lv' := [(1, .int (x1_9 + v_23)), (3, va_rf r_20), (2, va_rf r_8)]) hx hb dX2_onCarts_35 rfl hl (by decide) rfl (fun ls hl => ?_)
        refine lv_goto (tgt := 10) hx hb dX2_onCarts_36 (by decide) ?_
        exact ih_9 _ _ _ _ H locs cells slots ls (Nat.lt_of_lt_of_le hw.2 (Nat.le_of_lt_succ hn_9)) hw.1 hI hbc hbs (lv_sub hl [0, 2] rfl)
  exact hL_9 _ _ _ _ _ H locs cells slots ls (Nat.lt_succ_self _) h0_9 hI hbc hbs (lv_sub hl [1, 0] rfl)
theorem hdG_X2_onCarts : yX2_onCarts.cls ≠ "java/lang/invoke/MethodHandle" ∧ yX2_onCarts.cls ≠ "java/lang/invoke/VarHandle" ∧ (parseMethodDescriptor yX2_onCarts.desc).map (fun d => d.parameters.length) = some 0 := by decide +kernel
def gw_X2_ordersIn (K : ga_K) (p0 : Nat) (p1 : Int32) (h : ga_H) (mc ms : Nat) (post : Int32 → ga_H → Prop) : Prop :=
  ∃ (fs_1 : List Value) (v_2 : Option Nat), h p0 = some (ga_O 1 fs_1) ∧ fs_1[2]? = some (va_rf v_2) ∧ (∃ a_3 : Nat, v_2 = some a_3 ∧ ∃ kc_4 ks_5 : Nat, kc_4 ≤ mc ∧ ks_5 ≤ ms ∧ ∃ fs_6 : List Value, ga_at K h a_3 (ga_O 13 fs_6) ∧ gw_J2_iterator K a_3 h kc_4 ks_5 (fun (r_8 : Option Nat) (h_7 : ga_H) => ∃ (In_9 : Int32 → ga_H → Nat → Nat → Prop) (mu_9 : Int32 → ga_H → Nat → Nat → Nat), In_9 (0 : Int32) h_7 (mc - kc_4) (ms - ks_5) ∧ ∀ (x2_9 : Int32) (h_9 : ga_H) (bc_9 : Nat) (bs_9 : Nat), In_9 x2_9 h_9 bc_9 bs_9 → (∃ a_10 : Nat, r_8 = some a_10 ∧ ∃ fs_11 : List Value, ga_at K h_9 a_10 (ga_O 14 fs_11) ∧ gw_J16_hasNext K a_10 h_9 (fun (r_13 : Int32) (h_12 : ga_H) => (r_13 = (0 : Int32) → (post x2_9 h_12)) ∧ (¬ r_13 = (0 : Int32) → (∃ a_15 : Nat, r_8 = some a_15 ∧ ∃ kc_16 ks_17 : Nat, kc_16 ≤ bc_9 ∧ ks_17 ≤ bs_9 ∧ ∃ fs_18 : List Value, ga_at K h_12 a_15 (ga_O 14 fs_18) ∧ gw_J16_next K a_15 h_12 kc_16 ks_17 (fun (r_20 : Option Nat) (h_19 : ga_H) => ga_ok K h_19 "PaperStore$Order" r_20 ∧ (∃ a_21 : Nat, r_20 = some a_21 ∧ ∃ (fs_22 : List Value) (v_23 : Int32), h_19 a_21 = some (ga_O 6 fs_22) ∧ fs_22[2]? = some (.int v_23) ∧ ((¬ v_23 = p1 → (In_9 (x2_9 + (0 : Int32)) h_19 (bc_9 - kc_16) (bs_9 - ks_17) ∧ mu_9 (x2_9 + (0 : Int32)) h_19 (bc_9 - kc_16) (bs_9 - ks_17) < mu_9 x2_9 h_9 bc_9 bs_9)) ∧ (v_23 = p1 → (In_9 (x2_9 + (1 : Int32)) h_19 (bc_9 - kc_16) (bs_9 - ks_17) ∧ mu_9 (x2_9 + (1 : Int32)) h_19 (bc_9 - kc_16) (bs_9 - ks_17) < mu_9 x2_9 h_9 bc_9 bs_9)))))))))))
set_option maxHeartbeats 4000000 in
theorem gm_X2_ordersIn (l : Launch) (g : ga_G) (p0 : Nat) (p1 : Int32) (h : ga_H) (mc ms : Nat) (post : Int32 → ga_H → Prop) (hw : gw_X2_ordersIn g.2.2 p0 p1 h mc ms post) : Met l yX2_ordersIn (ws_ yX2_ordersIn cX2_ordersIn 5 (some .int)) ({ frames := 10, cells := mc, slots := ms, locals := 182 } : Room) (va_Pc [.ref p0, .int p1] (ga_B g h)) (va_Qi post (ga_E g) (ga_A g)) mc ms (ga_A g) := by
  refine ga_met (own := "PaperStore$Store") (nm := "ordersIn") (by decide) rfl rfl (by exact Nat.le_of_ble_eq_true rfl) (fun p e s m below meth c ls hC hI hl => ?_)
  have hl : lv_has ls 5 [(0, .ref p0), (1, .int p1)] := hl
  generalize ([.ref p0, .int p1] : List Value).toArray = args at hC ⊢
  obtain ⟨hx, hb, hml, hown, hts, hr, hlk, hnm⟩ := hC
  unfold gw_X2_ordersIn at hw
  obtain ⟨H, eH⟩ : ∃ z, z = s.heap := ⟨_, rfl⟩
  obtain ⟨locs, elo⟩ : ∃ z : List Loc, z = [] := ⟨_, rfl⟩
  rw [← eH, ← elo] at hI ⊢
  obtain ⟨cells, slots, hbc, hbs, e0, e1⟩ : ∃ a b : Nat, a + mc ≤ mc ∧ b + ms ≤ ms ∧ a = 0 ∧ b = 0 := ⟨0, 0, by omega, by omega, rfl, rfl⟩
  show W p l e ({ frames := 10, cells := mc, slots := ms, locals := 182 } : Room) s m args below meth c H locs 0 0 (MQ below (va_Qi post (ga_E g) (ga_A g)) args s mc ms (ga_A g)) (F0 m 0 ls [])
  suffices hgoal : W p l e ({ frames := 10, cells := mc, slots := ms, locals := 182 } : Room) s m args below meth c H locs cells slots (MQ below (va_Qi post (ga_E g) (ga_A g)) args s mc ms (ga_A g)) (F0 m 0 ls []) by rw [e0, e1] at hgoal; exact hgoal
  refine lv_iconst (v := 0) hx hb dX2_ordersIn_0 (by decide) ?_
  refine lv_istore_n (i := 2) (lv' := [(2, .int (0 : Int32)), (0, .ref p0), (1, .int p1)]) hx hb dX2_ordersIn_1 rfl hl (by decide) rfl (fun ls hl => ?_)
  refine lv_aload_n hx hb dX2_ordersIn_2 rfl (lv_at hl 1 rfl) ?_
  obtain ⟨fs_1, v_2, hq, hv, hw⟩ := hw
  refine ga_get (ci := 1) (T := TX2) (v := va_rf v_2) hx hb hts hown hI in_X2 rfl 2 (by decide) q314 (fun _ z => z) (ga_at.h hq) hv dX2_ordersIn_3 ?_
  obtain ⟨a_3, ea_3, hw⟩ := hw
  rewrite [ea_3]
  obtain ⟨kc_4, ks_5, hk1, hk2, hw⟩ := hw
  obtain ⟨fs_6, hq, hw⟩ := hw
  refine ga_callq (va_runV (As := []) (rest := []) ⟨hx, hb, hml, hown, hts⟩ (gm_J2_iterator l g a_3 h kc_4 ks_5 _ hw) (cwV 0 hts (lw_V q1245 q564 q4118 q104 q565) rfl rfl rfl ⟨rfl, hdG_J2_iterator⟩ ⟨Nat.le_of_ble_eq_true rfl, Nat.le_of_ble_eq_true rfl⟩) (ga_preV hI hq rfl rfl) rfl rfl hl.1 rfl (ga_room (Nat.le_of_ble_eq_true rfl)) dX2_ordersIn_6 ⟨Nat.le_trans (Nat.add_le_add_left hk1 _) hbc, Nat.le_trans (Nat.add_le_add_left hk2 _) hbs⟩) hI hbc hbs hk1 hk2 (fun r_8 h_7 H locs cells slots hw hI hbc hbs => ?_)
  refine ga_astore_n (i := 3) (x := r_8) (lv' := [(3, va_rf r_8), (2, .int (0 : Int32)), (0, .ref p0), (1, .int p1)]) hx hb dX2_ordersIn_9 rfl hl (by decide) rfl (fun ls hl => ?_)
  obtain ⟨In_9, mu_9, h0_9, hw⟩ := hw
  have hL_9 : ∀ (n : Nat) (x2_9 : Int32) (h_9 : ga_H) (bc_9 : Nat) (bs_9 : Nat) (H : Heap) (locs : List Loc) (cells slots : Nat) (ls : Array Slot), mu_9 x2_9 h_9 bc_9 bs_9 < n → In_9 x2_9 h_9 bc_9 bs_9 → ga_I g h_9 s H locs → cells + bc_9 ≤ mc → slots + bs_9 ≤ ms → lv_has ls 5 [(1, .int p1), (2, .int x2_9), (3, va_rf r_8)] → W p l e ({ frames := 10, cells := mc, slots := ms, locals := 182 } : Room) s m args below meth c H locs cells slots (MQ below (va_Qi post (ga_E g) (ga_A g)) args s mc ms (ga_A g)) (F0 m 10 ls []) := by
    intro n
    induction n with
    | zero => intro x2_9 h_9 bc_9 bs_9 H locs cells slots ls hn _ _ _ _ _; exact absurd hn (Nat.not_lt_zero _)
    | succ n ih_9 =>
      intro x2_9 h_9 bc_9 bs_9 H locs cells slots ls hn_9 hi_9 hI hbc hbs hl
      have hw := hw x2_9 h_9 bc_9 bs_9 hi_9
      refine ga_aload_n hx hb dX2_ordersIn_10 rfl (lv_at hl 2 rfl) ?_
      obtain ⟨a_10, ea_10, hw⟩ := hw
      rewrite [ea_10]
      obtain ⟨fs_11, hq, hw⟩ := hw
      refine ga_callFi (va_runF (As := []) (rest := []) (hI.2.1.1.1.1 14 _ rfl).2 ⟨hx, hb, hml, hown, hts⟩ (gm_J16_hasNext l g a_10 h_9 _ hw) (va_cwF 0 hts (lw_app (List.forall_mem_cons.mpr ⟨q1247, List.forall_mem_cons.mpr ⟨q696, List.forall_mem_cons.mpr ⟨q698, List.forall_mem_cons.mpr ⟨q122, fun _ h => absurd h List.not_mem_nil⟩⟩⟩⟩) (lw_meth q700)) rfl rfl rfl (hI.2.1.1.2.2 _ _ _ ⟨by decide +kernel, q694, q693, q699, q697, q695⟩) (by decide +kernel) ⟨Nat.le_of_ble_eq_true rfl, Nat.le_of_ble_eq_true rfl⟩) (ga_preV (C := "java/util/ArrayList$Itr") hI hq rfl rfl) rfl rfl hl.1 rfl (ga_room (Nat.le_of_ble_eq_true rfl)) dX2_ordersIn_11 ⟨Nat.le_trans (Nat.add_le_add_left (Nat.zero_le _) _) hbc, Nat.le_trans (Nat.add_le_add_left (Nat.zero_le _) _) hbs⟩) hI hbc hbs (Nat.zero_le _) (Nat.zero_le _) (fun r_13 h_12 H locs cells slots hw hI hbc hbs => ?_)
      refine lv_if_eq (tgt := 50) hx hb dX2_ordersIn_16 (by decide) (fun hc_14 => ?_) (fun hc_14 => ?_)
      · have hw := hw.1 hc_14
        refine lv_iload_n hx hb dX2_ordersIn_50 rfl (lv_at hl 1 rfl) ?_
        exact ga_iret hx hb hr rfl hlk hI hw (Nat.le_trans (Nat.le_add_right _ _) hbc) (Nat.le_trans (Nat.le_add_right _ _) hbs) dX2_ordersIn_51
      · have hw := hw.2 hc_14
        refine ga_aload_n hx hb dX2_ordersIn_19 rfl (lv_at hl 2 rfl) ?_
        obtain ⟨a_15, ea_15, hw⟩ := hw
        rewrite [ea_15]
        obtain ⟨kc_16, ks_17, hk1, hk2, hw⟩ := hw
        obtain ⟨fs_18, hq, hw⟩ := hw
        refine ga_callFq (va_runF (As := []) (rest := []) (hI.2.1.1.1.1 14 _ rfl).2 ⟨hx, hb, hml, hown, hts⟩ (gm_J16_next l g a_15 h_12 kc_16 ks_17 _ hw) (va_cwF 0 hts (lw_app (List.forall_mem_cons.mpr ⟨q1249, List.forall_mem_cons.mpr ⟨q721, List.forall_mem_cons.mpr ⟨q723, List.forall_mem_cons.mpr ⟨q122, fun _ h => absurd h List.not_mem_nil⟩⟩⟩⟩) (lw_meth q725)) rfl rfl rfl (hI.2.1.1.2.2 _ _ _ ⟨by decide +kernel, q720, q719, q724, q722, q695⟩) (by decide +kernel) ⟨Nat.le_of_ble_eq_true rfl, Nat.le_of_ble_eq_true rfl⟩) (ga_preV (C := "java/util/ArrayList$Itr") hI hq rfl rfl) rfl rfl hl.1 rfl (ga_room (Nat.le_of_ble_eq_true rfl)) dX2_ordersIn_20 ⟨Nat.le_trans (Nat.add_le_add_left hk1 _) hbc, Nat.le_trans (Nat.add_le_add_left hk2 _) hbs⟩) hI hbc hbs hk1 hk2 (fun r_20 h_19 H locs cells slots hw hI hbc hbs => ?_)
        refine ga_cast (x := r_20) hx hb hts hown hI q1357 hw.1 dX2_ordersIn_25 ?_
        have hw := hw.2
        refine ga_astore (x := r_20) (lv' := [(4, va_rf r_20), (1, .int p1), (2, .int x2_9), (3, va_rf r_8)]) hx hb dX2_ordersIn_28 hl (by decide) (by simp [ga_rcat, ga_cat_r, ga_cat_i, ga_cat_f, ga_cat_l, ga_cat_d]) (fun ls hl => ?_)
        refine lv_iload_n hx hb dX2_ordersIn_30 rfl (lv_at hl 2 rfl) ?_
        refine ga_aload hx hb dX2_ordersIn_31 (lv_at hl 0 rfl) ?_
        obtain ⟨a_21, ea_21, hw⟩ := hw
        rewrite [ea_21]
        obtain ⟨fs_22, v_23, hq, hv, hw⟩ := hw
        refine ga_getN (ci := 6) (T := TX8) (v := .int v_23) hx hb hts hown hI in_X8 rfl 2 (by decide) q1375 (fun _ z => z) (ga_at.h hq) hv dX2_ordersIn_33 ?_
        refine lv_iload_n hx hb dX2_ordersIn_36 rfl (lv_at hl 1 rfl) ?_
        refine lv_icmp_ne (tgt := 44) hx hb dX2_ordersIn_37 (by decide) (fun hc_24 => ?_) (fun hc_24 => ?_)
        · have hw := hw.1 hc_24
          refine lv_iconst (v := 0) hx hb dX2_ordersIn_44 (by decide) ?_
          refine lv_iadd hx hb dX2_ordersIn_45 ?_
          refine lv_istore_n (i := 2) (lv' := [(2, .int (x2_9 + (0 : Int32))), (4, va_rf r_20), (1, .int p1), (3, va_rf r_8)]) hx hb dX2_ordersIn_46 rfl hl (by decide) rfl (fun ls hl => ?_)
          refine lv_goto (tgt := 10) hx hb dX2_ordersIn_47 (by decide) ?_
          exact ih_9 _ _ _ _ H locs cells slots ls (Nat.lt_of_lt_of_le hw.2 (Nat.le_of_lt_succ hn_9)) hw.1 hI hbc hbs (lv_sub hl [2, 0, 3] rfl)
        · have hw := hw.2 hc_24
          refine lv_iconst (v := 1) hx hb dX2_ordersIn_40 (by decide) ?_
          refine lv_goto (tgt := 45) hx hb dX2_ordersIn_41 (by decide) ?_
          refine lv_iadd hx hb dX2_ordersIn_45 ?_
          refine lv_istore_n (i := 2) (lv' := [(2, .int (x2_9 + (1 : Int32))), (4, va_rf r_20), (1, .int p1), (3, va_rf r_8)]) hx hb dX2_ordersIn_46 rfl hl (by decide) rfl (fun ls hl => ?_)
          refine lv_goto (tgt := 10) hx hb dX2_ordersIn_47 (by decide) ?_
          exact ih_9 _ _ _ _ H locs cells slots ls (Nat.lt_of_lt_of_le hw.2 (Nat.le_of_lt_succ hn_9)) hw.1 hI hbc hbs (lv_sub hl [2, 0, 3] rfl)
  exact hL_9 _ _ _ _ _ H locs cells slots ls (Nat.lt_succ_self _) h0_9 hI hbc hbs (lv_sub hl [3, 1, 0] rfl)
theorem hdG_X2_ordersIn : yX2_ordersIn.cls ≠ "java/lang/invoke/MethodHandle" ∧ yX2_ordersIn.cls ≠ "java/lang/invoke/VarHandle" ∧ (parseMethodDescriptor yX2_ordersIn.desc).map (fun d => d.parameters.length) = some 1 := by decide +kernel
def gw_X1_account_225 (K : ga_K) (post : Int32 → ga_H → Prop) (xp : String → Nat → ga_H → Prop) (p0 : Nat) (v1 : Int32) (h : ga_H) (bc bs : Nat) : Prop :=
  ∃ (fs_105 : List Value) (v_106 : Option Nat), h p0 = some (ga_O 0 fs_105) ∧ fs_105[0]? = some (va_rf v_106) ∧ (∃ a_107 : Nat, v_106 = some a_107 ∧ ∃ kc_108 ks_109 : Nat, kc_108 ≤ bc ∧ ks_109 ≤ bs ∧ ∃ fs_110 : List Value, ga_at K h a_107 (ga_O 1 fs_110) ∧ gw_X2_ordersIn K a_107 (v1 - (11 : Int32)) h kc_108 ks_109 (fun (r_112 : Int32) (h_111 : ga_H) => post r_112 h_111))
set_option maxHeartbeats 4000000 in
theorem gj_X1_account_225 {p : Program} {l : Launch} {e : Env} {s : State} {m : MethodId} {args : Array Value} {below : List Frame} {meth : Method} {c : Code} {mc ms : Nat} {H : Heap} {locs : List Loc} {cells slots : Nat} {ls : Array Slot} (hst : l.stackTraces = false) (htab : c.exceptionTable.toList = []) (g : ga_G) (post : Int32 → ga_H → Prop) (xp : String → Nat → ga_H → Prop) (p0 : Nat) (v1 : Int32) (h : ga_H) (bc bs : Nat) (hC : ga_Cx p s m args meth c cX1_account 2 (some .int) "PaperStore" "account") (hw : gw_X1_account_225 g.2.2 post xp p0 v1 h bc bs) (hI : ga_I g h s H locs) (hbc : cells + bc ≤ mc) (hbs : slots + bs ≤ ms) (hl : lv_has ls 2 [(0, .ref p0), (1, .int v1)]) : W p l e ({ frames := 15, cells := mc, slots := ms, locals := 305 } : Room) s m args below meth c H locs cells slots (vx_MQ below (va_Qi post (ga_E g) (ga_A g)) (ga_X g xp) args s mc ms (ga_A g)) (F0 m 225 ls []) := by
  obtain ⟨hx, hb, hml, hown, hts, hr, hlk, hnm⟩ := hC
  unfold gw_X1_account_225 at hw
  refine lv_aload_n hx hb dX1_account_225 rfl (lv_at hl 0 rfl) ?_
  obtain ⟨fs_105, v_106, hq, hv, hw⟩ := hw
  refine ga_get (ci := 0) (T := TX1) (v := va_rf v_106) hx hb hts hown hI in_X1 rfl 0 (by decide) q387 (fun _ z => z) (ga_at.h hq) hv dX1_account_226 ?_
  refine lv_iload_n hx hb dX1_account_229 rfl (lv_at hl 1 rfl) ?_
  refine lv_bipush (v := 11) hx hb dX1_account_230 (by decide) ?_
  refine lv_isub hx hb dX1_account_232 ?_
  obtain ⟨a_107, ea_107, hw⟩ := hw
  rewrite [ea_107]
  obtain ⟨kc_108, ks_109, hk1, hk2, hw⟩ := hw
  obtain ⟨fs_110, hq, hw⟩ := hw
  refine ga_calli (va_runV (As := [.int (v1 - (11 : Int32))]) (rest := []) ⟨hx, hb, hml, hown, hts⟩ (gm_X2_ordersIn l g a_107 (v1 - (11 : Int32)) h kc_108 ks_109 _ hw) (cwV 1 hts (lw_V q2805 q2806 q2807 q101 q2808) rfl rfl rfl ⟨rfl, hdG_X2_ordersIn⟩ ⟨Nat.le_of_ble_eq_true rfl, Nat.le_of_ble_eq_true rfl⟩) (ga_preV hI hq rfl rfl) rfl rfl hl.1 rfl (ga_room (Nat.le_of_ble_eq_true rfl)) dX1_account_233 ⟨Nat.le_trans (Nat.add_le_add_left hk1 _) hbc, Nat.le_trans (Nat.add_le_add_left hk2 _) hbs⟩) hI hbc hbs hk1 hk2 (fun r_112 h_111 H locs cells slots hw hI hbc hbs => ?_)
  refine lv_goto (tgt := 287) hx hb dX1_account_236 (by decide) ?_
  exact ga_iretx hx hb hr rfl hlk hI hw (Nat.le_trans (Nat.le_add_right _ _) hbc) (Nat.le_trans (Nat.le_add_right _ _) hbs) dX1_account_287
def gw_X1_account_249 (K : ga_K) (post : Int32 → ga_H → Prop) (xp : String → Nat → ga_H → Prop) (p0 : Nat) (v1 : Int32) (h : ga_H) (bc bs : Nat) : Prop :=
  ∃ (fs_122 : List Value) (v_123 : Option Nat), h p0 = some (ga_O 0 fs_122) ∧ fs_122[0]? = some (va_rf v_123) ∧ (∃ a_124 : Nat, v_123 = some a_124 ∧ ∃ fs_125 : List Value, ga_at K h a_124 (ga_O 1 fs_125) ∧ gw_X2_ofAisles K a_124 (v1 - (14 : Int32)) h (fun (r_127 : Int32) (h_126 : ga_H) => post r_127 h_126))
set_option maxHeartbeats 4000000 in
theorem gj_X1_account_249 {p : Program} {l : Launch} {e : Env} {s : State} {m : MethodId} {args : Array Value} {below : List Frame} {meth : Method} {c : Code} {mc ms : Nat} {H : Heap} {locs : List Loc} {cells slots : Nat} {ls : Array Slot} (hst : l.stackTraces = false) (htab : c.exceptionTable.toList = []) (g : ga_G) (post : Int32 → ga_H → Prop) (xp : String → Nat → ga_H → Prop) (p0 : Nat) (v1 : Int32) (h : ga_H) (bc bs : Nat) (hC : ga_Cx p s m args meth c cX1_account 2 (some .int) "PaperStore" "account") (hw : gw_X1_account_249 g.2.2 post xp p0 v1 h bc bs) (hI : ga_I g h s H locs) (hbc : cells + bc ≤ mc) (hbs : slots + bs ≤ ms) (hl : lv_has ls 2 [(0, .ref p0), (1, .int v1)]) : W p l e ({ frames := 15, cells := mc, slots := ms, locals := 305 } : Room) s m args below meth c H locs cells slots (vx_MQ below (va_Qi post (ga_E g) (ga_A g)) (ga_X g xp) args s mc ms (ga_A g)) (F0 m 249 ls []) := by
  obtain ⟨hx, hb, hml, hown, hts, hr, hlk, hnm⟩ := hC
  unfold gw_X1_account_249 at hw
  refine lv_aload_n hx hb dX1_account_249 rfl (lv_at hl 0 rfl) ?_
  obtain ⟨fs_122, v_123, hq, hv, hw⟩ := hw
  refine ga_get (ci := 0) (T := TX1) (v := va_rf v_123) hx hb hts hown hI in_X1 rfl 0 (by decide) q387 (fun _ z => z) (ga_at.h hq) hv dX1_account_250 ?_
  refine lv_iload_n hx hb dX1_account_253 rfl (lv_at hl 1 rfl) ?_
  refine lv_bipush (v := 14) hx hb dX1_account_254 (by decide) ?_
  refine lv_isub hx hb dX1_account_256 ?_
  obtain ⟨a_124, ea_124, hw⟩ := hw
  rewrite [ea_124]
  obtain ⟨fs_125, hq, hw⟩ := hw
  refine ga_calli (va_runV (As := [.int (v1 - (14 : Int32))]) (rest := []) ⟨hx, hb, hml, hown, hts⟩ (gm_X2_ofAisles l g a_124 (v1 - (14 : Int32)) h _ hw) (cwV 1 hts (lw_V q1251 q1252 q1253 q101 q1254) rfl rfl rfl ⟨rfl, hdG_X2_ofAisles⟩ ⟨Nat.le_of_ble_eq_true rfl, Nat.le_of_ble_eq_true rfl⟩) (ga_preV hI hq rfl rfl) rfl rfl hl.1 rfl (ga_room (Nat.le_of_ble_eq_true rfl)) dX1_account_257 ⟨Nat.le_trans (Nat.add_le_add_left (Nat.zero_le _) _) hbc, Nat.le_trans (Nat.add_le_add_left (Nat.zero_le _) _) hbs⟩) hI hbc hbs (Nat.zero_le _) (Nat.zero_le _) (fun r_127 h_126 H locs cells slots hw hI hbc hbs => ?_)
  refine lv_goto (tgt := 287) hx hb dX1_account_260 (by decide) ?_
  exact ga_iretx hx hb hr rfl hlk hI hw (Nat.le_trans (Nat.le_add_right _ _) hbc) (Nat.le_trans (Nat.le_add_right _ _) hbs) dX1_account_287
def gw_X1_account (K : ga_K) (p0 : Nat) (p1 : Int32) (h : ga_H) (mc ms : Nat) (post : Int32 → ga_H → Prop) (xp : String → Nat → ga_H → Prop) : Prop :=
  gw_X1_isIn p1 (0 : Int32) (19 : Int32) (fun (r_1 : Int32) => ∃ kc_2 ks_3 : Nat, kc_2 ≤ mc ∧ ks_3 ≤ ms ∧ gw_X1_checkArgument K r_1 h kc_2 ks_3 (fun (h_4 : ga_H) => (p1 = (0 : Int32) → (∃ (fs_9 : List Value) (v_10 : Option Nat), h_4 p0 = some (ga_O 0 fs_9) ∧ fs_9[0]? = some (va_rf v_10) ∧ (∃ a_11 : Nat, v_10 = some a_11 ∧ ∃ (fs_12 : List Value) (v_13 : Option Nat), h_4 a_11 = some (ga_O 1 fs_12) ∧ fs_12[4]? = some (va_rf v_13) ∧ (∃ a_14 : Nat, v_13 = some a_14 ∧ ∃ fs_15 : List Value, ga_at K h_4 a_14 (ga_O 13 fs_15) ∧ gw_J2_size K a_14 h_4 (fun (r_17 : Int32) (h_16 : ga_H) => post r_17 h_16))))) ∧ (¬ p1 = (0 : Int32) → ((p1 = (1 : Int32) → (∃ (fs_19 : List Value) (v_20 : Option Nat), h_4 p0 = some (ga_O 0 fs_19) ∧ fs_19[0]? = some (va_rf v_20) ∧ (∃ a_21 : Nat, v_20 = some a_21 ∧ ∃ kc_22 ks_23 : Nat, kc_22 ≤ (mc - kc_2) ∧ ks_23 ≤ (ms - ks_3) ∧ ∃ fs_24 : List Value, ga_at K h_4 a_21 (ga_O 1 fs_24) ∧ gw_X2_lying K a_21 h_4 kc_22 ks_23 (fun (r_26 : Option Nat) (h_25 : ga_H) => ∃ a_27 : Nat, r_26 = some a_27 ∧ ∃ fs_28 : List Value, ga_at K h_25 a_27 (ga_O 13 fs_28) ∧ gw_J2_size K a_27 h_25 (fun (r_30 : Int32) (h_29 : ga_H) => post r_30 h_29))))) ∧ (¬ p1 = (1 : Int32) → ((p1 = (2 : Int32) → (∃ (fs_32 : List Value) (v_33 : Option Nat), h_4 p0 = some (ga_O 0 fs_32) ∧ fs_32[0]? = some (va_rf v_33) ∧ (∃ a_34 : Nat, v_33 = some a_34 ∧ ∃ kc_35 ks_36 : Nat, kc_35 ≤ (mc - kc_2) ∧ ks_36 ≤ (ms - ks_3) ∧ ∃ fs_37 : List Value, ga_at K h_4 a_34 (ga_O 1 fs_37) ∧ gw_X2_quires K a_34 h_4 kc_35 ks_36 (fun (r_39 : Int32) (h_38 : ga_H) => post r_39 h_38)))) ∧ (¬ p1 = (2 : Int32) → ((p1 = (3 : Int32) → (∃ kc_41 ks_42 : Nat, kc_41 ≤ (mc - kc_2) ∧ ks_42 ≤ (ms - ks_3) ∧ ∃ fs_43 : List Value, ga_at K h_4 p0 (ga_O 0 fs_43) ∧ gw_X1_wavy K p0 h_4 kc_41 ks_42 (fun (r_45 : Int32) (h_44 : ga_H) => post r_45 h_44))) ∧ (¬ p1 = (3 : Int32) → ((p1 = (4 : Int32) → (∃ (fs_47 : List Value) (v_48 : Option Nat), h_4 p0 = some (ga_O 0 fs_47) ∧ fs_47[0]? = some (va_rf v_48) ∧ (∃ a_49 : Nat, v_48 = some a_49 ∧ ∃ kc_50 ks_51 : Nat, kc_50 ≤ (mc - kc_2) ∧ ks_51 ≤ (ms - ks_3) ∧ ∃ fs_52 : List Value, ga_at K h_4 a_49 (ga_O 1 fs_52) ∧ gw_X2_onCarts K a_49 h_4 kc_50 ks_51 (fun (r_54 : Int32) (h_53 : ga_H) => post r_54 h_53)))) ∧ (¬ p1 = (4 : Int32) → ((p1 = (5 : Int32) → (∃ (fs_56 : List Value) (v_57 : Option Nat), h_4 p0 = some (ga_O 0 fs_56) ∧ fs_56[0]? = some (va_rf v_57) ∧ (∃ a_58 : Nat, v_57 = some a_58 ∧ ∃ (fs_59 : List Value) (v_60 : Int32), h_4 a_58 = some (ga_O 1 fs_59) ∧ fs_59[6]? = some (.int v_60) ∧ (post v_60 h_4)))) ∧ (¬ p1 = (5 : Int32) → ((p1 = (6 : Int32) → (∃ (fs_62 : List Value) (v_63 : Option Nat), h_4 p0 = some (ga_O 0 fs_62) ∧ fs_62[0]? = some (va_rf v_63) ∧ (∃ a_64 : Nat, v_63 = some a_64 ∧ ∃ fs_65 : List Value, ga_at K h_4 a_64 (ga_O 1 fs_65) ∧ gw_X2_ofAisles K a_64 (0 : Int32) h_4 (fun (r_67 : Int32) (h_66 : ga_H) => post r_67 h_66)))) ∧ (¬ p1 = (6 : Int32) → ((p1 = (7 : Int32) → (∃ (fs_69 : List Value) (v_70 : Option Nat), h_4 p0 = some (ga_O 0 fs_69) ∧ fs_69[0]? = some (va_rf v_70) ∧ (∃ a_71 : Nat, v_70 = some a_71 ∧ ∃ (fs_72 : List Value) (v_73 : Int32), h_4 a_71 = some (ga_O 1 fs_72) ∧ fs_72[7]? = some (.int v_73) ∧ (post v_73 h_4)))) ∧ (¬ p1 = (7 : Int32) → ((p1 = (8 : Int32) → (∃ (fs_75 : List Value) (v_76 : Option Nat), h_4 p0 = some (ga_O 0 fs_75) ∧ fs_75[0]? = some (va_rf v_76) ∧ (∃ a_77 : Nat, v_76 = some a_77 ∧ ∃ (fs_78 : List Value) (v_79 : Option Nat), h_4 a_77 = some (ga_O 1 fs_78) ∧ fs_78[1]? = some (va_rf v_79) ∧ (∃ a_80 : Nat, v_79 = some a_80 ∧ ∃ fs_81 : List Value, ga_at K h_4 a_80 (ga_O 13 fs_81) ∧ gw_J2_size K a_80 h_4 (fun (r_83 : Int32) (h_82 : ga_H) => post r_83 h_82))))) ∧ (¬ p1 = (8 : Int32) → ((p1 = (9 : Int32) → (∃ (fs_85 : List Value) (v_86 : Option Nat), h_4 p0 = some (ga_O 0 fs_85) ∧ fs_85[0]? = some (va_rf v_86) ∧ (∃ a_87 : Nat, v_86 = some a_87 ∧ ∃ (fs_88 : List Value) (v_89 : Option Nat), h_4 a_87 = some (ga_O 1 fs_88) ∧ fs_88[3]? = some (va_rf v_89) ∧ (∃ a_90 : Nat, v_89 = some a_90 ∧ ∃ fs_91 : List Value, ga_at K h_4 a_90 (ga_O 13 fs_91) ∧ gw_J2_size K a_90 h_4 (fun (r_93 : Int32) (h_92 : ga_H) => post r_93 h_92))))) ∧ (¬ p1 = (9 : Int32) → ((p1 = (10 : Int32) → (∃ (fs_95 : List Value) (v_96 : Option Nat), h_4 p0 = some (ga_O 0 fs_95) ∧ fs_95[0]? = some (va_rf v_96) ∧ (∃ a_97 : Nat, v_96 = some a_97 ∧ ∃ (fs_98 : List Value) (v_99 : Option Nat), h_4 a_97 = some (ga_O 1 fs_98) ∧ fs_98[2]? = some (va_rf v_99) ∧ (∃ a_100 : Nat, v_99 = some a_100 ∧ ∃ fs_101 : List Value, ga_at K h_4 a_100 (ga_O 13 fs_101) ∧ gw_J2_size K a_100 h_4 (fun (r_103 : Int32) (h_102 : ga_H) => post r_103 h_102))))) ∧ (¬ p1 = (10 : Int32) → ((p1 = (11 : Int32) → (gw_X1_account_225 K post xp p0 p1 h_4 (mc - kc_2) (ms - ks_3))) ∧ (¬ p1 = (11 : Int32) → ((p1 = (12 : Int32) → (gw_X1_account_225 K post xp p0 p1 h_4 (mc - kc_2) (ms - ks_3))) ∧ (¬ p1 = (12 : Int32) → ((p1 = (13 : Int32) → (gw_X1_account_225 K post xp p0 p1 h_4 (mc - kc_2) (ms - ks_3))) ∧ (¬ p1 = (13 : Int32) → ((p1 = (14 : Int32) → (∃ (fs_116 : List Value) (v_117 : Option Nat), h_4 p0 = some (ga_O 0 fs_116) ∧ fs_116[0]? = some (va_rf v_117) ∧ (∃ a_118 : Nat, v_117 = some a_118 ∧ ∃ (fs_119 : List Value) (v_120 : Int32), h_4 a_118 = some (ga_O 1 fs_119) ∧ fs_119[8]? = some (.int v_120) ∧ (post v_120 h_4)))) ∧ (¬ p1 = (14 : Int32) → ((p1 = (15 : Int32) → (gw_X1_account_249 K post xp p0 p1 h_4 (mc - kc_2) (ms - ks_3))) ∧ (¬ p1 = (15 : Int32) → ((p1 = (16 : Int32) → (gw_X1_account_249 K post xp p0 p1 h_4 (mc - kc_2) (ms - ks_3))) ∧ (¬ p1 = (16 : Int32) → ((p1 = (17 : Int32) → (∃ (fs_130 : List Value) (v_131 : Option Nat), h_4 p0 = some (ga_O 0 fs_130) ∧ fs_130[0]? = some (va_rf v_131) ∧ (∃ a_132 : Nat, v_131 = some a_132 ∧ ∃ (fs_133 : List Value) (v_134 : Int32), h_4 a_132 = some (ga_O 1 fs_133) ∧ fs_133[9]? = some (.int v_134) ∧ (post v_134 h_4)))) ∧ (¬ p1 = (17 : Int32) → ((p1 = (18 : Int32) → (∃ (fs_136 : List Value) (v_137 : Int32), h_4 p0 = some (ga_O 0 fs_136) ∧ fs_136[5]? = some (.int v_137) ∧ (post v_137 h_4))) ∧ (¬ p1 = (18 : Int32) → (∃ (fs_138 : List Value) (v_139 : Option Nat), h_4 p0 = some (ga_O 0 fs_138) ∧ fs_138[2]? = some (va_rf v_139) ∧ (∃ a_140 : Nat, v_139 = some a_140 ∧ ∃ fs_141 : List Value, ga_at K h_4 a_140 (ga_O 13 fs_141) ∧ gw_J2_size K a_140 h_4 (fun (r_143 : Int32) (h_142 : ga_H) => post r_143 h_142))))))))))))))))))))))))))))))))))))))))) (fun (E_5 : String) (q_6 : Nat) (h_7 : ga_H) => xp E_5 q_6 h_7))
set_option maxHeartbeats 4000000 in
theorem gm_X1_account (l : Launch) (hst : l.stackTraces = false) (g : ga_G) (p0 : Nat) (p1 : Int32) (h : ga_H) (mc ms : Nat) (post : Int32 → ga_H → Prop) (xp : String → Nat → ga_H → Prop) (hw : gw_X1_account g.2.2 p0 p1 h mc ms post xp) : vx_Met l yX1_account (ws_ yX1_account cX1_account 2 (some .int)) ({ frames := 15, cells := mc, slots := ms, locals := 305 } : Room) (va_Pc [.ref p0, .int p1] (ga_B g h)) (va_Qi post (ga_E g) (ga_A g)) (ga_X g xp) mc ms (ga_A g) := by
  refine ga_metx (own := "PaperStore") (nm := "account") (by decide) rfl rfl (by exact Nat.le_of_ble_eq_true rfl) (fun p e s m below meth c ls hC htab hI hl => ?_)
  have hl : lv_has ls 2 [(0, .ref p0), (1, .int p1)] := hl
  generalize ([.ref p0, .int p1] : List Value).toArray = args at hC ⊢
  obtain ⟨hx, hb, hml, hown, hts, hr, hlk, hnm⟩ := hC
  unfold gw_X1_account at hw
  obtain ⟨H, eH⟩ : ∃ z, z = s.heap := ⟨_, rfl⟩
  obtain ⟨locs, elo⟩ : ∃ z : List Loc, z = [] := ⟨_, rfl⟩
  rw [← eH, ← elo] at hI ⊢
  obtain ⟨cells, slots, hbc, hbs, e0, e1⟩ : ∃ a b : Nat, a + mc ≤ mc ∧ b + ms ≤ ms ∧ a = 0 ∧ b = 0 := ⟨0, 0, by omega, by omega, rfl, rfl⟩
  show W p l e ({ frames := 15, cells := mc, slots := ms, locals := 305 } : Room) s m args below meth c H locs 0 0 (vx_MQ below (va_Qi post (ga_E g) (ga_A g)) (ga_X g xp) args s mc ms (ga_A g)) (F0 m 0 ls [])
  suffices hgoal : W p l e ({ frames := 15, cells := mc, slots := ms, locals := 305 } : Room) s m args below meth c H locs cells slots (vx_MQ below (va_Qi post (ga_E g) (ga_A g)) (ga_X g xp) args s mc ms (ga_A g)) (F0 m 0 ls []) by rw [e0, e1] at hgoal; exact hgoal
  refine lv_iload_n hx hb dX1_account_0 rfl (lv_at hl 1 rfl) ?_
  refine lv_iconst (v := 0) hx hb dX1_account_1 (by decide) ?_
  refine lv_bipush (v := 19) hx hb dX1_account_2 (by decide) ?_
  refine ga_callS (As := [.int p1, .int (0 : Int32), .int (19 : Int32)]) (rest := []) ⟨hx, hb, hml, hown, hts⟩ (gm_X1_isIn l p1 (0 : Int32) (19 : Int32) _ hw) (va_cwS 3 hts (lw_S q2024 q2025 q100 q2026) rfl rfl rfl hdG_X1_isIn ⟨Nat.le_of_ble_eq_true rfl, Nat.le_of_ble_eq_true rfl⟩) rfl hl.1 rfl (ga_room (Nat.le_of_ble_eq_true rfl)) dX1_account_4 hbc hbs (fun r_1 hw => ?_)
  obtain ⟨kc_2, ks_3, hk1, hk2, hw⟩ := hw
  refine ga_xcallv (vx_runS (As := [.int r_1]) (rest := []) ⟨hx, hb, hml, hown, hts⟩ (gm_X1_checkArgument l hst g r_1 h kc_2 ks_3 _ _ hw) (va_cwS 1 hts (lw_S q2027 q2028 q100 q2029) rfl rfl rfl hdG_X1_checkArgument ⟨Nat.le_of_ble_eq_true rfl, Nat.le_of_ble_eq_true rfl⟩) (ga_preS hI rfl) rfl rfl hl.1 rfl (ga_room (Nat.le_of_ble_eq_true rfl)) dX1_account_7 ⟨Nat.le_trans (Nat.add_le_add_left hk1 _) hbc, Nat.le_trans (Nat.add_le_add_left hk2 _) hbs⟩) hI hbc hbs hk1 hk2 (fun E_5 q_6 h_7 ce H locs cells slots hw hI hce hbc hbs => ?_) (fun h_4 H locs cells slots hw hI hbc hbs => ?_)
  · exact ga_out hown hlk hI hw (by rw [htab]; intro z hz; cases hz) hce (Nat.le_trans (Nat.le_add_right _ _) hbc) (Nat.le_trans (Nat.le_add_right _ _) hbs)
  · skip
    refine lv_iload_n hx hb dX1_account_10 rfl (lv_at hl 1 rfl) ?_
    by_cases hc_8 : p1 = (0 : Int32)
    · have hw := hw.1 hc_8
      refine lv_tableIn (tgt := 100) hx hb dX1_account_11 (by rw [hc_8]; decide) (by rw [hc_8]; decide) (off := 89) (by rw [hc_8]; rfl) (by decide) ?_
      refine lv_aload_n hx hb dX1_account_100 rfl (lv_at hl 0 rfl) ?_
      obtain ⟨fs_9, v_10, hq, hv, hw⟩ := hw
      refine ga_get (ci := 0) (T := TX1) (v := va_rf v_10) hx hb hts hown hI in_X1 rfl 0 (by decide) q387 (fun _ z => z) (ga_at.h hq) hv dX1_account_101 ?_
      obtain ⟨a_11, ea_11, hw⟩ := hw
      rewrite [ea_11]
      obtain ⟨fs_12, v_13, hq, hv, hw⟩ := hw
      refine ga_getN (ci := 1) (T := TX2) (v := va_rf v_13) hx hb hts hown hI in_X2 rfl 4 (by decide) q319 (fun _ z => z) (ga_at.h hq) hv dX1_account_104 ?_
      obtain ⟨a_14, ea_14, hw⟩ := hw
      rewrite [ea_14]
      obtain ⟨fs_15, hq, hw⟩ := hw
      refine ga_calli (va_runV (As := []) (rest := []) ⟨hx, hb, hml, hown, hts⟩ (gm_J2_size l g a_14 h_4 _ hw) (cwV 0 hts (lw_V q1240 q536 q4117 q104 q537) rfl rfl rfl ⟨rfl, hdG_J2_size⟩ ⟨Nat.le_of_ble_eq_true rfl, Nat.le_of_ble_eq_true rfl⟩) (ga_preV hI hq rfl rfl) rfl rfl hl.1 rfl (ga_room (Nat.le_of_ble_eq_true rfl)) dX1_account_107 ⟨Nat.le_trans (Nat.add_le_add_left (Nat.zero_le _) _) hbc, Nat.le_trans (Nat.add_le_add_left (Nat.zero_le _) _) hbs⟩) hI hbc hbs (Nat.zero_le _) (Nat.zero_le _) (fun r_17 h_16 H locs cells slots hw hI hbc hbs => ?_)
      refine lv_goto (tgt := 287) hx hb dX1_account_110 (by decide) ?_
      exact ga_iretx hx hb hr rfl hlk hI hw (Nat.le_trans (Nat.le_add_right _ _) hbc) (Nat.le_trans (Nat.le_add_right _ _) hbs) dX1_account_287
    have hw := hw.2 hc_8
    by_cases hc_18 : p1 = (1 : Int32)
    · have hw := hw.1 hc_18
      refine lv_tableIn (tgt := 113) hx hb dX1_account_11 (by rw [hc_18]; decide) (by rw [hc_18]; decide) (off := 102) (by rw [hc_18]; rfl) (by decide) ?_
      refine lv_aload_n hx hb dX1_account_113 rfl (lv_at hl 0 rfl) ?_
      obtain ⟨fs_19, v_20, hq, hv, hw⟩ := hw
      refine ga_get (ci := 0) (T := TX1) (v := va_rf v_20) hx hb hts hown hI in_X1 rfl 0 (by decide) q387 (fun _ z => z) (ga_at.h hq) hv dX1_account_114 ?_
      obtain ⟨a_21, ea_21, hw⟩ := hw
      rewrite [ea_21]
      obtain ⟨kc_22, ks_23, hk1, hk2, hw⟩ := hw
      obtain ⟨fs_24, hq, hw⟩ := hw
      refine ga_callq (va_runV (As := []) (rest := []) ⟨hx, hb, hml, hown, hts⟩ (gm_X2_lying l g a_21 h_4 kc_22 ks_23 _ hw) (cwV 0 hts (lw_V q440 q441 q442 q101 q443) rfl rfl rfl ⟨rfl, hdG_X2_lying⟩ ⟨Nat.le_of_ble_eq_true rfl, Nat.le_of_ble_eq_true rfl⟩) (ga_preV hI hq rfl rfl) rfl rfl hl.1 rfl (ga_room (Nat.le_of_ble_eq_true rfl)) dX1_account_117 ⟨Nat.le_trans (Nat.add_le_add_left hk1 _) hbc, Nat.le_trans (Nat.add_le_add_left hk2 _) hbs⟩) hI hbc hbs hk1 hk2 (fun r_26 h_25 H locs cells slots hw hI hbc hbs => ?_)
      obtain ⟨a_27, ea_27, hw⟩ := hw
      rewrite [ea_27]
      obtain ⟨fs_28, hq, hw⟩ := hw
      refine ga_callFi (va_runF (As := []) (rest := []) (hI.2.1.1.1.1 13 _ rfl).2 ⟨hx, hb, hml, hown, hts⟩ (gm_J2_size l g a_27 h_25 _ hw) (va_cwF 0 hts (lw_app (List.forall_mem_cons.mpr ⟨q2335, List.forall_mem_cons.mpr ⟨q2338, List.forall_mem_cons.mpr ⟨q536, List.forall_mem_cons.mpr ⟨q104, fun _ h => absurd h List.not_mem_nil⟩⟩⟩⟩) (lw_meth q537)) rfl rfl rfl (hI.2.1.1.2.2 _ _ _ ⟨by decide +kernel, q2337, q2336, q2340, q2339, q836⟩) (by decide +kernel) ⟨Nat.le_of_ble_eq_true rfl, Nat.le_of_ble_eq_true rfl⟩) (ga_preV (C := "java/util/ArrayList") hI hq rfl rfl) rfl rfl hl.1 rfl (ga_room (Nat.le_of_ble_eq_true rfl)) dX1_account_120 ⟨Nat.le_trans (Nat.add_le_add_left (Nat.zero_le _) _) hbc, Nat.le_trans (Nat.add_le_add_left (Nat.zero_le _) _) hbs⟩) hI hbc hbs (Nat.zero_le _) (Nat.zero_le _) (fun r_30 h_29 H locs cells slots hw hI hbc hbs => ?_)
      refine lv_goto (tgt := 287) hx hb dX1_account_125 (by decide) ?_
      exact ga_iretx hx hb hr rfl hlk hI hw (Nat.le_trans (Nat.le_add_right _ _) hbc) (Nat.le_trans (Nat.le_add_right _ _) hbs) dX1_account_287
    have hw := hw.2 hc_18
    by_cases hc_31 : p1 = (2 : Int32)
    · have hw := hw.1 hc_31
      refine lv_tableIn (tgt := 128) hx hb dX1_account_11 (by rw [hc_31]; decide) (by rw [hc_31]; decide) (off := 117) (by rw [hc_31]; rfl) (by decide) ?_
      refine lv_aload_n hx hb dX1_account_128 rfl (lv_at hl 0 rfl) ?_
      obtain ⟨fs_32, v_33, hq, hv, hw⟩ := hw
      refine ga_get (ci := 0) (T := TX1) (v := va_rf v_33) hx hb hts hown hI in_X1 rfl 0 (by decide) q387 (fun _ z => z) (ga_at.h hq) hv dX1_account_129 ?_
      obtain ⟨a_34, ea_34, hw⟩ := hw
      rewrite [ea_34]
      obtain ⟨kc_35, ks_36, hk1, hk2, hw⟩ := hw
      obtain ⟨fs_37, hq, hw⟩ := hw
      refine ga_calli (va_runV (As := []) (rest := []) ⟨hx, hb, hml, hown, hts⟩ (gm_X2_quires l g a_34 h_4 kc_35 ks_36 _ hw) (cwV 0 hts (lw_V q2797 q2798 q2799 q101 q2800) rfl rfl rfl ⟨rfl, hdG_X2_quires⟩ ⟨Nat.le_of_ble_eq_true rfl, Nat.le_of_ble_eq_true rfl⟩) (ga_preV hI hq rfl rfl) rfl rfl hl.1 rfl (ga_room (Nat.le_of_ble_eq_true rfl)) dX1_account_132 ⟨Nat.le_trans (Nat.add_le_add_left hk1 _) hbc, Nat.le_trans (Nat.add_le_add_left hk2 _) hbs⟩) hI hbc hbs hk1 hk2 (fun r_39 h_38 H locs cells slots hw hI hbc hbs => ?_)
      refine lv_goto (tgt := 287) hx hb dX1_account_135 (by decide) ?_
      exact ga_iretx hx hb hr rfl hlk hI hw (Nat.le_trans (Nat.le_add_right _ _) hbc) (Nat.le_trans (Nat.le_add_right _ _) hbs) dX1_account_287
    have hw := hw.2 hc_31
    by_cases hc_40 : p1 = (3 : Int32)
    · have hw := hw.1 hc_40
      refine lv_tableIn (tgt := 138) hx hb dX1_account_11 (by rw [hc_40]; decide) (by rw [hc_40]; decide) (off := 127) (by rw [hc_40]; rfl) (by decide) ?_
      refine lv_aload_n hx hb dX1_account_138 rfl (lv_at hl 0 rfl) ?_
      obtain ⟨kc_41, ks_42, hk1, hk2, hw⟩ := hw
      obtain ⟨fs_43, hq, hw⟩ := hw
      refine ga_calli (va_runV (As := []) (rest := []) ⟨hx, hb, hml, hown, hts⟩ (gm_X1_wavy l g p0 h_4 kc_41 ks_42 _ hw) (cwV 0 hts (lw_V q2801 q2803 qs19 q100 q2804) rfl rfl rfl ⟨rfl, hdG_X1_wavy⟩ ⟨Nat.le_of_ble_eq_true rfl, Nat.le_of_ble_eq_true rfl⟩) (ga_preV hI hq rfl rfl) rfl rfl hl.1 rfl (ga_room (Nat.le_of_ble_eq_true rfl)) dX1_account_139 ⟨Nat.le_trans (Nat.add_le_add_left hk1 _) hbc, Nat.le_trans (Nat.add_le_add_left hk2 _) hbs⟩) hI hbc hbs hk1 hk2 (fun r_45 h_44 H locs cells slots hw hI hbc hbs => ?_)
      refine lv_goto (tgt := 287) hx hb dX1_account_142 (by decide) ?_
      exact ga_iretx hx hb hr rfl hlk hI hw (Nat.le_trans (Nat.le_add_right _ _) hbc) (Nat.le_trans (Nat.le_add_right _ _) hbs) dX1_account_287
    have hw := hw.2 hc_40
    by_cases hc_46 : p1 = (4 : Int32)
    · have hw := hw.1 hc_46
      refine lv_tableIn (tgt := 145) hx hb dX1_account_11 (by rw [hc_46]; decide) (by rw [hc_46]; decide) (off := 134) (by rw [hc_46]; rfl) (by decide) ?_
      refine lv_aload_n hx hb dX1_account_145 rfl (lv_at hl 0 rfl) ?_
      obtain ⟨fs_47, v_48, hq, hv, hw⟩ := hw
      refine ga_get (ci := 0) (T := TX1) (v := va_rf v_48) hx hb hts hown hI in_X1 rfl 0 (by decide) q387 (fun _ z => z) (ga_at.h hq) hv dX1_account_146 ?_
      obtain ⟨a_49, ea_49, hw⟩ := hw
      rewrite [ea_49]
      obtain ⟨kc_50, ks_51, hk1, hk2, hw⟩ := hw
      obtain ⟨fs_52, hq, hw⟩ := hw
      refine ga_calli (va_runV (As := []) (rest := []) ⟨hx, hb, hml, hown, hts⟩ (gm_X2_onCarts l g a_49 h_4 kc_50 ks_51 _ hw) (cwV 0 hts (lw_V q1241 q1242 q1243 q101 q1244) rfl rfl rfl ⟨rfl, hdG_X2_onCarts⟩ ⟨Nat.le_of_ble_eq_true rfl, Nat.le_of_ble_eq_true rfl⟩) (ga_preV hI hq rfl rfl) rfl rfl hl.1 rfl (ga_room (Nat.le_of_ble_eq_true rfl)) dX1_account_149 ⟨Nat.le_trans (Nat.add_le_add_left hk1 _) hbc, Nat.le_trans (Nat.add_le_add_left hk2 _) hbs⟩) hI hbc hbs hk1 hk2 (fun r_54 h_53 H locs cells slots hw hI hbc hbs => ?_)
      refine lv_goto (tgt := 287) hx hb dX1_account_152 (by decide) ?_
      exact ga_iretx hx hb hr rfl hlk hI hw (Nat.le_trans (Nat.le_add_right _ _) hbc) (Nat.le_trans (Nat.le_add_right _ _) hbs) dX1_account_287
    have hw := hw.2 hc_46
    by_cases hc_55 : p1 = (5 : Int32)
    · have hw := hw.1 hc_55
      refine lv_tableIn (tgt := 155) hx hb dX1_account_11 (by rw [hc_55]; decide) (by rw [hc_55]; decide) (off := 144) (by rw [hc_55]; rfl) (by decide) ?_
      refine lv_aload_n hx hb dX1_account_155 rfl (lv_at hl 0 rfl) ?_
      obtain ⟨fs_56, v_57, hq, hv, hw⟩ := hw
      refine ga_get (ci := 0) (T := TX1) (v := va_rf v_57) hx hb hts hown hI in_X1 rfl 0 (by decide) q387 (fun _ z => z) (ga_at.h hq) hv dX1_account_156 ?_
      obtain ⟨a_58, ea_58, hw⟩ := hw
      rewrite [ea_58]
      obtain ⟨fs_59, v_60, hq, hv, hw⟩ := hw
      refine ga_getN (ci := 1) (T := TX2) (v := .int v_60) hx hb hts hown hI in_X2 rfl 6 (by decide) q323 (fun _ z => z) (ga_at.h hq) hv dX1_account_159 ?_
      refine lv_goto (tgt := 287) hx hb dX1_account_162 (by decide) ?_
      exact ga_iretx hx hb hr rfl hlk hI hw (Nat.le_trans (Nat.le_add_right _ _) hbc) (Nat.le_trans (Nat.le_add_right _ _) hbs) dX1_account_287
    have hw := hw.2 hc_55
    by_cases hc_61 : p1 = (6 : Int32)
    · have hw := hw.1 hc_61
      refine lv_tableIn (tgt := 165) hx hb dX1_account_11 (by rw [hc_61]; decide) (by rw [hc_61]; decide) (off := 154) (by rw [hc_61]; rfl) (by decide) ?_
      refine lv_aload_n hx hb dX1_account_165 rfl (lv_at hl 0 rfl) ?_
      obtain ⟨fs_62, v_63, hq, hv, hw⟩ := hw
      refine ga_get (ci := 0) (T := TX1) (v := va_rf v_63) hx hb hts hown hI in_X1 rfl 0 (by decide) q387 (fun _ z => z) (ga_at.h hq) hv dX1_account_166 ?_
      refine lv_iconst (v := 0) hx hb dX1_account_169 (by decide) ?_
      obtain ⟨a_64, ea_64, hw⟩ := hw
      rewrite [ea_64]
      obtain ⟨fs_65, hq, hw⟩ := hw
      refine ga_calli (va_runV (As := [.int (0 : Int32)]) (rest := []) ⟨hx, hb, hml, hown, hts⟩ (gm_X2_ofAisles l g a_64 (0 : Int32) h_4 _ hw) (cwV 1 hts (lw_V q1251 q1252 q1253 q101 q1254) rfl rfl rfl ⟨rfl, hdG_X2_ofAisles⟩ ⟨Nat.le_of_ble_eq_true rfl, Nat.le_of_ble_eq_true rfl⟩) (ga_preV hI hq rfl rfl) rfl rfl hl.1 rfl (ga_room (Nat.le_of_ble_eq_true rfl)) dX1_account_170 ⟨Nat.le_trans (Nat.add_le_add_left (Nat.zero_le _) _) hbc, Nat.le_trans (Nat.add_le_add_left (Nat.zero_le _) _) hbs⟩) hI hbc hbs (Nat.zero_le _) (Nat.zero_le _) (fun r_67 h_66 H locs cells slots hw hI hbc hbs => ?_)
      refine lv_goto (tgt := 287) hx hb dX1_account_173 (by decide) ?_
      exact ga_iretx hx hb hr rfl hlk hI hw (Nat.le_trans (Nat.le_add_right _ _) hbc) (Nat.le_trans (Nat.le_add_right _ _) hbs) dX1_account_287
    have hw := hw.2 hc_61
    by_cases hc_68 : p1 = (7 : Int32)
    · have hw := hw.1 hc_68
      refine lv_tableIn (tgt := 176) hx hb dX1_account_11 (by rw [hc_68]; decide) (by rw [hc_68]; decide) (off := 165) (by rw [hc_68]; rfl) (by decide) ?_
      refine lv_aload_n hx hb dX1_account_176 rfl (lv_at hl 0 rfl) ?_
      obtain ⟨fs_69, v_70, hq, hv, hw⟩ := hw
      refine ga_get (ci := 0) (T := TX1) (v := va_rf v_70) hx hb hts hown hI in_X1 rfl 0 (by decide) q387 (fun _ z => z) (ga_at.h hq) hv dX1_account_177 ?_
      obtain ⟨a_71, ea_71, hw⟩ := hw
      rewrite [ea_71]
      obtain ⟨fs_72, v_73, hq, hv, hw⟩ := hw
      refine ga_getN (ci := 1) (T := TX2) (v := .int v_73) hx hb hts hown hI in_X2 rfl 7 (by decide) q325 (fun _ z => z) (ga_at.h hq) hv dX1_account_180 ?_
      refine lv_goto (tgt := 287) hx hb dX1_account_183 (by decide) ?_
      exact ga_iretx hx hb hr rfl hlk hI hw (Nat.le_trans (Nat.le_add_right _ _) hbc) (Nat.le_trans (Nat.le_add_right _ _) hbs) dX1_account_287
    have hw := hw.2 hc_68
    by_cases hc_74 : p1 = (8 : Int32)
    · have hw := hw.1 hc_74
      refine lv_tableIn (tgt := 186) hx hb dX1_account_11 (by rw [hc_74]; decide) (by rw [hc_74]; decide) (off := 175) (by rw [hc_74]; rfl) (by decide) ?_
      refine lv_aload_n hx hb dX1_account_186 rfl (lv_at hl 0 rfl) ?_
      obtain ⟨fs_75, v_76, hq, hv, hw⟩ := hw
      refine ga_get (ci := 0) (T := TX1) (v := va_rf v_76) hx hb hts hown hI in_X1 rfl 0 (by decide) q387 (fun _ z => z) (ga_at.h hq) hv dX1_account_187 ?_
      obtain ⟨a_77, ea_77, hw⟩ := hw
      rewrite [ea_77]
      obtain ⟨fs_78, v_79, hq, hv, hw⟩ := hw
      refine ga_getN (ci := 1) (T := TX2) (v := va_rf v_79) hx hb hts hown hI in_X2 rfl 1 (by decide) q313 (fun _ z => z) (ga_at.h hq) hv dX1_account_190 ?_
      obtain ⟨a_80, ea_80, hw⟩ := hw
      rewrite [ea_80]
      obtain ⟨fs_81, hq, hw⟩ := hw
      refine ga_calli (va_runV (As := []) (rest := []) ⟨hx, hb, hml, hown, hts⟩ (gm_J2_size l g a_80 h_4 _ hw) (cwV 0 hts (lw_V q1240 q536 q4117 q104 q537) rfl rfl rfl ⟨rfl, hdG_J2_size⟩ ⟨Nat.le_of_ble_eq_true rfl, Nat.le_of_ble_eq_true rfl⟩) (ga_preV hI hq rfl rfl) rfl rfl hl.1 rfl (ga_room (Nat.le_of_ble_eq_true rfl)) dX1_account_193 ⟨Nat.le_trans (Nat.add_le_add_left (Nat.zero_le _) _) hbc, Nat.le_trans (Nat.add_le_add_left (Nat.zero_le _) _) hbs⟩) hI hbc hbs (Nat.zero_le _) (Nat.zero_le _) (fun r_83 h_82 H locs cells slots hw hI hbc hbs => ?_)
      refine lv_goto (tgt := 287) hx hb dX1_account_196 (by decide) ?_
      exact ga_iretx hx hb hr rfl hlk hI hw (Nat.le_trans (Nat.le_add_right _ _) hbc) (Nat.le_trans (Nat.le_add_right _ _) hbs) dX1_account_287
    have hw := hw.2 hc_74
    by_cases hc_84 : p1 = (9 : Int32)
    · have hw := hw.1 hc_84
      refine lv_tableIn (tgt := 199) hx hb dX1_account_11 (by rw [hc_84]; decide) (by rw [hc_84]; decide) (off := 188) (by rw [hc_84]; rfl) (by decide) ?_
      refine lv_aload_n hx hb dX1_account_199 rfl (lv_at hl 0 rfl) ?_
      obtain ⟨fs_85, v_86, hq, hv, hw⟩ := hw
      refine ga_get (ci := 0) (T := TX1) (v := va_rf v_86) hx hb hts hown hI in_X1 rfl 0 (by decide) q387 (fun _ z => z) (ga_at.h hq) hv dX1_account_200 ?_
      obtain ⟨a_87, ea_87, hw⟩ := hw
      rewrite [ea_87]
      obtain ⟨fs_88, v_89, hq, hv, hw⟩ := hw
      refine ga_getN (ci := 1) (T := TX2) (v := va_rf v_89) hx hb hts hown hI in_X2 rfl 3 (by decide) q317 (fun _ z => z) (ga_at.h hq) hv dX1_account_203 ?_
      obtain ⟨a_90, ea_90, hw⟩ := hw
      rewrite [ea_90]
      obtain ⟨fs_91, hq, hw⟩ := hw
      refine ga_calli (va_runV (As := []) (rest := []) ⟨hx, hb, hml, hown, hts⟩ (gm_J2_size l g a_90 h_4 _ hw) (cwV 0 hts (lw_V q1240 q536 q4117 q104 q537) rfl rfl rfl ⟨rfl, hdG_J2_size⟩ ⟨Nat.le_of_ble_eq_true rfl, Nat.le_of_ble_eq_true rfl⟩) (ga_preV hI hq rfl rfl) rfl rfl hl.1 rfl (ga_room (Nat.le_of_ble_eq_true rfl)) dX1_account_206 ⟨Nat.le_trans (Nat.add_le_add_left (Nat.zero_le _) _) hbc, Nat.le_trans (Nat.add_le_add_left (Nat.zero_le _) _) hbs⟩) hI hbc hbs (Nat.zero_le _) (Nat.zero_le _) (fun r_93 h_92 H locs cells slots hw hI hbc hbs => ?_)
      refine lv_goto (tgt := 287) hx hb dX1_account_209 (by decide) ?_
      exact ga_iretx hx hb hr rfl hlk hI hw (Nat.le_trans (Nat.le_add_right _ _) hbc) (Nat.le_trans (Nat.le_add_right _ _) hbs) dX1_account_287
    have hw := hw.2 hc_84
    by_cases hc_94 : p1 = (10 : Int32)
    · have hw := hw.1 hc_94
      refine lv_tableIn (tgt := 212) hx hb dX1_account_11 (by rw [hc_94]; decide) (by rw [hc_94]; decide) (off := 201) (by rw [hc_94]; rfl) (by decide) ?_
      refine lv_aload_n hx hb dX1_account_212 rfl (lv_at hl 0 rfl) ?_
      obtain ⟨fs_95, v_96, hq, hv, hw⟩ := hw
      refine ga_get (ci := 0) (T := TX1) (v := va_rf v_96) hx hb hts hown hI in_X1 rfl 0 (by decide) q387 (fun _ z => z) (ga_at.h hq) hv dX1_account_213 ?_
      obtain ⟨a_97, ea_97, hw⟩ := hw
      rewrite [ea_97]
      obtain ⟨fs_98, v_99, hq, hv, hw⟩ := hw
      refine ga_getN (ci := 1) (T := TX2) (v := va_rf v_99) hx hb hts hown hI in_X2 rfl 2 (by decide) q315 (fun _ z => z) (ga_at.h hq) hv dX1_account_216 ?_
      obtain ⟨a_100, ea_100, hw⟩ := hw
      rewrite [ea_100]
      obtain ⟨fs_101, hq, hw⟩ := hw
      refine ga_calli (va_runV (As := []) (rest := []) ⟨hx, hb, hml, hown, hts⟩ (gm_J2_size l g a_100 h_4 _ hw) (cwV 0 hts (lw_V q1240 q536 q4117 q104 q537) rfl rfl rfl ⟨rfl, hdG_J2_size⟩ ⟨Nat.le_of_ble_eq_true rfl, Nat.le_of_ble_eq_true rfl⟩) (ga_preV hI hq rfl rfl) rfl rfl hl.1 rfl (ga_room (Nat.le_of_ble_eq_true rfl)) dX1_account_219 ⟨Nat.le_trans (Nat.add_le_add_left (Nat.zero_le _) _) hbc, Nat.le_trans (Nat.add_le_add_left (Nat.zero_le _) _) hbs⟩) hI hbc hbs (Nat.zero_le _) (Nat.zero_le _) (fun r_103 h_102 H locs cells slots hw hI hbc hbs => ?_)
      refine lv_goto (tgt := 287) hx hb dX1_account_222 (by decide) ?_
      exact ga_iretx hx hb hr rfl hlk hI hw (Nat.le_trans (Nat.le_add_right _ _) hbc) (Nat.le_trans (Nat.le_add_right _ _) hbs) dX1_account_287
    have hw := hw.2 hc_94
    by_cases hc_104 : p1 = (11 : Int32)
    · have hw := hw.1 hc_104
      refine lv_tableIn (tgt := 225) hx hb dX1_account_11 (by rw [hc_104]; decide) (by rw [hc_104]; decide) (off := 214) (by rw [hc_104]; rfl) (by decide) ?_
      exact gj_X1_account_225 hst htab g post xp p0 p1 h_4 (mc - kc_2) (ms - ks_3) ⟨hx, hb, hml, hown, hts, hr, hlk, hnm⟩ hw hI hbc hbs (lv_sub hl [0, 1] rfl)
    have hw := hw.2 hc_104
    by_cases hc_113 : p1 = (12 : Int32)
    · have hw := hw.1 hc_113
      refine lv_tableIn (tgt := 225) hx hb dX1_account_11 (by rw [hc_113]; decide) (by rw [hc_113]; decide) (off := 214) (by rw [hc_113]; rfl) (by decide) ?_
      exact gj_X1_account_225 hst htab g post xp p0 p1 h_4 (mc - kc_2) (ms - ks_3) ⟨hx, hb, hml, hown, hts, hr, hlk, hnm⟩ hw hI hbc hbs (lv_sub hl [0, 1] rfl)
    have hw := hw.2 hc_113
    by_cases hc_114 : p1 = (13 : Int32)
    · have hw := hw.1 hc_114
      refine lv_tableIn (tgt := 225) hx hb dX1_account_11 (by rw [hc_114]; decide) (by rw [hc_114]; decide) (off := 214) (by rw [hc_114]; rfl) (by decide) ?_
      exact gj_X1_account_225 hst htab g post xp p0 p1 h_4 (mc - kc_2) (ms - ks_3) ⟨hx, hb, hml, hown, hts, hr, hlk, hnm⟩ hw hI hbc hbs (lv_sub hl [0, 1] rfl)
    have hw := hw.2 hc_114
    by_cases hc_115 : p1 = (14 : Int32)
    · have hw := hw.1 hc_115
      refine lv_tableIn (tgt := 239) hx hb dX1_account_11 (by rw [hc_115]; decide) (by rw [hc_115]; decide) (off := 228) (by rw [hc_115]; rfl) (by decide) ?_
      refine lv_aload_n hx hb dX1_account_239 rfl (lv_at hl 0 rfl) ?_
      obtain ⟨fs_116, v_117, hq, hv, hw⟩ := hw
      refine ga_get (ci := 0) (T := TX1) (v := va_rf v_117) hx hb hts hown hI in_X1 rfl 0 (by decide) q387 (fun _ z => z) (ga_at.h hq) hv dX1_account_240 ?_
      obtain ⟨a_118, ea_118, hw⟩ := hw
      rewrite [ea_118]
      obtain ⟨fs_119, v_120, hq, hv, hw⟩ := hw
      refine ga_getN (ci := 1) (T := TX2) (v := .int v_120) hx hb hts hown hI in_X2 rfl 8 (by decide) q327 (fun _ z => z) (ga_at.h hq) hv dX1_account_243 ?_
      refine lv_goto (tgt := 287) hx hb dX1_account_246 (by decide) ?_
      exact ga_iretx hx hb hr rfl hlk hI hw (Nat.le_trans (Nat.le_add_right _ _) hbc) (Nat.le_trans (Nat.le_add_right _ _) hbs) dX1_account_287
    have hw := hw.2 hc_115
    by_cases hc_121 : p1 = (15 : Int32)
    · have hw := hw.1 hc_121
      refine lv_tableIn (tgt := 249) hx hb dX1_account_11 (by rw [hc_121]; decide) (by rw [hc_121]; decide) (off := 238) (by rw [hc_121]; rfl) (by decide) ?_
      exact gj_X1_account_249 hst htab g post xp p0 p1 h_4 (mc - kc_2) (ms - ks_3) ⟨hx, hb, hml, hown, hts, hr, hlk, hnm⟩ hw hI hbc hbs (lv_sub hl [0, 1] rfl)
    have hw := hw.2 hc_121
    by_cases hc_128 : p1 = (16 : Int32)
    · have hw := hw.1 hc_128
      refine lv_tableIn (tgt := 249) hx hb dX1_account_11 (by rw [hc_128]; decide) (by rw [hc_128]; decide) (off := 238) (by rw [hc_128]; rfl) (by decide) ?_
      exact gj_X1_account_249 hst htab g post xp p0 p1 h_4 (mc - kc_2) (ms - ks_3) ⟨hx, hb, hml, hown, hts, hr, hlk, hnm⟩ hw hI hbc hbs (lv_sub hl [0, 1] rfl)
    have hw := hw.2 hc_128
    by_cases hc_129 : p1 = (17 : Int32)
    · have hw := hw.1 hc_129
      refine lv_tableIn (tgt := 263) hx hb dX1_account_11 (by rw [hc_129]; decide) (by rw [hc_129]; decide) (off := 252) (by rw [hc_129]; rfl) (by decide) ?_
      refine lv_aload_n hx hb dX1_account_263 rfl (lv_at hl 0 rfl) ?_
      obtain ⟨fs_130, v_131, hq, hv, hw⟩ := hw
      refine ga_get (ci := 0) (T := TX1) (v := va_rf v_131) hx hb hts hown hI in_X1 rfl 0 (by decide) q387 (fun _ z => z) (ga_at.h hq) hv dX1_account_264 ?_
      obtain ⟨a_132, ea_132, hw⟩ := hw
      rewrite [ea_132]
      obtain ⟨fs_133, v_134, hq, hv, hw⟩ := hw
      refine ga_getN (ci := 1) (T := TX2) (v := .int v_134) hx hb hts hown hI in_X2 rfl 9 (by decide) q329 (fun _ z => z) (ga_at.h hq) hv dX1_account_267 ?_
      refine lv_goto (tgt := 287) hx hb dX1_account_270 (by decide) ?_
      exact ga_iretx hx hb hr rfl hlk hI hw (Nat.le_trans (Nat.le_add_right _ _) hbc) (Nat.le_trans (Nat.le_add_right _ _) hbs) dX1_account_287
    have hw := hw.2 hc_129
    by_cases hc_135 : p1 = (18 : Int32)
    · have hw := hw.1 hc_135
      refine lv_tableIn (tgt := 273) hx hb dX1_account_11 (by rw [hc_135]; decide) (by rw [hc_135]; decide) (off := 262) (by rw [hc_135]; rfl) (by decide) ?_
      refine lv_aload_n hx hb dX1_account_273 rfl (lv_at hl 0 rfl) ?_
      obtain ⟨fs_136, v_137, hq, hv, hw⟩ := hw
      refine ga_get (ci := 0) (T := TX1) (v := .int v_137) hx hb hts hown hI in_X1 rfl 5 (by decide) q392 (fun _ z => z) (ga_at.h hq) hv dX1_account_274 ?_
      refine lv_goto (tgt := 287) hx hb dX1_account_277 (by decide) ?_
      exact ga_iretx hx hb hr rfl hlk hI hw (Nat.le_trans (Nat.le_add_right _ _) hbc) (Nat.le_trans (Nat.le_add_right _ _) hbs) dX1_account_287
    have hw := hw.2 hc_135
    refine lv_tableOut (tgt := 280) hx hb dX1_account_11 (zs_out 0 18 19 [0, 1, 2, 3, 4, 5, 6, 7, 8, 9, 10, 11, 12, 13, 14, 15, 16, 17, 18] (by decide) (by decide) (List.forall_mem_cons.mpr ⟨hc_8, List.forall_mem_cons.mpr ⟨hc_18, List.forall_mem_cons.mpr ⟨hc_31, List.forall_mem_cons.mpr ⟨hc_40, List.forall_mem_cons.mpr ⟨hc_46, List.forall_mem_cons.mpr ⟨hc_55, List.forall_mem_cons.mpr ⟨hc_61, List.forall_mem_cons.mpr ⟨hc_68, List.forall_mem_cons.mpr ⟨hc_74, List.forall_mem_cons.mpr ⟨hc_84, List.forall_mem_cons.mpr ⟨hc_94, List.forall_mem_cons.mpr ⟨hc_104, List.forall_mem_cons.mpr ⟨hc_113, List.forall_mem_cons.mpr ⟨hc_114, List.forall_mem_cons.mpr ⟨hc_115, List.forall_mem_cons.mpr ⟨hc_121, List.forall_mem_cons.mpr ⟨hc_128, List.forall_mem_cons.mpr ⟨hc_129, List.forall_mem_cons.mpr ⟨hc_135, fun _ h => absurd h List.not_mem_nil⟩⟩⟩⟩⟩⟩⟩⟩⟩⟩⟩⟩⟩⟩⟩⟩⟩⟩⟩)) (by decide) ?_
    refine lv_aload_n hx hb dX1_account_280 rfl (lv_at hl 0 rfl) ?_
    obtain ⟨fs_138, v_139, hq, hv, hw⟩ := hw
    refine ga_get (ci := 0) (T := TX1) (v := va_rf v_139) hx hb hts hown hI in_X1 rfl 2 (by decide) q389 (fun _ z => z) (ga_at.h hq) hv dX1_account_281 ?_
    obtain ⟨a_140, ea_140, hw⟩ := hw
    rewrite [ea_140]
    obtain ⟨fs_141, hq, hw⟩ := hw
    refine ga_calli (va_runV (As := []) (rest := []) ⟨hx, hb, hml, hown, hts⟩ (gm_J2_size l g a_140 h_4 _ hw) (cwV 0 hts (lw_V q1240 q536 q4117 q104 q537) rfl rfl rfl ⟨rfl, hdG_J2_size⟩ ⟨Nat.le_of_ble_eq_true rfl, Nat.le_of_ble_eq_true rfl⟩) (ga_preV hI hq rfl rfl) rfl rfl hl.1 rfl (ga_room (Nat.le_of_ble_eq_true rfl)) dX1_account_284 ⟨Nat.le_trans (Nat.add_le_add_left (Nat.zero_le _) _) hbc, Nat.le_trans (Nat.add_le_add_left (Nat.zero_le _) _) hbs⟩) hI hbc hbs (Nat.zero_le _) (Nat.zero_le _) (fun r_143 h_142 H locs cells slots hw hI hbc hbs => ?_)
    exact ga_iretx hx hb hr rfl hlk hI hw (Nat.le_trans (Nat.le_add_right _ _) hbc) (Nat.le_trans (Nat.le_add_right _ _) hbs) dX1_account_287
theorem hdG_X1_account : yX1_account.cls ≠ "java/lang/invoke/MethodHandle" ∧ yX1_account.cls ≠ "java/lang/invoke/VarHandle" ∧ (parseMethodDescriptor yX1_account.desc).map (fun d => d.parameters.length) = some 1 := by decide +kernel
def gw_X0_account (K : ga_K) (p0 : Option Nat) (p1 : Int32) (p2 : Option Nat) (h : ga_H) (mc ms : Nat) (post : Int32 → ga_H → Prop) (xp : String → Nat → ga_H → Prop) : Prop :=
  ∃ a_1 : Nat, p0 = some a_1 ∧ ∃ kc_2 ks_3 : Nat, kc_2 ≤ mc ∧ ks_3 ≤ ms ∧ ∃ fs_4 : List Value, ga_at K h a_1 (ga_O 0 fs_4) ∧ gw_X1_account K a_1 p1 h kc_2 ks_3 (fun (r_6 : Int32) (h_5 : ga_H) => ∃ a_10 : Nat, p2 = some a_10 ∧ ∃ (n_11 : Nat) (f_12 : Nat → Int64), h_5 a_10 = some (ga_Al n_11 f_12) ∧ vp_in (0 : Int32) n_11 ∧ ∀ h_13 : ga_H, h_13 = ga_set h_5 a_10 (ga_Al n_11 (vp_updL f_12 (0 : Int32).toNatClampNeg r_6.toInt64)) → (post (0 : Int32) h_13)) (fun (E_7 : String) (q_8 : Nat) (h_9 : ga_H) => (E_7 = "java/lang/IllegalArgumentException" ∧ (post (1 : Int32) h_9)))
set_option maxHeartbeats 4000000 in
theorem gm_X0_account (l : Launch) (hst : l.stackTraces = false) (g : ga_G) (p0 : Option Nat) (p1 : Int32) (p2 : Option Nat) (h : ga_H) (mc ms : Nat) (post : Int32 → ga_H → Prop) (xp : String → Nat → ga_H → Prop) (hw : gw_X0_account g.2.2 p0 p1 p2 h mc ms post xp) : vx_Met l yX0_account (wsW_ yX0_account cX0_account 4 (some .int) [(0, 9, 12, 13)]) ({ frames := 16, cells := mc, slots := ms, locals := 326 } : Room) (va_Pc [va_rf p0, .int p1, va_rf p2] (ga_B g h)) (va_Qi post (ga_E g) (ga_A g)) (ga_X g xp) mc ms (ga_A g) := by
  refine ga_metxW (own := "PaperStoreLaw") (nm := "account") (by decide) rfl rfl (by cases p0 <;> cases p2 <;> exact Nat.le_of_ble_eq_true rfl) (fun p e s m below meth c ls hC htab hI hl => ?_)
  have hl : lv_has ls 4 [(0, va_rf p0), (1, .int p1), (2, va_rf p2)] := (by cases p0 <;> cases p2 <;> exact hl)
  generalize ([va_rf p0, .int p1, va_rf p2] : List Value).toArray = args at hC ⊢
  obtain ⟨hx, hb, hml, hown, hts, hr, hlk, hnm⟩ := hC
  unfold gw_X0_account at hw
  obtain ⟨H, eH⟩ : ∃ z, z = s.heap := ⟨_, rfl⟩
  obtain ⟨locs, elo⟩ : ∃ z : List Loc, z = [] := ⟨_, rfl⟩
  rw [← eH, ← elo] at hI ⊢
  obtain ⟨cells, slots, hbc, hbs, e0, e1⟩ : ∃ a b : Nat, a + mc ≤ mc ∧ b + ms ≤ ms ∧ a = 0 ∧ b = 0 := ⟨0, 0, by omega, by omega, rfl, rfl⟩
  show W p l e ({ frames := 16, cells := mc, slots := ms, locals := 326 } : Room) s m args below meth c H locs 0 0 (vx_MQ below (va_Qi post (ga_E g) (ga_A g)) (ga_X g xp) args s mc ms (ga_A g)) (F0 m 0 ls [])
  suffices hgoal : W p l e ({ frames := 16, cells := mc, slots := ms, locals := 326 } : Room) s m args below meth c H locs cells slots (vx_MQ below (va_Qi post (ga_E g) (ga_A g)) (ga_X g xp) args s mc ms (ga_A g)) (F0 m 0 ls []) by rw [e0, e1] at hgoal; exact hgoal
  refine ga_aload_n hx hb dX0_account_0 rfl (lv_at hl 2 rfl) ?_
  refine lv_iconst (v := 0) hx hb dX0_account_1 (by decide) ?_
  refine ga_aload_n hx hb dX0_account_2 rfl (lv_at hl 0 rfl) ?_
  refine lv_iload_n hx hb dX0_account_3 rfl (lv_at hl 1 rfl) ?_
  obtain ⟨a_1, ea_1, hw⟩ := hw
  rewrite [ea_1]
  obtain ⟨kc_2, ks_3, hk1, hk2, hw⟩ := hw
  obtain ⟨fs_4, hq, hw⟩ := hw
  refine ga_xcalli (vx_runV (As := [.int p1]) (rest := [.int (0 : Int32), va_rf p2]) ⟨hx, hb, hml, hown, hts⟩ (gm_X1_account l hst g a_1 p1 h kc_2 ks_3 _ _ hw) (cwV 1 hts (lw_V q2793 q2794 q2795 q100 q2796) rfl rfl rfl ⟨rfl, hdG_X1_account⟩ ⟨Nat.le_of_ble_eq_true rfl, Nat.le_of_ble_eq_true rfl⟩) (ga_preV hI hq rfl rfl) rfl rfl hl.1 rfl (ga_room (Nat.le_of_ble_eq_true rfl)) dX0_account_4 ⟨Nat.le_trans (Nat.add_le_add_left hk1 _) hbc, Nat.le_trans (Nat.add_le_add_left hk2 _) hbs⟩) hI hbc hbs hk1 hk2 (fun E_7 q_8 h_9 ce H locs cells slots hw hI hce hbc hbs => ?_) (fun r_6 h_5 H locs cells slots hw hI hbc hbs => ?_)
  · obtain ⟨rfl, hw⟩ := hw
    refine ga_catch hown hts hI ([]) (⟨0, 9, 12, 13⟩) ([]) (by rw [htab]; rfl) (fun _ h => absurd h List.not_mem_nil) rfl (by decide) q2017 q1054 hce ?_
    refine W.eq (g2 := F0 m 12 ls [.ref q_8]) rfl ?_
    refine lv_astore_n (i := 3) (lv' := [(3, .ref q_8), (0, va_rf p0), (1, .int p1), (2, va_rf p2)]) hx hb dX0_account_12 rfl hl (by decide) (by simp [ga_rcat, ga_cat_r, ga_cat_i, ga_cat_f, ga_cat_l, ga_cat_d]) (fun ls hl => ?_)
    refine lv_iconst (v := 1) hx hb dX0_account_13 (by decide) ?_
    exact ga_iretx hx hb hr rfl hlk hI hw (Nat.le_trans (Nat.le_add_right _ _) hbc) (Nat.le_trans (Nat.le_add_right _ _) hbs) dX0_account_14
  · skip
    refine lv_i2l (v := r_6.toInt64) hx hb dX0_account_7 rfl ?_
    obtain ⟨a_10, ea_10, hw⟩ := hw
    rewrite [ea_10]
    obtain ⟨n_11, f_12, hq, hi, hw⟩ := hw
    refine ga_stl hx hb hI hq hi dX0_account_8 (fun H locs hI => ?_)
    obtain ⟨h_13, eh_13⟩ : ∃ z, z = ga_set h_5 a_10 (ga_Al n_11 (vp_updL f_12 (0 : Int32).toNatClampNeg r_6.toInt64)) := ⟨_, rfl⟩
    rw [← eh_13] at hI
    have hw := hw h_13 eh_13
    refine lv_goto (tgt := 15) hx hb dX0_account_9 (by decide) ?_
    refine lv_iconst (v := 0) hx hb dX0_account_15 (by decide) ?_
    exact ga_iretx hx hb hr rfl hlk hI hw (Nat.le_trans (Nat.le_add_right _ _) hbc) (Nat.le_trans (Nat.le_add_right _ _) hbs) dX0_account_16
theorem hdG_X0_account : yX0_account.cls ≠ "java/lang/invoke/MethodHandle" ∧ yX0_account.cls ≠ "java/lang/invoke/VarHandle" ∧ (parseMethodDescriptor yX0_account.desc).map (fun d => d.parameters.length) = some 3 := by decide +kernel
def gw_X1_checkState (K : ga_K) (p0 : Int32) (h : ga_H) (mc ms : Nat) (post : ga_H → Prop) (xp : String → Nat → ga_H → Prop) : Prop :=
  (¬ p0 = (0 : Int32) → (post h)) ∧ (p0 = (0 : Int32) → (1 ≤ mc ∧ 6 ≤ ms ∧ ∀ q_2 : Nat, xp "java/lang/IllegalStateException" q_2 h))
set_option maxHeartbeats 4000000 in
theorem gm_X1_checkState (l : Launch) (hst : l.stackTraces = false) (g : ga_G) (p0 : Int32) (h : ga_H) (mc ms : Nat) (post : ga_H → Prop) (xp : String → Nat → ga_H → Prop) (hw : gw_X1_checkState g.2.2 p0 h mc ms post xp) : vx_Met l yX1_checkState (ws_ yX1_checkState cX1_checkState 1 none) ({ frames := 8, cells := mc, slots := ms, locals := 140 } : Room) (va_Pc [.int p0] (ga_B g h)) (va_Qv post (ga_E g) (ga_A g)) (ga_X g xp) mc ms (ga_A g) := by
  refine ga_metx (own := "PaperStore") (nm := "checkState") (by decide) rfl rfl (by exact Nat.le_of_ble_eq_true rfl) (fun p e s m below meth c ls hC htab hI hl => ?_)
  have hl : lv_has ls 1 [(0, .int p0)] := hl
  generalize ([.int p0] : List Value).toArray = args at hC ⊢
  obtain ⟨hx, hb, hml, hown, hts, hr, hlk, hnm⟩ := hC
  unfold gw_X1_checkState at hw
  obtain ⟨H, eH⟩ : ∃ z, z = s.heap := ⟨_, rfl⟩
  obtain ⟨locs, elo⟩ : ∃ z : List Loc, z = [] := ⟨_, rfl⟩
  rw [← eH, ← elo] at hI ⊢
  obtain ⟨cells, slots, hbc, hbs, e0, e1⟩ : ∃ a b : Nat, a + mc ≤ mc ∧ b + ms ≤ ms ∧ a = 0 ∧ b = 0 := ⟨0, 0, by omega, by omega, rfl, rfl⟩
  show W p l e ({ frames := 8, cells := mc, slots := ms, locals := 140 } : Room) s m args below meth c H locs 0 0 (vx_MQ below (va_Qv post (ga_E g) (ga_A g)) (ga_X g xp) args s mc ms (ga_A g)) (F0 m 0 ls [])
  suffices hgoal : W p l e ({ frames := 8, cells := mc, slots := ms, locals := 140 } : Room) s m args below meth c H locs cells slots (vx_MQ below (va_Qv post (ga_E g) (ga_A g)) (ga_X g xp) args s mc ms (ga_A g)) (F0 m 0 ls []) by rw [e0, e1] at hgoal; exact hgoal
  refine lv_iload_n hx hb dX1_checkState_0 rfl (lv_at hl 0 rfl) ?_
  refine lv_if_ne (tgt := 12) hx hb dX1_checkState_1 (by decide) (fun hc_1 => ?_) (fun hc_1 => ?_)
  · have hw := hw.1 hc_1
    exact ga_vretx hx hb hr hlk hI hw (Nat.le_trans (Nat.le_add_right _ _) hbc) (Nat.le_trans (Nat.le_add_right _ _) hbs) dX1_checkState_12
  · have hw := hw.2 hc_1
    exact ga_thr_ise (ik := 16) (ic := 18) hx hb hst hts hown q2820 q2829 hI (hl.1.trans hml.symm) dX1_checkState_4 dX1_checkState_7 dX1_checkState_8 dX1_checkState_11 (by rw [htab]; intro z hz; cases hz) (Nat.le_of_ble_eq_true rfl) (Nat.le_trans (Nat.add_le_add_right (ga_sum [] (Nat.le_of_ble_eq_true rfl)) 81) (Nat.le_of_ble_eq_true rfl)) hlk hbc hbs hw.1 hw.2.1 hw.2.2
theorem hdG_X1_checkState : yX1_checkState.cls ≠ "java/lang/invoke/MethodHandle" ∧ yX1_checkState.cls ≠ "java/lang/invoke/VarHandle" ∧ (parseMethodDescriptor yX1_checkState.desc).map (fun d => d.parameters.length) = some 1 := by decide +kernel
def gw_X1_append_25 (K : ga_K) (post : Int32 → ga_H → Prop) (xp : String → Nat → ga_H → Prop) (p0 : Nat) (t0 : Int32) (v1 : Int32) (h : ga_H) (bc bs : Nat) : Prop :=
  ∃ kc_11 ks_12 : Nat, kc_11 ≤ bc ∧ ks_12 ≤ bs ∧ gw_X1_checkState K t0 h kc_11 ks_12 (fun (h_13 : ga_H) => ∃ (fs_17 : List Value) (v_18 : Option Nat), h_13 p0 = some (ga_O 0 fs_17) ∧ fs_17[3]? = some (va_rf v_18) ∧ (∃ (fs_19 : List Value) (v_20 : Int32), h_13 p0 = some (ga_O 0 fs_19) ∧ fs_19[5]? = some (.int v_20) ∧ (∃ a_21 : Nat, v_18 = some a_21 ∧ ∃ (n_22 : Nat) (f_23 : Nat → Int32), h_13 a_21 = some (ga_Ac n_22 f_23) ∧ vp_in v_20 n_22 ∧ ∀ h_24 : ga_H, h_24 = ga_set h_13 a_21 (ga_Ac n_22 (upd f_23 v_20.toNatClampNeg (vp_nar .char v1))) → (∃ (fs_25 : List Value) (v_26 : Int32), h_24 p0 = some (ga_O 0 fs_25) ∧ fs_25[5]? = some (.int v_26) ∧ (∃ fs_27 : List Value, h_24 p0 = some (ga_O 0 fs_27) ∧ 5 < fs_27.length ∧ ∀ h_28 : ga_H, h_28 = ga_set h_24 p0 (ga_O 0 (fs_27.set 5 (.int (v_26 + (1 : Int32))))) → (∃ (fs_29 : List Value) (v_30 : Int32), h_28 p0 = some (ga_O 0 fs_29) ∧ fs_29[5]? = some (.int v_30) ∧ (post v_30 h_28))))))) (fun (E_14 : String) (q_15 : Nat) (h_16 : ga_H) => xp E_14 q_15 h_16)
set_option maxHeartbeats 4000000 in
theorem gj_X1_append_25 {p : Program} {l : Launch} {e : Env} {s : State} {m : MethodId} {args : Array Value} {below : List Frame} {meth : Method} {c : Code} {mc ms : Nat} {H : Heap} {locs : List Loc} {cells slots : Nat} {ls : Array Slot} (hst : l.stackTraces = false) (htab : c.exceptionTable.toList = []) (g : ga_G) (post : Int32 → ga_H → Prop) (xp : String → Nat → ga_H → Prop) (p0 : Nat) (t0 : Int32) (v1 : Int32) (h : ga_H) (bc bs : Nat) (hC : ga_Cx p s m args meth c cX1_append 2 (some .int) "PaperStore" "append") (hw : gw_X1_append_25 g.2.2 post xp p0 t0 v1 h bc bs) (hI : ga_I g h s H locs) (hbc : cells + bc ≤ mc) (hbs : slots + bs ≤ ms) (hl : lv_has ls 2 [(0, .ref p0), (1, .int v1)]) : W p l e ({ frames := 9, cells := mc, slots := ms, locals := 162 } : Room) s m args below meth c H locs cells slots (vx_MQ below (va_Qi post (ga_E g) (ga_A g)) (ga_X g xp) args s mc ms (ga_A g)) (F0 m 25 ls [.int t0]) := by
  obtain ⟨hx, hb, hml, hown, hts, hr, hlk, hnm⟩ := hC
  unfold gw_X1_append_25 at hw
  obtain ⟨kc_11, ks_12, hk1, hk2, hw⟩ := hw
  refine ga_xcallv (vx_runS (As := [.int t0]) (rest := []) ⟨hx, hb, hml, hown, hts⟩ (gm_X1_checkState l hst g t0 h kc_11 ks_12 _ _ hw) (va_cwS 1 hts (lw_S q2817 q2818 q100 q2819) rfl rfl rfl hdG_X1_checkState ⟨Nat.le_of_ble_eq_true rfl, Nat.le_of_ble_eq_true rfl⟩) (ga_preS hI rfl) rfl rfl hl.1 rfl (ga_room (Nat.le_of_ble_eq_true rfl)) dX1_append_25 ⟨Nat.le_trans (Nat.add_le_add_left hk1 _) hbc, Nat.le_trans (Nat.add_le_add_left hk2 _) hbs⟩) hI hbc hbs hk1 hk2 (fun E_14 q_15 h_16 ce H locs cells slots hw hI hce hbc hbs => ?_) (fun h_13 H locs cells slots hw hI hbc hbs => ?_)
  · exact ga_out hown hlk hI hw (by rw [htab]; intro z hz; cases hz) hce (Nat.le_trans (Nat.le_add_right _ _) hbc) (Nat.le_trans (Nat.le_add_right _ _) hbs)
  · skip
    refine lv_aload_n hx hb dX1_append_28 rfl (lv_at hl 0 rfl) ?_
    obtain ⟨fs_17, v_18, hq, hv, hw⟩ := hw
    refine ga_get (ci := 0) (T := TX1) (v := va_rf v_18) hx hb hts hown hI in_X1 rfl 3 (by decide) q390 (fun _ z => z) (ga_at.h hq) hv dX1_append_29 ?_
    refine lv_aload_n hx hb dX1_append_32 rfl (lv_at hl 0 rfl) ?_
    obtain ⟨fs_19, v_20, hq, hv, hw⟩ := hw
    refine ga_get (ci := 0) (T := TX1) (v := .int v_20) hx hb hts hown hI in_X1 rfl 5 (by decide) q392 (fun _ z => z) (ga_at.h hq) hv dX1_append_33 ?_
    refine lv_iload_n hx hb dX1_append_36 rfl (lv_at hl 1 rfl) ?_
    obtain ⟨a_21, ea_21, hw⟩ := hw
    rewrite [ea_21]
    obtain ⟨n_22, f_23, hq, hi, hw⟩ := hw
    refine ga_stc hx hb hI hq hi dX1_append_37 (fun H locs hI => ?_)
    obtain ⟨h_24, eh_24⟩ : ∃ z, z = ga_set h_13 a_21 (ga_Ac n_22 (upd f_23 v_20.toNatClampNeg (vp_nar .char v1))) := ⟨_, rfl⟩
    rw [← eh_24] at hI
    have hw := hw h_24 eh_24
    refine lv_aload_n hx hb dX1_append_38 rfl (lv_at hl 0 rfl) ?_
    refine lv_dup hx hb dX1_append_39 rfl ?_
    obtain ⟨fs_25, v_26, hq, hv, hw⟩ := hw
    refine ga_get (ci := 0) (T := TX1) (v := .int v_26) hx hb hts hown hI in_X1 rfl 5 (by decide) q392 (fun _ z => z) (ga_at.h hq) hv dX1_append_40 ?_
    refine lv_iconst (v := 1) hx hb dX1_append_43 (by decide) ?_
    refine lv_iadd hx hb dX1_append_44 ?_
    obtain ⟨fs_27, hq, hk, hw⟩ := hw
    refine ga_put (ci := 0) (T := TX1) (v := .int (v_26 + (1 : Int32))) (ty := tyX1 5) hx hb hts hown hI in_X1 rfl tyX1 tyX1_ok nmX1 5 (by decide) q392 (fun _ z => z) rfl (tyX1_ok 5 (by decide)) rfl rfl hq hk dX1_append_45 (fun H locs hI => ?_)
    obtain ⟨h_28, eh_28⟩ : ∃ z, z = ga_set h_24 p0 (ga_O 0 (fs_27.set 5 (.int (v_26 + (1 : Int32))))) := ⟨_, rfl⟩
    rw [← eh_28] at hI
    have hw := hw h_28 eh_28
    refine lv_aload_n hx hb dX1_append_48 rfl (lv_at hl 0 rfl) ?_
    obtain ⟨fs_29, v_30, hq, hv, hw⟩ := hw
    refine ga_get (ci := 0) (T := TX1) (v := .int v_30) hx hb hts hown hI in_X1 rfl 5 (by decide) q392 (fun _ z => z) (ga_at.h hq) hv dX1_append_49 ?_
    exact ga_iretx hx hb hr rfl hlk hI hw (Nat.le_trans (Nat.le_add_right _ _) hbc) (Nat.le_trans (Nat.le_add_right _ _) hbs) dX1_append_52
def gw_X1_append (K : ga_K) (p0 : Nat) (p1 : Int32) (h : ga_H) (mc ms : Nat) (post : Int32 → ga_H → Prop) (xp : String → Nat → ga_H → Prop) : Prop :=
  gw_X1_isIn p1 (32 : Int32) (126 : Int32) (fun (r_1 : Int32) => ∃ kc_2 ks_3 : Nat, kc_2 ≤ mc ∧ ks_3 ≤ ms ∧ gw_X1_checkArgument K r_1 h kc_2 ks_3 (fun (h_4 : ga_H) => ∃ (fs_8 : List Value) (v_9 : Int32), h_4 p0 = some (ga_O 0 fs_8) ∧ fs_8[5]? = some (.int v_9) ∧ (((60 : Int32) ≤ v_9 → (gw_X1_append_25 K post xp p0 (0 : Int32) p1 h_4 (mc - kc_2) (ms - ks_3))) ∧ (¬ (60 : Int32) ≤ v_9 → (gw_X1_append_25 K post xp p0 (1 : Int32) p1 h_4 (mc - kc_2) (ms - ks_3))))) (fun (E_5 : String) (q_6 : Nat) (h_7 : ga_H) => xp E_5 q_6 h_7))
set_option maxHeartbeats 4000000 in
theorem gm_X1_append (l : Launch) (hst : l.stackTraces = false) (g : ga_G) (p0 : Nat) (p1 : Int32) (h : ga_H) (mc ms : Nat) (post : Int32 → ga_H → Prop) (xp : String → Nat → ga_H → Prop) (hw : gw_X1_append g.2.2 p0 p1 h mc ms post xp) : vx_Met l yX1_append (ws_ yX1_append cX1_append 2 (some .int)) ({ frames := 9, cells := mc, slots := ms, locals := 162 } : Room) (va_Pc [.ref p0, .int p1] (ga_B g h)) (va_Qi post (ga_E g) (ga_A g)) (ga_X g xp) mc ms (ga_A g) := by
  refine ga_metx (own := "PaperStore") (nm := "append") (by decide) rfl rfl (by exact Nat.le_of_ble_eq_true rfl) (fun p e s m below meth c ls hC htab hI hl => ?_)
  have hl : lv_has ls 2 [(0, .ref p0), (1, .int p1)] := hl
  generalize ([.ref p0, .int p1] : List Value).toArray = args at hC ⊢
  obtain ⟨hx, hb, hml, hown, hts, hr, hlk, hnm⟩ := hC
  unfold gw_X1_append at hw
  obtain ⟨H, eH⟩ : ∃ z, z = s.heap := ⟨_, rfl⟩
  obtain ⟨locs, elo⟩ : ∃ z : List Loc, z = [] := ⟨_, rfl⟩
  rw [← eH, ← elo] at hI ⊢
  obtain ⟨cells, slots, hbc, hbs, e0, e1⟩ : ∃ a b : Nat, a + mc ≤ mc ∧ b + ms ≤ ms ∧ a = 0 ∧ b = 0 := ⟨0, 0, by omega, by omega, rfl, rfl⟩
  show W p l e ({ frames := 9, cells := mc, slots := ms, locals := 162 } : Room) s m args below meth c H locs 0 0 (vx_MQ below (va_Qi post (ga_E g) (ga_A g)) (ga_X g xp) args s mc ms (ga_A g)) (F0 m 0 ls [])
  suffices hgoal : W p l e ({ frames := 9, cells := mc, slots := ms, locals := 162 } : Room) s m args below meth c H locs cells slots (vx_MQ below (va_Qi post (ga_E g) (ga_A g)) (ga_X g xp) args s mc ms (ga_A g)) (F0 m 0 ls []) by rw [e0, e1] at hgoal; exact hgoal
  refine lv_iload_n hx hb dX1_append_0 rfl (lv_at hl 1 rfl) ?_
  refine lv_bipush (v := 32) hx hb dX1_append_1 (by decide) ?_
  refine lv_bipush (v := 126) hx hb dX1_append_3 (by decide) ?_
  refine ga_callS (As := [.int p1, .int (32 : Int32), .int (126 : Int32)]) (rest := []) ⟨hx, hb, hml, hown, hts⟩ (gm_X1_isIn l p1 (32 : Int32) (126 : Int32) _ hw) (va_cwS 3 hts (lw_S q2024 q2025 q100 q2026) rfl rfl rfl hdG_X1_isIn ⟨Nat.le_of_ble_eq_true rfl, Nat.le_of_ble_eq_true rfl⟩) rfl hl.1 rfl (ga_room (Nat.le_of_ble_eq_true rfl)) dX1_append_5 hbc hbs (fun r_1 hw => ?_)
  obtain ⟨kc_2, ks_3, hk1, hk2, hw⟩ := hw
  refine ga_xcallv (vx_runS (As := [.int r_1]) (rest := []) ⟨hx, hb, hml, hown, hts⟩ (gm_X1_checkArgument l hst g r_1 h kc_2 ks_3 _ _ hw) (va_cwS 1 hts (lw_S q2027 q2028 q100 q2029) rfl rfl rfl hdG_X1_checkArgument ⟨Nat.le_of_ble_eq_true rfl, Nat.le_of_ble_eq_true rfl⟩) (ga_preS hI rfl) rfl rfl hl.1 rfl (ga_room (Nat.le_of_ble_eq_true rfl)) dX1_append_8 ⟨Nat.le_trans (Nat.add_le_add_left hk1 _) hbc, Nat.le_trans (Nat.add_le_add_left hk2 _) hbs⟩) hI hbc hbs hk1 hk2 (fun E_5 q_6 h_7 ce H locs cells slots hw hI hce hbc hbs => ?_) (fun h_4 H locs cells slots hw hI hbc hbs => ?_)
  · exact ga_out hown hlk hI hw (by rw [htab]; intro z hz; cases hz) hce (Nat.le_trans (Nat.le_add_right _ _) hbc) (Nat.le_trans (Nat.le_add_right _ _) hbs)
  · skip
    refine lv_aload_n hx hb dX1_append_11 rfl (lv_at hl 0 rfl) ?_
    obtain ⟨fs_8, v_9, hq, hv, hw⟩ := hw
    refine ga_get (ci := 0) (T := TX1) (v := .int v_9) hx hb hts hown hI in_X1 rfl 5 (by decide) q392 (fun _ z => z) (ga_at.h hq) hv dX1_append_12 ?_
    refine lv_bipush (v := 60) hx hb dX1_append_15 (by decide) ?_
    refine lv_icmp_ge (tgt := 24) hx hb dX1_append_17 (by decide) (fun hc_10 => ?_) (fun hc_10 => ?_)
    · have hw := hw.1 hc_10
      refine lv_iconst (v := 0) hx hb dX1_append_24 (by decide) ?_
      exact gj_X1_append_25 hst htab g post xp p0 (0 : Int32) p1 h_4 (mc - kc_2) (ms - ks_3) ⟨hx, hb, hml, hown, hts, hr, hlk, hnm⟩ hw hI hbc hbs (lv_sub hl [0, 1] rfl)
    · have hw := hw.2 hc_10
      refine lv_iconst (v := 1) hx hb dX1_append_20 (by decide) ?_
      refine lv_goto (tgt := 25) hx hb dX1_append_21 (by decide) ?_
      exact gj_X1_append_25 hst htab g post xp p0 (1 : Int32) p1 h_4 (mc - kc_2) (ms - ks_3) ⟨hx, hb, hml, hown, hts, hr, hlk, hnm⟩ hw hI hbc hbs (lv_sub hl [0, 1] rfl)
theorem hdG_X1_append : yX1_append.cls ≠ "java/lang/invoke/MethodHandle" ∧ yX1_append.cls ≠ "java/lang/invoke/VarHandle" ∧ (parseMethodDescriptor yX1_append.desc).map (fun d => d.parameters.length) = some 1 := by decide +kernel
def gw_X0_append (K : ga_K) (p0 : Option Nat) (p1 : Int32) (p2 : Option Nat) (h : ga_H) (mc ms : Nat) (post : Int32 → ga_H → Prop) (xp : String → Nat → ga_H → Prop) : Prop :=
  ∃ a_1 : Nat, p0 = some a_1 ∧ ∃ kc_2 ks_3 : Nat, kc_2 ≤ mc ∧ ks_3 ≤ ms ∧ ∃ fs_4 : List Value, ga_at K h a_1 (ga_O 0 fs_4) ∧ gw_X1_append K a_1 p1 h kc_2 ks_3 (fun (r_6 : Int32) (h_5 : ga_H) => ∃ a_10 : Nat, p2 = some a_10 ∧ ∃ (n_11 : Nat) (f_12 : Nat → Int64), h_5 a_10 = some (ga_Al n_11 f_12) ∧ vp_in (0 : Int32) n_11 ∧ ∀ h_13 : ga_H, h_13 = ga_set h_5 a_10 (ga_Al n_11 (vp_updL f_12 (0 : Int32).toNatClampNeg r_6.toInt64)) → (post (0 : Int32) h_13)) (fun (E_7 : String) (q_8 : Nat) (h_9 : ga_H) => (E_7 = "java/lang/IllegalArgumentException" ∧ (post (1 : Int32) h_9)) ∨ (E_7 = "java/lang/IllegalStateException" ∧ (post (2 : Int32) h_9)))
set_option maxHeartbeats 4000000 in
theorem gm_X0_append (l : Launch) (hst : l.stackTraces = false) (g : ga_G) (p0 : Option Nat) (p1 : Int32) (p2 : Option Nat) (h : ga_H) (mc ms : Nat) (post : Int32 → ga_H → Prop) (xp : String → Nat → ga_H → Prop) (hw : gw_X0_append g.2.2 p0 p1 p2 h mc ms post xp) : vx_Met l yX0_append (wsW_ yX0_append cX0_append 4 (some .int) [(0, 9, 12, 13), (0, 9, 15, 126)]) ({ frames := 10, cells := mc, slots := ms, locals := 183 } : Room) (va_Pc [va_rf p0, .int p1, va_rf p2] (ga_B g h)) (va_Qi post (ga_E g) (ga_A g)) (ga_X g xp) mc ms (ga_A g) := by
  refine ga_metxW (own := "PaperStoreLaw") (nm := "append") (by decide) rfl rfl (by cases p0 <;> cases p2 <;> exact Nat.le_of_ble_eq_true rfl) (fun p e s m below meth c ls hC htab hI hl => ?_)
  have hl : lv_has ls 4 [(0, va_rf p0), (1, .int p1), (2, va_rf p2)] := (by cases p0 <;> cases p2 <;> exact hl)
  generalize ([va_rf p0, .int p1, va_rf p2] : List Value).toArray = args at hC ⊢
  obtain ⟨hx, hb, hml, hown, hts, hr, hlk, hnm⟩ := hC
  unfold gw_X0_append at hw
  obtain ⟨H, eH⟩ : ∃ z, z = s.heap := ⟨_, rfl⟩
  obtain ⟨locs, elo⟩ : ∃ z : List Loc, z = [] := ⟨_, rfl⟩
  rw [← eH, ← elo] at hI ⊢
  obtain ⟨cells, slots, hbc, hbs, e0, e1⟩ : ∃ a b : Nat, a + mc ≤ mc ∧ b + ms ≤ ms ∧ a = 0 ∧ b = 0 := ⟨0, 0, by omega, by omega, rfl, rfl⟩
  show W p l e ({ frames := 10, cells := mc, slots := ms, locals := 183 } : Room) s m args below meth c H locs 0 0 (vx_MQ below (va_Qi post (ga_E g) (ga_A g)) (ga_X g xp) args s mc ms (ga_A g)) (F0 m 0 ls [])
  suffices hgoal : W p l e ({ frames := 10, cells := mc, slots := ms, locals := 183 } : Room) s m args below meth c H locs cells slots (vx_MQ below (va_Qi post (ga_E g) (ga_A g)) (ga_X g xp) args s mc ms (ga_A g)) (F0 m 0 ls []) by rw [e0, e1] at hgoal; exact hgoal
  refine ga_aload_n hx hb dX0_append_0 rfl (lv_at hl 2 rfl) ?_
  refine lv_iconst (v := 0) hx hb dX0_append_1 (by decide) ?_
  refine ga_aload_n hx hb dX0_append_2 rfl (lv_at hl 0 rfl) ?_
  refine lv_iload_n hx hb dX0_append_3 rfl (lv_at hl 1 rfl) ?_
  obtain ⟨a_1, ea_1, hw⟩ := hw
  rewrite [ea_1]
  obtain ⟨kc_2, ks_3, hk1, hk2, hw⟩ := hw
  obtain ⟨fs_4, hq, hw⟩ := hw
  refine ga_xcalli (vx_runV (As := [.int p1]) (rest := [.int (0 : Int32), va_rf p2]) ⟨hx, hb, hml, hown, hts⟩ (gm_X1_append l hst g a_1 p1 h kc_2 ks_3 _ _ hw) (cwV 1 hts (lw_V q2813 q2814 q2815 q100 q2816) rfl rfl rfl ⟨rfl, hdG_X1_append⟩ ⟨Nat.le_of_ble_eq_true rfl, Nat.le_of_ble_eq_true rfl⟩) (ga_preV hI hq rfl rfl) rfl rfl hl.1 rfl (ga_room (Nat.le_of_ble_eq_true rfl)) dX0_append_4 ⟨Nat.le_trans (Nat.add_le_add_left hk1 _) hbc, Nat.le_trans (Nat.add_le_add_left hk2 _) hbs⟩) hI hbc hbs hk1 hk2 (fun E_7 q_8 h_9 ce H locs cells slots hw hI hce hbc hbs => ?_) (fun r_6 h_5 H locs cells slots hw hI hbc hbs => ?_)
  · rcases hw with ⟨rfl, hw⟩ | ⟨rfl, hw⟩
    · skip
      refine ga_catch hown hts hI ([]) (⟨0, 9, 12, 13⟩) ([⟨0, 9, 15, 126⟩]) (by rw [htab]; rfl) (fun _ h => absurd h List.not_mem_nil) rfl (by decide) q2017 q1054 hce ?_
      refine W.eq (g2 := F0 m 12 ls [.ref q_8]) rfl ?_
      refine lv_astore_n (i := 3) (lv' := [(3, .ref q_8), (0, va_rf p0), (1, .int p1), (2, va_rf p2)]) hx hb dX0_append_12 rfl hl (by decide) (by simp [ga_rcat, ga_cat_r, ga_cat_i, ga_cat_f, ga_cat_l, ga_cat_d]) (fun ls hl => ?_)
      refine lv_iconst (v := 1) hx hb dX0_append_13 (by decide) ?_
      exact ga_iretx hx hb hr rfl hlk hI hw (Nat.le_trans (Nat.le_add_right _ _) hbc) (Nat.le_trans (Nat.le_add_right _ _) hbs) dX0_append_14
    · skip
      refine ga_catch hown hts hI ([⟨0, 9, 12, 13⟩]) (⟨0, 9, 15, 126⟩) ([]) (by rw [htab]; rfl) (List.forall_mem_cons.mpr ⟨Or.inr ⟨by decide, ga_ncs hts hI q2017 (List.mem_of_getElem? (i := 6) rfl)⟩, fun _ h => absurd h List.not_mem_nil⟩) rfl (by decide) q2812 q2822 hce ?_
      refine W.eq (g2 := F0 m 15 ls [.ref q_8]) rfl ?_
      refine lv_astore_n (i := 3) (lv' := [(3, .ref q_8), (0, va_rf p0), (1, .int p1), (2, va_rf p2)]) hx hb dX0_append_15 rfl hl (by decide) (by simp [ga_rcat, ga_cat_r, ga_cat_i, ga_cat_f, ga_cat_l, ga_cat_d]) (fun ls hl => ?_)
      refine lv_iconst (v := 2) hx hb dX0_append_16 (by decide) ?_
      exact ga_iretx hx hb hr rfl hlk hI hw (Nat.le_trans (Nat.le_add_right _ _) hbc) (Nat.le_trans (Nat.le_add_right _ _) hbs) dX0_append_17
  · skip
    refine lv_i2l (v := r_6.toInt64) hx hb dX0_append_7 rfl ?_
    obtain ⟨a_10, ea_10, hw⟩ := hw
    rewrite [ea_10]
    obtain ⟨n_11, f_12, hq, hi, hw⟩ := hw
    refine ga_stl hx hb hI hq hi dX0_append_8 (fun H locs hI => ?_)
    obtain ⟨h_13, eh_13⟩ : ∃ z, z = ga_set h_5 a_10 (ga_Al n_11 (vp_updL f_12 (0 : Int32).toNatClampNeg r_6.toInt64)) := ⟨_, rfl⟩
    rw [← eh_13] at hI
    have hw := hw h_13 eh_13
    refine lv_goto (tgt := 18) hx hb dX0_append_9 (by decide) ?_
    refine lv_iconst (v := 0) hx hb dX0_append_18 (by decide) ?_
    exact ga_iretx hx hb hr rfl hlk hI hw (Nat.le_trans (Nat.le_add_right _ _) hbc) (Nat.le_trans (Nat.le_add_right _ _) hbs) dX0_append_19
theorem hdG_X0_append : yX0_append.cls ≠ "java/lang/invoke/MethodHandle" ∧ yX0_append.cls ≠ "java/lang/invoke/VarHandle" ∧ (parseMethodDescriptor yX0_append.desc).map (fun d => d.parameters.length) = some 3 := by decide +kernel
def gw_X12_init (K : ga_K) (p0 : Nat) (p1 : Option Nat) (p2 : Int32) (h : ga_H) (mc ms : Nat) (post : ga_H → Prop) : Prop :=
  1 ≤ mc ∧ 3 ≤ ms ∧ ∀ q_1 : Nat, h q_1 = none → ∀ h_2 : ga_H, h_2 = ga_set h q_1 (ga_O 13 [.int 0, va_rf none, .int 0]) → (gw_J2_init K q_1 h_2 (fun (h_3 : ga_H) => ∃ fs_4 : List Value, h_3 p0 = some (ga_O 10 fs_4) ∧ 2 < fs_4.length ∧ ∀ h_5 : ga_H, h_5 = ga_set h_3 p0 (ga_O 10 (fs_4.set 2 (va_rf (some q_1)))) → (∃ fs_6 : List Value, h_5 p0 = some (ga_O 10 fs_6) ∧ 0 < fs_6.length ∧ ∀ h_7 : ga_H, h_7 = ga_set h_5 p0 (ga_O 10 (fs_6.set 0 (va_rf p1))) → (∃ fs_8 : List Value, h_7 p0 = some (ga_O 10 fs_8) ∧ 1 < fs_8.length ∧ ∀ h_9 : ga_H, h_9 = ga_set h_7 p0 (ga_O 10 (fs_8.set 1 (.int p2))) → (post h_9)))))
set_option maxHeartbeats 4000000 in
theorem gm_X12_init (l : Launch) (g : ga_G) (p0 : Nat) (p1 : Option Nat) (p2 : Int32) (h : ga_H) (mc ms : Nat) (post : ga_H → Prop) (hw : gw_X12_init g.2.2 p0 p1 p2 h mc ms post) : Met l yX12_init (ws_ yX12_init cX12_init 3 none) ({ frames := 11, cells := mc, slots := ms, locals := 200 } : Room) (va_Pc [.ref p0, va_rf p1, .int p2] (ga_B g h)) (va_Qv post (ga_E g) (ga_A g)) mc ms (ga_A g) := by
  refine ga_met (own := "PaperStore$Parser") (nm := "<init>") (by decide) rfl rfl (by cases p1 <;> exact Nat.le_of_ble_eq_true rfl) (fun p e s m below meth c ls hC hI hl => ?_)
  have hl : lv_has ls 3 [(0, .ref p0), (1, va_rf p1), (2, .int p2)] := (by cases p1 <;> exact hl)
  generalize ([.ref p0, va_rf p1, .int p2] : List Value).toArray = args at hC ⊢
  obtain ⟨hx, hb, hml, hown, hts, hr, hlk, hnm⟩ := hC
  unfold gw_X12_init at hw
  obtain ⟨H, eH⟩ : ∃ z, z = s.heap := ⟨_, rfl⟩
  obtain ⟨locs, elo⟩ : ∃ z : List Loc, z = [] := ⟨_, rfl⟩
  rw [← eH, ← elo] at hI ⊢
  obtain ⟨cells, slots, hbc, hbs, e0, e1⟩ : ∃ a b : Nat, a + mc ≤ mc ∧ b + ms ≤ ms ∧ a = 0 ∧ b = 0 := ⟨0, 0, by omega, by omega, rfl, rfl⟩
  show W p l e ({ frames := 11, cells := mc, slots := ms, locals := 200 } : Room) s m args below meth c H locs 0 0 (MQ below (va_Qv post (ga_E g) (ga_A g)) args s mc ms (ga_A g)) (F0 m 0 ls [])
  suffices hgoal : W p l e ({ frames := 11, cells := mc, slots := ms, locals := 200 } : Room) s m args below meth c H locs cells slots (MQ below (va_Qv post (ga_E g) (ga_A g)) args s mc ms (ga_A g)) (F0 m 0 ls []) by rw [e0, e1] at hgoal; exact hgoal
  refine lv_aload_n hx hb dX12_init_0 rfl (lv_at hl 0 rfl) ?_
  refine W.objInit hx hb hown (hts _ q2848) (hts _ q179) (hts _ q180) rfl (by rw [hml]; exact hl.1) rfl dX12_init_1 (Nat.le_of_ble_eq_true rfl) (by have := ga_sum [] (Nat.le_of_ble_eq_true rfl); exact Nat.le_trans (Nat.add_le_add_right (Nat.add_le_add_left this 0) 12) (Nat.le_of_ble_eq_true rfl)) ?_
  refine W.eq (g2 := F0 m 4 ls []) rfl ?_
  refine lv_aload_n hx hb dX12_init_4 rfl (lv_at hl 0 rfl) ?_
  refine ga_new (ci := 13) (T := TJ2) hx hb hts hown hI in_J2 rfl tyJ2 tyJ2_ok q2849 q190 q104 [.int 0, va_rf none, .int 0] ga_df_J2 hbc hbs hw.1 hw.2.1 dX12_init_5 (fun q_1 H cells slots hn_q_1 hI hbc hbs => ?_)
  obtain ⟨h_2, eh_2⟩ : ∃ z, z = ga_set h q_1 (ga_O 13 [.int 0, va_rf none, .int 0]) := ⟨_, rfl⟩
  rw [← eh_2] at hI
  have hw := hw.2.2 q_1 hn_q_1 h_2 eh_2
  refine lv_dup hx hb dX12_init_8 rfl ?_
  refine ga_callv (va_runI (As := []) (rest := [.ref q_1, .ref p0]) ⟨hx, hb, hml, hown, hts⟩ (gm_J2_init l g q_1 h_2 _ hw) (cwI 0 hts (lw_meth q193) rfl rfl rfl (hts _ q104) (hts _ q2850) (hts _ q192) rfl hdG_J2_init ⟨Nat.le_of_ble_eq_true rfl, Nat.le_of_ble_eq_true rfl⟩) (ga_preS hI rfl) rfl rfl hl.1 rfl (ga_room (Nat.le_of_ble_eq_true rfl)) dX12_init_9 ⟨Nat.le_trans (Nat.add_le_add_left (Nat.zero_le _) _) hbc, Nat.le_trans (Nat.add_le_add_left (Nat.zero_le _) _) hbs⟩) hI hbc hbs (Nat.zero_le _) (Nat.zero_le _) (fun h_3 H locs cells slots hw hI hbc hbs => ?_)
  obtain ⟨fs_4, hq, hk, hw⟩ := hw
  refine ga_putF (ci := 10) (T := TX12) (v := va_rf (some q_1)) (ty := tyX12 2) hx hb hts hown hI in_X12 rfl tyX12 tyX12_ok nmX12 2 (by decide) q2853 (fun _ z => z) rfl hnm rfl (tyX12_ok 2 (by decide)) (ga_nq _ _) (ga_fq _ _) hq hk dX12_init_12 (fun H locs hI => ?_)
  obtain ⟨h_5, eh_5⟩ : ∃ z, z = ga_set h_3 p0 (ga_O 10 (fs_4.set 2 (va_rf (some q_1)))) := ⟨_, rfl⟩
  rw [← eh_5] at hI
  have hw := hw h_5 eh_5
  refine lv_aload_n hx hb dX12_init_15 rfl (lv_at hl 0 rfl) ?_
  refine ga_aload_n hx hb dX12_init_16 rfl (lv_at hl 1 rfl) ?_
  obtain ⟨fs_6, hq, hk, hw⟩ := hw
  refine ga_putF (ci := 10) (T := TX12) (v := va_rf p1) (ty := tyX12 0) hx hb hts hown hI in_X12 rfl tyX12 tyX12_ok nmX12 0 (by decide) q2851 (fun _ z => z) rfl hnm rfl (tyX12_ok 0 (by decide)) (ga_nq' _ _) (ga_fq' _ _) hq hk dX12_init_17 (fun H locs hI => ?_)
  obtain ⟨h_7, eh_7⟩ : ∃ z, z = ga_set h_5 p0 (ga_O 10 (fs_6.set 0 (va_rf p1))) := ⟨_, rfl⟩
  rw [← eh_7] at hI
  have hw := hw h_7 eh_7
  refine lv_aload_n hx hb dX12_init_20 rfl (lv_at hl 0 rfl) ?_
  refine lv_iload_n hx hb dX12_init_21 rfl (lv_at hl 2 rfl) ?_
  obtain ⟨fs_8, hq, hk, hw⟩ := hw
  refine ga_putF (ci := 10) (T := TX12) (v := .int p2) (ty := tyX12 1) hx hb hts hown hI in_X12 rfl tyX12 tyX12_ok nmX12 1 (by decide) q2852 (fun _ z => z) rfl hnm rfl (tyX12_ok 1 (by decide)) rfl rfl hq hk dX12_init_22 (fun H locs hI => ?_)
  obtain ⟨h_9, eh_9⟩ : ∃ z, z = ga_set h_7 p0 (ga_O 10 (fs_8.set 1 (.int p2))) := ⟨_, rfl⟩
  rw [← eh_9] at hI
  have hw := hw h_9 eh_9
  exact ga_vret hx hb hr hlk hI hw (Nat.le_trans (Nat.le_add_right _ _) hbc) (Nat.le_trans (Nat.le_add_right _ _) hbs) dX12_init_25
theorem hdG_X12_init : yX12_init.cls ≠ "java/lang/invoke/MethodHandle" ∧ yX12_init.cls ≠ "java/lang/invoke/VarHandle" ∧ (parseMethodDescriptor yX12_init.desc).map (fun d => d.parameters.length) = some 2 := by decide +kernel
def gw_J24_requireNonNull (K : ga_K) (p0 : Option Nat) (h : ga_H) (mc ms : Nat) (post : Option Nat → ga_H → Prop) : Prop :=
  (p0 = none → False) ∧ (∀ a_1 : Nat, p0 = some a_1 → (post p0 h))
set_option maxHeartbeats 4000000 in
theorem gm_J24_requireNonNull (l : Launch) (g : ga_G) (p0 : Option Nat) (h : ga_H) (mc ms : Nat) (post : Option Nat → ga_H → Prop) (hw : gw_J24_requireNonNull g.2.2 p0 h mc ms post) : Met l yJ24_requireNonNull (ws_ yJ24_requireNonNull cJ24_requireNonNull 1 (some (.object "java/lang/Object"))) ({ frames := 8, cells := mc, slots := ms, locals := 140 } : Room) (va_Pc [va_rf p0] (ga_B g h)) (va_Qq post (ga_E g) (ga_A g)) mc ms (ga_A g) := by
  refine ga_met (own := "java/util/Objects") (nm := "requireNonNull") (by decide) rfl rfl (by cases p0 <;> exact Nat.le_of_ble_eq_true rfl) (fun p e s m below meth c ls hC hI hl => ?_)
  have hl : lv_has ls 1 [(0, va_rf p0)] := (by cases p0 <;> exact hl)
  generalize ([va_rf p0] : List Value).toArray = args at hC ⊢
  obtain ⟨hx, hb, hml, hown, hts, hr, hlk, hnm⟩ := hC
  unfold gw_J24_requireNonNull at hw
  obtain ⟨H, eH⟩ : ∃ z, z = s.heap := ⟨_, rfl⟩
  obtain ⟨locs, elo⟩ : ∃ z : List Loc, z = [] := ⟨_, rfl⟩
  rw [← eH, ← elo] at hI ⊢
  obtain ⟨cells, slots, hbc, hbs, e0, e1⟩ : ∃ a b : Nat, a + mc ≤ mc ∧ b + ms ≤ ms ∧ a = 0 ∧ b = 0 := ⟨0, 0, by omega, by omega, rfl, rfl⟩
  show W p l e ({ frames := 8, cells := mc, slots := ms, locals := 140 } : Room) s m args below meth c H locs 0 0 (MQ below (va_Qq post (ga_E g) (ga_A g)) args s mc ms (ga_A g)) (F0 m 0 ls [])
  suffices hgoal : W p l e ({ frames := 8, cells := mc, slots := ms, locals := 140 } : Room) s m args below meth c H locs cells slots (MQ below (va_Qq post (ga_E g) (ga_A g)) args s mc ms (ga_A g)) (F0 m 0 ls []) by rw [e0, e1] at hgoal; exact hgoal
  refine ga_aload_n hx hb dJ24_requireNonNull_0 rfl (lv_at hl 0 rfl) ?_
  refine ga_ifnonnull (tgt := 12) hx hb dJ24_requireNonNull_1 (by decide) (fun a_1 hc_a_1 => ?_) (fun hc_a_1 => ?_)
  · have hw := hw.2 a_1 hc_a_1
    skip
    refine ga_aload_n hx hb dJ24_requireNonNull_12 rfl (lv_at hl 0 rfl) ?_
    exact ga_qret (v := p0) hx hb hr (Or.inl ⟨_, rfl⟩) hlk hI hw (Nat.le_trans (Nat.le_add_right _ _) hbc) (Nat.le_trans (Nat.le_add_right _ _) hbs) dJ24_requireNonNull_13
  · have hw := hw.1 hc_a_1
    exact hw.elim
theorem hdG_J24_requireNonNull : yJ24_requireNonNull.cls ≠ "java/lang/invoke/MethodHandle" ∧ yJ24_requireNonNull.cls ≠ "java/lang/invoke/VarHandle" ∧ (parseMethodDescriptor yJ24_requireNonNull.desc).map (fun d => d.parameters.length) = some 1 := by decide +kernel
def gw_J46_init (K : ga_K) (p0 : Nat) (h : ga_H) (post : ga_H → Prop) : Prop :=
  gw_J0_init K p0 h (fun (h_1 : ga_H) => post h_1)
set_option maxHeartbeats 4000000 in
theorem gm_J46_init (l : Launch) (g : ga_G) (p0 : Nat) (h : ga_H) (post : ga_H → Prop) (hw : gw_J46_init g.2.2 p0 h post) : Met l yJ46_init (ws_ yJ46_init cJ46_init 1 none) ({ frames := 9, cells := 0, slots := 0, locals := 160 } : Room) (va_Pc [.ref p0] (ga_B g h)) (va_Qv post (ga_E g) (ga_A g)) 0 0 (ga_A g) := by
  refine ga_met (own := "java/util/ImmutableCollections$AbstractImmutableCollection") (nm := "<init>") (by decide) rfl rfl (by exact Nat.le_of_ble_eq_true rfl) (fun p e s m below meth c ls hC hI hl => ?_)
  have hl : lv_has ls 1 [(0, .ref p0)] := hl
  generalize ([.ref p0] : List Value).toArray = args at hC ⊢
  obtain ⟨hx, hb, hml, hown, hts, hr, hlk, hnm⟩ := hC
  unfold gw_J46_init at hw
  obtain ⟨H, eH⟩ : ∃ z, z = s.heap := ⟨_, rfl⟩
  obtain ⟨locs, elo⟩ : ∃ z : List Loc, z = [] := ⟨_, rfl⟩
  rw [← eH, ← elo] at hI ⊢
  obtain ⟨cells, slots, hbc, hbs, e0, e1⟩ : ∃ a b : Nat, a ≤ 0 ∧ b ≤ 0 ∧ a = 0 ∧ b = 0 := ⟨0, 0, by omega, by omega, rfl, rfl⟩
  show W p l e ({ frames := 9, cells := 0, slots := 0, locals := 160 } : Room) s m args below meth c H locs 0 0 (MQ below (va_Qv post (ga_E g) (ga_A g)) args s 0 0 (ga_A g)) (F0 m 0 ls [])
  suffices hgoal : W p l e ({ frames := 9, cells := 0, slots := 0, locals := 160 } : Room) s m args below meth c H locs cells slots (MQ below (va_Qv post (ga_E g) (ga_A g)) args s 0 0 (ga_A g)) (F0 m 0 ls []) by rw [e0, e1] at hgoal; exact hgoal
  refine lv_aload_n hx hb dJ46_init_0 rfl (lv_at hl 0 rfl) ?_
  refine ga_callv (va_runI (As := []) (rest := []) ⟨hx, hb, hml, hown, hts⟩ (gm_J0_init l g p0 h _ hw) (cwI 0 hts (lw_meth q199) rfl rfl rfl (hts _ q102) (hts _ q2910) (hts _ q198) rfl hdG_J0_init ⟨Nat.le_of_ble_eq_true rfl, Nat.le_of_ble_eq_true rfl⟩) (ga_preS hI rfl) rfl rfl hl.1 rfl (ga_room (Nat.le_of_ble_eq_true rfl)) dJ46_init_1 ⟨hbc, hbs⟩) hI (bc := 0) (bs := 0) hbc hbs (Nat.zero_le _) (Nat.zero_le _) (fun h_1 H locs cells slots hw hI hbc hbs => ?_)
  exact ga_vret hx hb hr hlk hI hw hbc hbs dJ46_init_4
theorem hdG_J46_init : yJ46_init.cls ≠ "java/lang/invoke/MethodHandle" ∧ yJ46_init.cls ≠ "java/lang/invoke/VarHandle" ∧ (parseMethodDescriptor yJ46_init.desc).map (fun d => d.parameters.length) = some 0 := by decide +kernel
def gw_J47_init (K : ga_K) (p0 : Nat) (h : ga_H) (post : ga_H → Prop) : Prop :=
  gw_J46_init K p0 h (fun (h_1 : ga_H) => post h_1)
set_option maxHeartbeats 4000000 in
theorem gm_J47_init (l : Launch) (g : ga_G) (p0 : Nat) (h : ga_H) (post : ga_H → Prop) (hw : gw_J47_init g.2.2 p0 h post) : Met l yJ47_init (ws_ yJ47_init cJ47_init 1 none) ({ frames := 10, cells := 0, slots := 0, locals := 180 } : Room) (va_Pc [.ref p0] (ga_B g h)) (va_Qv post (ga_E g) (ga_A g)) 0 0 (ga_A g) := by
  refine ga_met (own := "java/util/ImmutableCollections$AbstractImmutableList") (nm := "<init>") (by decide) rfl rfl (by exact Nat.le_of_ble_eq_true rfl) (fun p e s m below meth c ls hC hI hl => ?_)
  have hl : lv_has ls 1 [(0, .ref p0)] := hl
  generalize ([.ref p0] : List Value).toArray = args at hC ⊢
  obtain ⟨hx, hb, hml, hown, hts, hr, hlk, hnm⟩ := hC
  unfold gw_J47_init at hw
  obtain ⟨H, eH⟩ : ∃ z, z = s.heap := ⟨_, rfl⟩
  obtain ⟨locs, elo⟩ : ∃ z : List Loc, z = [] := ⟨_, rfl⟩
  rw [← eH, ← elo] at hI ⊢
  obtain ⟨cells, slots, hbc, hbs, e0, e1⟩ : ∃ a b : Nat, a ≤ 0 ∧ b ≤ 0 ∧ a = 0 ∧ b = 0 := ⟨0, 0, by omega, by omega, rfl, rfl⟩
  show W p l e ({ frames := 10, cells := 0, slots := 0, locals := 180 } : Room) s m args below meth c H locs 0 0 (MQ below (va_Qv post (ga_E g) (ga_A g)) args s 0 0 (ga_A g)) (F0 m 0 ls [])
  suffices hgoal : W p l e ({ frames := 10, cells := 0, slots := 0, locals := 180 } : Room) s m args below meth c H locs cells slots (MQ below (va_Qv post (ga_E g) (ga_A g)) args s 0 0 (ga_A g)) (F0 m 0 ls []) by rw [e0, e1] at hgoal; exact hgoal
  refine lv_aload_n hx hb dJ47_init_0 rfl (lv_at hl 0 rfl) ?_
  refine ga_callv (va_runI (As := []) (rest := []) ⟨hx, hb, hml, hown, hts⟩ (gm_J46_init l g p0 h _ hw) (cwI 0 hts (lw_meth q2909) rfl rfl rfl (hts _ q162) (hts _ q2907) (hts _ q2908) rfl hdG_J46_init ⟨Nat.le_of_ble_eq_true rfl, Nat.le_of_ble_eq_true rfl⟩) (ga_preS hI rfl) rfl rfl hl.1 rfl (ga_room (Nat.le_of_ble_eq_true rfl)) dJ47_init_1 ⟨hbc, hbs⟩) hI (bc := 0) (bs := 0) hbc hbs (Nat.zero_le _) (Nat.zero_le _) (fun h_1 H locs cells slots hw hI hbc hbs => ?_)
  exact ga_vret hx hb hr hlk hI hw hbc hbs dJ47_init_4
theorem hdG_J47_init : yJ47_init.cls ≠ "java/lang/invoke/MethodHandle" ∧ yJ47_init.cls ≠ "java/lang/invoke/VarHandle" ∧ (parseMethodDescriptor yJ47_init.desc).map (fun d => d.parameters.length) = some 0 := by decide +kernel
def gw_J49_init (K : ga_K) (p0 : Nat) (p1 : Option Nat) (p2 : Int32) (h : ga_H) (post : ga_H → Prop) : Prop :=
  gw_J47_init K p0 h (fun (h_1 : ga_H) => ∃ fs_2 : List Value, h_1 p0 = some (ga_O 26 fs_2) ∧ 0 < fs_2.length ∧ ∀ h_3 : ga_H, h_3 = ga_set h_1 p0 (ga_O 26 (fs_2.set 0 (va_rf p1))) → (∃ fs_4 : List Value, h_3 p0 = some (ga_O 26 fs_4) ∧ 1 < fs_4.length ∧ zt_nar .boolean p2 ∧ fits .boolean (.int p2) = true ∧ ∀ h_5 : ga_H, h_5 = ga_set h_3 p0 (ga_O 26 (fs_4.set 1 (.int p2))) → (post h_5)))
set_option maxHeartbeats 4000000 in
theorem gm_J49_init (l : Launch) (g : ga_G) (p0 : Nat) (p1 : Option Nat) (p2 : Int32) (h : ga_H) (post : ga_H → Prop) (hw : gw_J49_init g.2.2 p0 p1 p2 h post) : Met l yJ49_init (ws_ yJ49_init cJ49_init 3 none) ({ frames := 11, cells := 0, slots := 0, locals := 200 } : Room) (va_Pc [.ref p0, va_rf p1, .int p2] (ga_B g h)) (va_Qv post (ga_E g) (ga_A g)) 0 0 (ga_A g) := by
  refine ga_met (own := "java/util/ImmutableCollections$ListN") (nm := "<init>") (by decide) rfl rfl (by cases p1 <;> exact Nat.le_of_ble_eq_true rfl) (fun p e s m below meth c ls hC hI hl => ?_)
  have hl : lv_has ls 3 [(0, .ref p0), (1, va_rf p1), (2, .int p2)] := (by cases p1 <;> exact hl)
  generalize ([.ref p0, va_rf p1, .int p2] : List Value).toArray = args at hC ⊢
  obtain ⟨hx, hb, hml, hown, hts, hr, hlk, hnm⟩ := hC
  unfold gw_J49_init at hw
  obtain ⟨H, eH⟩ : ∃ z, z = s.heap := ⟨_, rfl⟩
  obtain ⟨locs, elo⟩ : ∃ z : List Loc, z = [] := ⟨_, rfl⟩
  rw [← eH, ← elo] at hI ⊢
  obtain ⟨cells, slots, hbc, hbs, e0, e1⟩ : ∃ a b : Nat, a ≤ 0 ∧ b ≤ 0 ∧ a = 0 ∧ b = 0 := ⟨0, 0, by omega, by omega, rfl, rfl⟩
  show W p l e ({ frames := 11, cells := 0, slots := 0, locals := 200 } : Room) s m args below meth c H locs 0 0 (MQ below (va_Qv post (ga_E g) (ga_A g)) args s 0 0 (ga_A g)) (F0 m 0 ls [])
  suffices hgoal : W p l e ({ frames := 11, cells := 0, slots := 0, locals := 200 } : Room) s m args below meth c H locs cells slots (MQ below (va_Qv post (ga_E g) (ga_A g)) args s 0 0 (ga_A g)) (F0 m 0 ls []) by rw [e0, e1] at hgoal; exact hgoal
  refine lv_aload_n hx hb dJ49_init_0 rfl (lv_at hl 0 rfl) ?_
  refine ga_callv (va_runI (As := []) (rest := []) ⟨hx, hb, hml, hown, hts⟩ (gm_J47_init l g p0 h _ hw) (cwI 0 hts (lw_meth q2906) rfl rfl rfl (hts _ q163) (hts _ q2926) (hts _ q2905) rfl hdG_J47_init ⟨Nat.le_of_ble_eq_true rfl, Nat.le_of_ble_eq_true rfl⟩) (ga_preS hI rfl) rfl rfl hl.1 rfl (ga_room (Nat.le_of_ble_eq_true rfl)) dJ49_init_1 ⟨hbc, hbs⟩) hI (bc := 0) (bs := 0) hbc hbs (Nat.zero_le _) (Nat.zero_le _) (fun h_1 H locs cells slots hw hI hbc hbs => ?_)
  refine lv_aload_n hx hb dJ49_init_4 rfl (lv_at hl 0 rfl) ?_
  refine ga_aload_n hx hb dJ49_init_5 rfl (lv_at hl 1 rfl) ?_
  obtain ⟨fs_2, hq, hk, hw⟩ := hw
  refine ga_putF (ci := 26) (T := TJ49) (v := va_rf p1) (ty := tyJ49 0) hx hb hts hown hI in_J49 rfl tyJ49 tyJ49_ok nmJ49 0 (by decide) q2927 (fun _ z => z) rfl hnm rfl (tyJ49_ok 0 (by decide)) (ga_nq' _ _) (ga_fq' _ _) hq hk dJ49_init_6 (fun H locs hI => ?_)
  obtain ⟨h_3, eh_3⟩ : ∃ z, z = ga_set h_1 p0 (ga_O 26 (fs_2.set 0 (va_rf p1))) := ⟨_, rfl⟩
  rw [← eh_3] at hI
  have hw := hw h_3 eh_3
  refine lv_aload_n hx hb dJ49_init_9 rfl (lv_at hl 0 rfl) ?_
  refine lv_iload_n hx hb dJ49_init_10 rfl (lv_at hl 2 rfl) ?_
  obtain ⟨fs_4, hq, hk, hw⟩ := hw
  obtain ⟨hnz, hw⟩ := hw
  obtain ⟨hfz, hw⟩ := hw
  refine ga_putF (ci := 26) (T := TJ49) (v := .int p2) (ty := tyJ49 1) hx hb hts hown hI in_J49 rfl tyJ49 tyJ49_ok nmJ49 1 (by decide) q2928 (fun _ z => z) rfl hnm rfl (tyJ49_ok 1 (by decide)) hnz hfz hq hk dJ49_init_11 (fun H locs hI => ?_)
  obtain ⟨h_5, eh_5⟩ : ∃ z, z = ga_set h_3 p0 (ga_O 26 (fs_4.set 1 (.int p2))) := ⟨_, rfl⟩
  rw [← eh_5] at hI
  have hw := hw h_5 eh_5
  exact ga_vret hx hb hr hlk hI hw hbc hbs dJ49_init_14
theorem hdG_J49_init : yJ49_init.cls ≠ "java/lang/invoke/MethodHandle" ∧ yJ49_init.cls ≠ "java/lang/invoke/VarHandle" ∧ (parseMethodDescriptor yJ49_init.desc).map (fun d => d.parameters.length) = some 2 := by decide +kernel
def gw_J15_listFromTrustedArray_23 (K : ga_K) (post : Option Nat → ga_H → Prop) (v0 : Option Nat) (h : ga_H) (bc bs : Nat) : Prop :=
  ∃ a_2 : Nat, v0 = some a_2 ∧ ∃ (n_3 : Nat) (f_4 : Nat → Option Nat), ga_at K h a_2 (ga_Aq 5 n_3 f_4) ∧ (∃ (In_5 : Int32 → ga_H → Nat → Nat → Prop) (mu_5 : Int32 → ga_H → Nat → Nat → Nat), In_5 (0 : Int32) h bc bs ∧ ∀ (x3_5 : Int32) (h_5 : ga_H) (bc_5 : Nat) (bs_5 : Nat), In_5 x3_5 h_5 bc_5 bs_5 → ((nI n_3 ≤ x3_5 → (∃ a_7 : Nat, v0 = some a_7 ∧ ∃ (n_8 : Nat) (f_9 : Nat → Option Nat), ga_at K h_5 a_7 (ga_Aq 5 n_8 f_9) ∧ ((nI n_8 = (0 : Int32) → False) ∧ (¬ nI n_8 = (0 : Int32) → ((nI n_8 = (1 : Int32) → False) ∧ (¬ nI n_8 = (1 : Int32) → ((nI n_8 = (2 : Int32) → False) ∧ (¬ nI n_8 = (2 : Int32) → (1 ≤ bc_5 ∧ 2 ≤ bs_5 ∧ ∀ q_13 : Nat, h_5 q_13 = none → ∀ h_14 : ga_H, h_14 = ga_set h_5 q_13 (ga_O 26 [va_rf none, .int 0]) → (gw_J49_init K q_13 v0 (0 : Int32) h_14 (fun (h_15 : ga_H) => post (some q_13) h_15))))))))))) ∧ (¬ nI n_3 ≤ x3_5 → (∃ a_16 : Nat, v0 = some a_16 ∧ ∃ (n_17 : Nat) (f_18 : Nat → Option Nat), ga_at K h_5 a_16 (ga_Aq 5 n_17 f_18) ∧ vp_in x3_5 n_17 ∧ ∀ v_19 : Option Nat, v_19 = f_18 x3_5.toNatClampNeg → (∃ kc_20 ks_21 : Nat, kc_20 ≤ bc_5 ∧ ks_21 ≤ bs_5 ∧ gw_J24_requireNonNull K v_19 h_5 kc_20 ks_21 (fun (r_23 : Option Nat) (h_22 : ga_H) => In_5 (x3_5 + (1 : Int32)) h_22 (bc_5 - kc_20) (bs_5 - ks_21) ∧ mu_5 (x3_5 + (1 : Int32)) h_22 (bc_5 - kc_20) (bs_5 - ks_21) < mu_5 x3_5 h_5 bc_5 bs_5))))))
set_option maxHeartbeats 4000000 in
theorem gj_J15_listFromTrustedArray_23 {p : Program} {l : Launch} {e : Env} {s : State} {m : MethodId} {args : Array Value} {below : List Frame} {meth : Method} {c : Code} {mc ms : Nat} {H : Heap} {locs : List Loc} {cells slots : Nat} {ls : Array Slot} (g : ga_G) (post : Option Nat → ga_H → Prop) (v0 : Option Nat) (h : ga_H) (bc bs : Nat) (hC : ga_Cx p s m args meth c cJ15_listFromTrustedArray 5 (some (.object "java/util/List")) "java/util/ImmutableCollections" "listFromTrustedArray") (hw : gw_J15_listFromTrustedArray_23 g.2.2 post v0 h bc bs) (hI : ga_I g h s H locs) (hbc : cells + bc ≤ mc) (hbs : slots + bs ≤ ms) (hl : lv_has ls 5 [(0, va_rf v0)]) : W p l e ({ frames := 12, cells := mc, slots := ms, locals := 222 } : Room) s m args below meth c H locs cells slots (MQ below (va_Qq post (ga_E g) (ga_A g)) args s mc ms (ga_A g)) (F0 m 23 ls []) := by
  obtain ⟨hx, hb, hml, hown, hts, hr, hlk, hnm⟩ := hC
  unfold gw_J15_listFromTrustedArray_23 at hw
  refine ga_aload_n hx hb dJ15_listFromTrustedArray_23 rfl (lv_at hl 0 rfl) ?_
  refine ga_astore_n (i := 1) (x := v0) (lv' := [(1, va_rf v0), (0, va_rf v0)]) hx hb dJ15_listFromTrustedArray_24 rfl hl (by decide) (by simp [ga_rcat, ga_cat_r, ga_cat_i, ga_cat_f, ga_cat_l, ga_cat_d]) (fun ls hl => ?_)
  refine ga_aload_n hx hb dJ15_listFromTrustedArray_25 rfl (lv_at hl 0 rfl) ?_
  obtain ⟨a_2, ea_2, hw⟩ := hw
  rewrite [ea_2]
  obtain ⟨n_3, f_4, hq, hw⟩ := hw
  refine ga_len hx hb hI hq rfl dJ15_listFromTrustedArray_26 ?_
  refine lv_istore_n (i := 2) (lv' := [(2, .int (nI n_3)), (1, va_rf v0), (0, va_rf v0)]) hx hb dJ15_listFromTrustedArray_27 rfl hl (by decide) (by simp [ga_rcat, ga_cat_r, ga_cat_i, ga_cat_f, ga_cat_l, ga_cat_d]) (fun ls hl => ?_)
  refine lv_iconst (v := 0) hx hb dJ15_listFromTrustedArray_28 (by decide) ?_
  refine lv_istore_n (i := 3) (lv' := [(3, .int (0 : Int32)), (2, .int (nI n_3)), (1, va_rf v0), (0, va_rf v0)]) hx hb dJ15_listFromTrustedArray_29 rfl hl (by decide) rfl (fun ls hl => ?_)
  obtain ⟨In_5, mu_5, h0_5, hw⟩ := hw
  have hL_5 : ∀ (n : Nat) (x3_5 : Int32) (h_5 : ga_H) (bc_5 : Nat) (bs_5 : Nat) (H : Heap) (locs : List Loc) (cells slots : Nat) (ls : Array Slot), mu_5 x3_5 h_5 bc_5 bs_5 < n → In_5 x3_5 h_5 bc_5 bs_5 → ga_I g h_5 s H locs → cells + bc_5 ≤ mc → slots + bs_5 ≤ ms → lv_has ls 5 [(0, va_rf v0), (1, va_rf v0), (2, .int (nI n_3)), (3, .int x3_5)] → W p l e ({ frames := 12, cells := mc, slots := ms, locals := 222 } : Room) s m args below meth c H locs cells slots (MQ below (va_Qq post (ga_E g) (ga_A g)) args s mc ms (ga_A g)) (F0 m 30 ls []) := by
    intro n
    induction n with
    | zero => intro x3_5 h_5 bc_5 bs_5 H locs cells slots ls hn _ _ _ _ _; exact absurd hn (Nat.not_lt_zero _)
    | succ n ih_5 =>
      intro x3_5 h_5 bc_5 bs_5 H locs cells slots ls hn_5 hi_5 hI hbc hbs hl
      have hw := hw x3_5 h_5 bc_5 bs_5 hi_5
      refine lv_iload_n hx hb dJ15_listFromTrustedArray_30 rfl (lv_at hl 3 rfl) ?_
      refine lv_iload_n hx hb dJ15_listFromTrustedArray_31 rfl (lv_at hl 2 rfl) ?_
      refine lv_icmp_ge (tgt := 52) hx hb dJ15_listFromTrustedArray_32 (by decide) (fun hc_6 => ?_) (fun hc_6 => ?_)
      · have hw := hw.1 hc_6
        refine ga_aload_n hx hb dJ15_listFromTrustedArray_52 rfl (lv_at hl 0 rfl) ?_
        obtain ⟨a_7, ea_7, hw⟩ := hw
        rewrite [ea_7]
        obtain ⟨n_8, f_9, hq, hw⟩ := hw
        refine ga_len hx hb hI hq rfl dJ15_listFromTrustedArray_53 ?_
        by_cases hc_10 : nI n_8 = (0 : Int32)
        · have hw := hw.1 hc_10
          refine lv_tableIn (tgt := 80) hx hb dJ15_listFromTrustedArray_54 (by rw [hc_10]; decide) (by rw [hc_10]; decide) (off := 26) (by rw [hc_10]; rfl) (by decide) ?_
          exact hw.elim
        have hw := hw.2 hc_10
        by_cases hc_11 : nI n_8 = (1 : Int32)
        · have hw := hw.1 hc_11
          refine lv_tableIn (tgt := 86) hx hb dJ15_listFromTrustedArray_54 (by rw [hc_11]; decide) (by rw [hc_11]; decide) (off := 32) (by rw [hc_11]; rfl) (by decide) ?_
          exact hw.elim
        have hw := hw.2 hc_11
        by_cases hc_12 : nI n_8 = (2 : Int32)
        · have hw := hw.1 hc_12
          refine lv_tableIn (tgt := 99) hx hb dJ15_listFromTrustedArray_54 (by rw [hc_12]; decide) (by rw [hc_12]; decide) (off := 45) (by rw [hc_12]; rfl) (by decide) ?_
          exact hw.elim
        have hw := hw.2 hc_12
        refine lv_tableOut (tgt := 115) hx hb dJ15_listFromTrustedArray_54 (zs_out 0 2 3 [0, 1, 2] (by decide) (by decide) (List.forall_mem_cons.mpr ⟨hc_10, List.forall_mem_cons.mpr ⟨hc_11, List.forall_mem_cons.mpr ⟨hc_12, fun _ h => absurd h List.not_mem_nil⟩⟩⟩)) (by decide) ?_
        refine ga_new (ci := 26) (T := TJ49) hx hb hts hown hI in_J49 rfl tyJ49 tyJ49_ok q2921 q2922 q165 [va_rf none, .int 0] ga_df_J49 hbc hbs hw.1 hw.2.1 dJ15_listFromTrustedArray_115 (fun q_13 H cells slots hn_q_13 hI hbc hbs => ?_)
        obtain ⟨h_14, eh_14⟩ : ∃ z, z = ga_set h_5 q_13 (ga_O 26 [va_rf none, .int 0]) := ⟨_, rfl⟩
        rw [← eh_14] at hI
        have hw := hw.2.2 q_13 hn_q_13 h_14 eh_14
        refine lv_dup hx hb dJ15_listFromTrustedArray_118 rfl ?_
        refine ga_aload_n hx hb dJ15_listFromTrustedArray_119 rfl (lv_at hl 0 rfl) ?_
        refine lv_iconst (v := 0) hx hb dJ15_listFromTrustedArray_120 (by decide) ?_
        refine ga_callv (va_runIN (As := [va_rf v0, .int (0 : Int32)]) (rest := [.ref q_13]) ⟨hx, hb, hml, hown, hts⟩ (gm_J49_init l g q_13 v0 (0 : Int32) h_14 _ hw) ⟨va_cnB 2 hts (lw_meth q2925) rfl rfl rfl (hI.2.1.1.2.1 _ (ga_nin q2923 rfl)) (hts _ q165) hdG_J49_init ⟨Nat.le_of_ble_eq_true rfl, Nat.le_of_ble_eq_true rfl⟩, rfl, hts _ q2924⟩ (ga_preS hI rfl) rfl rfl hl.1 rfl (ga_room (Nat.le_of_ble_eq_true rfl)) dJ15_listFromTrustedArray_121 ⟨Nat.le_trans (Nat.add_le_add_left (Nat.zero_le _) _) hbc, Nat.le_trans (Nat.add_le_add_left (Nat.zero_le _) _) hbs⟩) hI hbc hbs (Nat.zero_le _) (Nat.zero_le _) (fun h_15 H locs cells slots hw hI hbc hbs => ?_)
        exact ga_qret (v := (some q_13)) hx hb hr (Or.inl ⟨_, rfl⟩) hlk hI hw (Nat.le_trans (Nat.le_add_right _ _) hbc) (Nat.le_trans (Nat.le_add_right _ _) hbs) dJ15_listFromTrustedArray_124
      · have hw := hw.2 hc_6
        refine ga_aload_n hx hb dJ15_listFromTrustedArray_35 rfl (lv_at hl 1 rfl) ?_
        refine lv_iload_n hx hb dJ15_listFromTrustedArray_36 rfl (lv_at hl 3 rfl) ?_
        obtain ⟨a_16, ea_16, hw⟩ := hw
        rewrite [ea_16]
        obtain ⟨n_17, f_18, hq, hi, hw⟩ := hw
        refine ga_ldq hx hb hI hq rfl hi dJ15_listFromTrustedArray_37 ?_
        obtain ⟨v_19, ev_19⟩ : ∃ z, z = f_18 x3_5.toNatClampNeg := ⟨_, rfl⟩
        rw [← ev_19]
        have hw := hw v_19 ev_19
        refine ga_astore (x := v_19) (lv' := [(4, va_rf v_19), (0, va_rf v0), (1, va_rf v0), (2, .int (nI n_3)), (3, .int x3_5)]) hx hb dJ15_listFromTrustedArray_38 hl (by decide) rfl (fun ls hl => ?_)
        refine ga_aload hx hb dJ15_listFromTrustedArray_40 (lv_at hl 0 rfl) ?_
        obtain ⟨kc_20, ks_21, hk1, hk2, hw⟩ := hw
        refine ga_callq (va_runS (As := [va_rf v_19]) (rest := []) ⟨hx, hb, hml, hown, hts⟩ (gm_J24_requireNonNull l g v_19 h_5 kc_20 ks_21 _ hw) (va_cwS 1 hts (lw_S q2896 q2240 q130 q2241) rfl rfl rfl hdG_J24_requireNonNull ⟨Nat.le_of_ble_eq_true rfl, Nat.le_of_ble_eq_true rfl⟩) (ga_preS hI rfl) rfl rfl hl.1 rfl (ga_room (Nat.le_of_ble_eq_true rfl)) dJ15_listFromTrustedArray_42 ⟨Nat.le_trans (Nat.add_le_add_left hk1 _) hbc, Nat.le_trans (Nat.add_le_add_left hk2 _) hbs⟩) hI hbc hbs hk1 hk2 (fun r_23 h_22 H locs cells slots hw hI hbc hbs => ?_)
        refine lv_pop hx hb dJ15_listFromTrustedArray_45 (ga_rcat _) ?_
        refine lv_iinc (v := x3_5 + (1 : Int32)) (lv' := [(3, .int (x3_5 + (1 : Int32))), (4, va_rf v_19), (0, va_rf v0), (1, va_rf v0), (2, .int (nI n_3))]) hx hb dJ15_listFromTrustedArray_46 hl (k := 4) rfl rfl (by decide) rfl (fun ls hl => ?_)
        refine lv_goto (tgt := 30) hx hb dJ15_listFromTrustedArray_49 (by decide) ?_
        exact ih_5 _ _ _ _ H locs cells slots ls (Nat.lt_of_lt_of_le hw.2 (Nat.le_of_lt_succ hn_5)) hw.1 hI hbc hbs (lv_sub hl [2, 3, 4, 0] rfl)
  exact hL_5 _ _ _ _ _ H locs cells slots ls (Nat.lt_succ_self _) h0_5 hI hbc hbs (lv_sub hl [3, 2, 1, 0] rfl)
def gw_J15_listFromTrustedArray (K : ga_K) (p0 : Option Nat) (h : ga_H) (mc ms : Nat) (post : Option Nat → ga_H → Prop) : Prop :=
  gw_J15_listFromTrustedArray_23 K post p0 h mc ms
set_option maxHeartbeats 4000000 in
theorem gm_J15_listFromTrustedArray (l : Launch) (g : ga_G) (p0 : Option Nat) (h : ga_H) (mc ms : Nat) (post : Option Nat → ga_H → Prop) (hw : gw_J15_listFromTrustedArray g.2.2 p0 h mc ms post) : Met l yJ15_listFromTrustedArray (ws_ yJ15_listFromTrustedArray cJ15_listFromTrustedArray 5 (some (.object "java/util/List"))) ({ frames := 12, cells := mc, slots := ms, locals := 222 } : Room) (va_Pc [va_rf p0] (ga_B g h)) (va_Qq post (ga_E g) (ga_A g)) mc ms (ga_A g) := by
  refine ga_met (own := "java/util/ImmutableCollections") (nm := "listFromTrustedArray") (by decide) rfl rfl (by cases p0 <;> exact Nat.le_of_ble_eq_true rfl) (fun p e s m below meth c ls hC hI hl => ?_)
  have hl : lv_has ls 5 [(0, va_rf p0)] := (by cases p0 <;> exact hl)
  generalize ([va_rf p0] : List Value).toArray = args at hC ⊢
  obtain ⟨hx, hb, hml, hown, hts, hr, hlk, hnm⟩ := hC
  unfold gw_J15_listFromTrustedArray at hw
  obtain ⟨H, eH⟩ : ∃ z, z = s.heap := ⟨_, rfl⟩
  obtain ⟨locs, elo⟩ : ∃ z : List Loc, z = [] := ⟨_, rfl⟩
  rw [← eH, ← elo] at hI ⊢
  obtain ⟨cells, slots, hbc, hbs, e0, e1⟩ : ∃ a b : Nat, a + mc ≤ mc ∧ b + ms ≤ ms ∧ a = 0 ∧ b = 0 := ⟨0, 0, by omega, by omega, rfl, rfl⟩
  show W p l e ({ frames := 12, cells := mc, slots := ms, locals := 222 } : Room) s m args below meth c H locs 0 0 (MQ below (va_Qq post (ga_E g) (ga_A g)) args s mc ms (ga_A g)) (F0 m 0 ls [])
  suffices hgoal : W p l e ({ frames := 12, cells := mc, slots := ms, locals := 222 } : Room) s m args below meth c H locs cells slots (MQ below (va_Qq post (ga_E g) (ga_A g)) args s mc ms (ga_A g)) (F0 m 0 ls []) by rw [e0, e1] at hgoal; exact hgoal
  refine ga_sget (v := .int (1 : Int32)) hx hb hts hown hI 8 rfl q2892 (fun _ z => z) dJ15_listFromTrustedArray_0 ?_
  refine lv_if_ne (tgt := 23) hx hb dJ15_listFromTrustedArray_3 (by decide) (fun _ => ?_) (fun hc_1 => by first | exact absurd hc_1 (by decide) | exact absurd (by decide) hc_1)
  exact gj_J15_listFromTrustedArray_23 g post p0 h mc ms ⟨hx, hb, hml, hown, hts, hr, hlk, hnm⟩ hw hI hbc hbs (lv_sub hl [0] rfl)
theorem hdG_J15_listFromTrustedArray : yJ15_listFromTrustedArray.cls ≠ "java/lang/invoke/MethodHandle" ∧ yJ15_listFromTrustedArray.cls ≠ "java/lang/invoke/VarHandle" ∧ (parseMethodDescriptor yJ15_listFromTrustedArray.desc).map (fun d => d.parameters.length) = some 1 := by decide +kernel
def gw_J45_of (K : ga_K) (p0 : Option Nat) (p1 : Option Nat) (p2 : Option Nat) (p3 : Option Nat) (p4 : Option Nat) (p5 : Option Nat) (h : ga_H) (mc ms : Nat) (post : Option Nat → ga_H → Prop) : Prop :=
  1 ≤ mc ∧ 6 ≤ ms ∧ ∀ q_1 : Nat, h q_1 = none → ∀ h_2 : ga_H, h_2 = ga_set h q_1 (ga_Aq 5 6 (fun _ => none)) → (∃ (n_3 : Nat) (f_4 : Nat → Option Nat), h_2 q_1 = some (ga_Aq 5 n_3 f_4) ∧ vp_in (0 : Int32) n_3 ∧ ga_ok K h_2 "java/lang/Object" p0 ∧ ∀ h_5 : ga_H, h_5 = ga_set h_2 q_1 (ga_Aq 5 n_3 (va_up f_4 (0 : Int32).toNatClampNeg p0)) → (∃ (n_6 : Nat) (f_7 : Nat → Option Nat), h_5 q_1 = some (ga_Aq 5 n_6 f_7) ∧ vp_in (1 : Int32) n_6 ∧ ga_ok K h_5 "java/lang/Object" p1 ∧ ∀ h_8 : ga_H, h_8 = ga_set h_5 q_1 (ga_Aq 5 n_6 (va_up f_7 (1 : Int32).toNatClampNeg p1)) → (∃ (n_9 : Nat) (f_10 : Nat → Option Nat), h_8 q_1 = some (ga_Aq 5 n_9 f_10) ∧ vp_in (2 : Int32) n_9 ∧ ga_ok K h_8 "java/lang/Object" p2 ∧ ∀ h_11 : ga_H, h_11 = ga_set h_8 q_1 (ga_Aq 5 n_9 (va_up f_10 (2 : Int32).toNatClampNeg p2)) → (∃ (n_12 : Nat) (f_13 : Nat → Option Nat), h_11 q_1 = some (ga_Aq 5 n_12 f_13) ∧ vp_in (3 : Int32) n_12 ∧ ga_ok K h_11 "java/lang/Object" p3 ∧ ∀ h_14 : ga_H, h_14 = ga_set h_11 q_1 (ga_Aq 5 n_12 (va_up f_13 (3 : Int32).toNatClampNeg p3)) → (∃ (n_15 : Nat) (f_16 : Nat → Option Nat), h_14 q_1 = some (ga_Aq 5 n_15 f_16) ∧ vp_in (4 : Int32) n_15 ∧ ga_ok K h_14 "java/lang/Object" p4 ∧ ∀ h_17 : ga_H, h_17 = ga_set h_14 q_1 (ga_Aq 5 n_15 (va_up f_16 (4 : Int32).toNatClampNeg p4)) → (∃ (n_18 : Nat) (f_19 : Nat → Option Nat), h_17 q_1 = some (ga_Aq 5 n_18 f_19) ∧ vp_in (5 : Int32) n_18 ∧ ga_ok K h_17 "java/lang/Object" p5 ∧ ∀ h_20 : ga_H, h_20 = ga_set h_17 q_1 (ga_Aq 5 n_18 (va_up f_19 (5 : Int32).toNatClampNeg p5)) → (∃ kc_21 ks_22 : Nat, kc_21 ≤ (mc - 1) ∧ ks_22 ≤ (ms - 6) ∧ gw_J15_listFromTrustedArray K (some q_1) h_20 kc_21 ks_22 (fun (r_24 : Option Nat) (h_23 : ga_H) => post r_24 h_23))))))))
set_option maxHeartbeats 4000000 in
theorem gm_J45_of (l : Launch) (g : ga_G) (p0 : Option Nat) (p1 : Option Nat) (p2 : Option Nat) (p3 : Option Nat) (p4 : Option Nat) (p5 : Option Nat) (h : ga_H) (mc ms : Nat) (post : Option Nat → ga_H → Prop) (hw : gw_J45_of g.2.2 p0 p1 p2 p3 p4 p5 h mc ms post) : Met l yJ45_of (ws_ yJ45_of cJ45_of 6 (some (.object "java/util/List"))) ({ frames := 13, cells := mc, slots := ms, locals := 246 } : Room) (va_Pc [va_rf p0, va_rf p1, va_rf p2, va_rf p3, va_rf p4, va_rf p5] (ga_B g h)) (va_Qq post (ga_E g) (ga_A g)) mc ms (ga_A g) := by
  refine ga_met (own := "java/util/List") (nm := "of") (by decide) rfl rfl (by cases p0 <;> cases p1 <;> cases p2 <;> cases p3 <;> cases p4 <;> cases p5 <;> exact Nat.le_of_ble_eq_true rfl) (fun p e s m below meth c ls hC hI hl => ?_)
  have hl : lv_has ls 6 [(0, va_rf p0), (1, va_rf p1), (2, va_rf p2), (3, va_rf p3), (4, va_rf p4), (5, va_rf p5)] := (by cases p0 <;> cases p1 <;> cases p2 <;> cases p3 <;> cases p4 <;> cases p5 <;> exact hl)
  generalize ([va_rf p0, va_rf p1, va_rf p2, va_rf p3, va_rf p4, va_rf p5] : List Value).toArray = args at hC ⊢
  obtain ⟨hx, hb, hml, hown, hts, hr, hlk, hnm⟩ := hC
  unfold gw_J45_of at hw
  obtain ⟨H, eH⟩ : ∃ z, z = s.heap := ⟨_, rfl⟩
  obtain ⟨locs, elo⟩ : ∃ z : List Loc, z = [] := ⟨_, rfl⟩
  rw [← eH, ← elo] at hI ⊢
  obtain ⟨cells, slots, hbc, hbs, e0, e1⟩ : ∃ a b : Nat, a + mc ≤ mc ∧ b + ms ≤ ms ∧ a = 0 ∧ b = 0 := ⟨0, 0, by omega, by omega, rfl, rfl⟩
  show W p l e ({ frames := 13, cells := mc, slots := ms, locals := 246 } : Room) s m args below meth c H locs 0 0 (MQ below (va_Qq post (ga_E g) (ga_A g)) args s mc ms (ga_A g)) (F0 m 0 ls [])
  suffices hgoal : W p l e ({ frames := 13, cells := mc, slots := ms, locals := 246 } : Room) s m args below meth c H locs cells slots (MQ below (va_Qq post (ga_E g) (ga_A g)) args s mc ms (ga_A g)) (F0 m 0 ls []) by rw [e0, e1] at hgoal; exact hgoal
  refine lv_bipush (v := 6) hx hb dJ45_of_0 (by decide) ?_
  refine ga_naq hx hb hts hown hI (t := 5) rfl q2888 q518 hbc hbs (by decide) (N := 6) rfl (Nat.le_of_ble_eq_true rfl) hw.1 hw.2.1 dJ45_of_2 (fun q_1 H cells slots hn_q_1 hI hbc hbs => ?_)
  obtain ⟨h_2, eh_2⟩ : ∃ z, z = ga_set h q_1 (ga_Aq 5 6 (fun _ => none)) := ⟨_, rfl⟩
  rw [← eh_2] at hI
  have hw := hw.2.2 q_1 hn_q_1 h_2 eh_2
  refine lv_dup hx hb dJ45_of_5 rfl ?_
  refine lv_iconst (v := 0) hx hb dJ45_of_6 (by decide) ?_
  refine ga_aload_n hx hb dJ45_of_7 rfl (lv_at hl 0 rfl) ?_
  obtain ⟨n_3, f_4, hq, hi, hok, hw⟩ := hw
  refine ga_sto (x := p0) hx hb hI hq rfl hok hi dJ45_of_8 (fun H locs hI => ?_)
  obtain ⟨h_5, eh_5⟩ : ∃ z, z = ga_set h_2 q_1 (ga_Aq 5 n_3 (va_up f_4 (0 : Int32).toNatClampNeg p0)) := ⟨_, rfl⟩
  rw [← eh_5] at hI
  have hw := hw h_5 eh_5
  refine lv_dup hx hb dJ45_of_9 rfl ?_
  refine lv_iconst (v := 1) hx hb dJ45_of_10 (by decide) ?_
  refine ga_aload_n hx hb dJ45_of_11 rfl (lv_at hl 1 rfl) ?_
  obtain ⟨n_6, f_7, hq, hi, hok, hw⟩ := hw
  refine ga_sto (x := p1) hx hb hI hq rfl hok hi dJ45_of_12 (fun H locs hI => ?_)
  obtain ⟨h_8, eh_8⟩ : ∃ z, z = ga_set h_5 q_1 (ga_Aq 5 n_6 (va_up f_7 (1 : Int32).toNatClampNeg p1)) := ⟨_, rfl⟩
  rw [← eh_8] at hI
  have hw := hw h_8 eh_8
  refine lv_dup hx hb dJ45_of_13 rfl ?_
  refine lv_iconst (v := 2) hx hb dJ45_of_14 (by decide) ?_
  refine ga_aload_n hx hb dJ45_of_15 rfl (lv_at hl 2 rfl) ?_
  obtain ⟨n_9, f_10, hq, hi, hok, hw⟩ := hw
  refine ga_sto (x := p2) hx hb hI hq rfl hok hi dJ45_of_16 (fun H locs hI => ?_)
  obtain ⟨h_11, eh_11⟩ : ∃ z, z = ga_set h_8 q_1 (ga_Aq 5 n_9 (va_up f_10 (2 : Int32).toNatClampNeg p2)) := ⟨_, rfl⟩
  rw [← eh_11] at hI
  have hw := hw h_11 eh_11
  refine lv_dup hx hb dJ45_of_17 rfl ?_
  refine lv_iconst (v := 3) hx hb dJ45_of_18 (by decide) ?_
  refine ga_aload_n hx hb dJ45_of_19 rfl (lv_at hl 3 rfl) ?_
  obtain ⟨n_12, f_13, hq, hi, hok, hw⟩ := hw
  refine ga_sto (x := p3) hx hb hI hq rfl hok hi dJ45_of_20 (fun H locs hI => ?_)
  obtain ⟨h_14, eh_14⟩ : ∃ z, z = ga_set h_11 q_1 (ga_Aq 5 n_12 (va_up f_13 (3 : Int32).toNatClampNeg p3)) := ⟨_, rfl⟩
  rw [← eh_14] at hI
  have hw := hw h_14 eh_14
  refine lv_dup hx hb dJ45_of_21 rfl ?_
  refine lv_iconst (v := 4) hx hb dJ45_of_22 (by decide) ?_
  refine ga_aload hx hb dJ45_of_23 (lv_at hl 4 rfl) ?_
  obtain ⟨n_15, f_16, hq, hi, hok, hw⟩ := hw
  refine ga_sto (x := p4) hx hb hI hq rfl hok hi dJ45_of_25 (fun H locs hI => ?_)
  obtain ⟨h_17, eh_17⟩ : ∃ z, z = ga_set h_14 q_1 (ga_Aq 5 n_15 (va_up f_16 (4 : Int32).toNatClampNeg p4)) := ⟨_, rfl⟩
  rw [← eh_17] at hI
  have hw := hw h_17 eh_17
  refine lv_dup hx hb dJ45_of_26 rfl ?_
  refine lv_iconst (v := 5) hx hb dJ45_of_27 (by decide) ?_
  refine ga_aload hx hb dJ45_of_28 (lv_at hl 5 rfl) ?_
  obtain ⟨n_18, f_19, hq, hi, hok, hw⟩ := hw
  refine ga_sto (x := p5) hx hb hI hq rfl hok hi dJ45_of_30 (fun H locs hI => ?_)
  obtain ⟨h_20, eh_20⟩ : ∃ z, z = ga_set h_17 q_1 (ga_Aq 5 n_18 (va_up f_19 (5 : Int32).toNatClampNeg p5)) := ⟨_, rfl⟩
  rw [← eh_20] at hI
  have hw := hw h_20 eh_20
  obtain ⟨kc_21, ks_22, hk1, hk2, hw⟩ := hw
  refine ga_callq (va_runS (As := [va_rf (some q_1)]) (rest := []) ⟨hx, hb, hml, hown, hts⟩ (gm_J15_listFromTrustedArray l g (some q_1) h_20 kc_21 ks_22 _ hw) (va_cwS 1 hts (lw_S q2889 q2890 q121 q2891) rfl rfl rfl hdG_J15_listFromTrustedArray ⟨Nat.le_of_ble_eq_true rfl, Nat.le_of_ble_eq_true rfl⟩) (ga_preS hI rfl) rfl rfl hl.1 rfl (ga_room (Nat.le_of_ble_eq_true rfl)) dJ45_of_31 ⟨Nat.le_trans (Nat.add_le_add_left hk1 _) hbc, Nat.le_trans (Nat.add_le_add_left hk2 _) hbs⟩) hI hbc hbs hk1 hk2 (fun r_24 h_23 H locs cells slots hw hI hbc hbs => ?_)
  exact ga_qret (v := r_24) hx hb hr (Or.inl ⟨_, rfl⟩) hlk hI hw (Nat.le_trans (Nat.le_add_right _ _) hbc) (Nat.le_trans (Nat.le_add_right _ _) hbs) dJ45_of_34
theorem hdG_J45_of : yJ45_of.cls ≠ "java/lang/invoke/MethodHandle" ∧ yJ45_of.cls ≠ "java/lang/invoke/VarHandle" ∧ (parseMethodDescriptor yJ45_of.desc).map (fun d => d.parameters.length) = some 6 := by decide +kernel
