set_option maxRecDepth 100000
def gw_L_law_496 (K : ga_K) (bb L : Nat) (xs : Nat → Int32) (hd28 : Int32 → ga_H → Nat → Nat → Prop) (t0 : Int32) (t1 : Int32) (t2 : Option Nat) (v1 : Option Nat) (v2 : Option Nat) (v3 : Option Nat) (v4 : Option Nat) (v5 : Int32) (v6 : Int32) (h : ga_H) (bc bs : Nat) : Prop :=
  ∃ a_141 : Nat, t2 = some a_141 ∧ ∃ (za_142 zl_143 zt_144 zc_145 : Nat) (S_146 : zt_S), ga_Tw (a_141, za_142, zl_143, zt_144, zc_145) h S_146 ∧ zw_ladderOf t1 t0 S_146 (fun (r_147 : Int32) (S_148 : zt_S) => ∀ h_149 : ga_H, h_149 = ga_tws (a_141, za_142, zl_143, zt_144, zc_145) h S_148 → (∃ a_151 : Nat, v2 = some a_151 ∧ ∃ (za_152 zl_153 zt_154 zc_155 : Nat) (S_156 : zt_S), ga_Tw (a_151, za_152, zl_153, zt_154, zc_155) h_149 S_156 ∧ zw_thrown S_156 (fun (r_157 : Int32) (S_158 : zt_S) => ∀ h_159 : ga_H, h_159 = ga_tws (a_151, za_152, zl_153, zt_154, zc_155) h_149 S_158 → ((r_157 = v6 → ((¬ v6 = (0 : Int32) → (hd28 (v5 + (6 : Int32)) h_159 bc bs)) ∧ (v6 = (0 : Int32) → (∃ a_163 : Nat, v3 = some a_163 ∧ ∃ (n_164 : Nat) (f_165 : Nat → Int64), h_159 a_163 = some (ga_Al n_164 f_165) ∧ vp_in (0 : Int32) n_164 ∧ ((lg_cmp (f_165 (0 : Int32).toNatClampNeg) r_147.toInt64 = (0 : Int32) → (hd28 (v5 + (6 : Int32)) h_159 bc bs)) ∧ (¬ lg_cmp (f_165 (0 : Int32).toNatClampNeg) r_147.toInt64 = (0 : Int32) → False)))))) ∧ (¬ r_157 = v6 → False)))))
set_option maxHeartbeats 16000000 in
theorem gj_L_law_496 {p : Program} {l : Launch} {e : Env} {s : State} {m : MethodId} {args : Array Value} {below : List Frame} {meth : Method} {c : Code} {Q : State → Prop} {H : Heap} {locs : List Loc} {cells slots : Nat} {ls : Array Slot} (g : ga_G) (bb L : Nat) (xs : Nat → Int32) (hst : l.stackTraces = false) (hfin : ∀ (pc : Nat) (h : ga_H) (H : Heap) (locs : List Loc) (cells slots : Nat) (ls : Array Slot), ga_I g h s H locs → cells ≤ room_1.cells → slots ≤ room_1.slots → decode cL_law pc = .ok (.ireturn, 1) → W p l e room_1 s m args below meth c H locs cells slots Q (F0 m pc ls [.int 1])) (hX : va_X bb L xs s s.heap) (hbl : bb < s.heap.size) (hbA : ¬ ga_A g bb) (hd28 : Int32 → ga_H → Nat → Nat → Prop) (t0 : Int32) (t1 : Int32) (t2 : Option Nat) (v1 : Option Nat) (v2 : Option Nat) (v3 : Option Nat) (v4 : Option Nat) (v5 : Int32) (v6 : Int32) (h : ga_H) (bc bs : Nat) (hC : ga_Cx p s m args meth c cL_law 9 (some .boolean) "PaperStoreLaw" "law") (hw : gw_L_law_496 g.2.2 bb L xs hd28 t0 t1 t2 v1 v2 v3 v4 v5 v6 h bc bs) (hhd28 : ∀ (y0 : Int32) (T : ga_H) (B1 : Nat) (B2 : Nat) (H : Heap) (locs : List Loc) (cells slots : Nat) (ls : Array Slot), hd28 y0 T B1 B2 → ga_I g T s H locs → cells + B1 ≤ room_1.cells → slots + B2 ≤ room_1.slots → lv_has ls 9 [(0, .ref bb), (1, va_rf v1), (2, va_rf v2), (3, va_rf v3), (4, va_rf v4), (5, .int y0)] → W p l e room_1 s m args below meth c H locs cells slots Q (F0 m 28 ls [])) (hI : ga_I g h s H locs) (hbc : cells + bc ≤ room_1.cells) (hbs : slots + bs ≤ room_1.slots) (hl : lv_has ls 9 [(0, .ref bb), (1, va_rf v1), (2, va_rf v2), (3, va_rf v3), (4, va_rf v4), (5, .int v5), (6, .int v6)]) : W p l e room_1 s m args below meth c H locs cells slots Q (F0 m 496 ls [.int t0, .int t1, va_rf t2]) := by
  obtain ⟨hx, hb, hml, hown, hts, hr, hlk, hnm⟩ := hC
  unfold gw_L_law_496 at hw
  obtain ⟨a_141, ea_141, hw⟩ := hw
  rewrite [ea_141]
  obtain ⟨za_142, zl_143, zt_144, zc_145, S_146, T_150, hw⟩ := hw
  refine ga_callTi (z := (a_141, za_142, zl_143, zt_144, zc_145)) (va_runV (As := [.int t1, .int t0]) (rest := []) ⟨hx, hb, hml, hown, hts⟩ (zm_ladderOf l (ga_gz g (a_141, za_142, zl_143, zt_144, zc_145)) t1 t0 S_146 _ hw) (cwV 2 hts (lw_V q3739 q3740 q3741 q113 q3742) rfl rfl rfl hdT_ladderOf ⟨Nat.le_of_ble_eq_true rfl, Nat.le_of_ble_eq_true rfl⟩) (ga_preT hI T_150 rfl) rfl rfl hl.1 rfl (ga_room (Nat.le_of_ble_eq_true rfl)) dL_law_496 ⟨Nat.le_trans (Nat.add_le_add_left (Nat.zero_le _) _) hbc, Nat.le_trans (Nat.add_le_add_left (Nat.zero_le _) _) hbs⟩) hI T_150 hbc hbs (fun r_147 S_148 H locs cells slots hw hI hbc hbs => ?_)
  obtain ⟨h_149, eh_149⟩ : ∃ z, z = ga_tws (a_141, za_142, zl_143, zt_144, zc_145) h S_148 := ⟨_, rfl⟩
  rw [← eh_149] at hI
  have hw := hw h_149 eh_149
  refine lv_istore (lv' := [(7, .int r_147), (0, .ref bb), (1, va_rf v1), (2, va_rf v2), (3, va_rf v3), (4, va_rf v4), (5, .int v5), (6, .int v6)]) hx hb dL_law_499 hl (by decide) rfl (fun ls hl => ?_)
  refine ga_aload_n hx hb dL_law_501 rfl (lv_at hl 3 rfl) ?_
  obtain ⟨a_151, ea_151, hw⟩ := hw
  rewrite [ea_151]
  obtain ⟨za_152, zl_153, zt_154, zc_155, S_156, T_160, hw⟩ := hw
  refine ga_callTi (z := (a_151, za_152, zl_153, zt_154, zc_155)) (va_runV (As := []) (rest := []) ⟨hx, hb, hml, hown, hts⟩ (zm_thrown l (ga_gz g (a_151, za_152, zl_153, zt_154, zc_155))  S_156 _ hw) (cwV 0 hts (lw_V q3681 q3682 q3683 q113 q3684) rfl rfl rfl hdT_thrown ⟨Nat.le_of_ble_eq_true rfl, Nat.le_of_ble_eq_true rfl⟩) (ga_preT hI T_160 rfl) rfl rfl hl.1 rfl (ga_room (Nat.le_of_ble_eq_true rfl)) dL_law_502 ⟨Nat.le_trans (Nat.add_le_add_left (Nat.zero_le _) _) hbc, Nat.le_trans (Nat.add_le_add_left (Nat.zero_le _) _) hbs⟩) hI T_160 hbc hbs (fun r_157 S_158 H locs cells slots hw hI hbc hbs => ?_)
  obtain ⟨h_159, eh_159⟩ : ∃ z, z = ga_tws (a_151, za_152, zl_153, zt_154, zc_155) h_149 S_158 := ⟨_, rfl⟩
  rw [← eh_159] at hI
  have hw := hw h_159 eh_159
  refine lv_iload hx hb dL_law_505 (lv_at hl 7 rfl) ?_
  refine lv_icmp_eq (tgt := 512) hx hb dL_law_507 (by decide) (fun hc_161 => ?_) (fun hc_161 => ?_)
  · have hw := hw.1 hc_161
    refine lv_iload hx hb dL_law_512 (lv_at hl 7 rfl) ?_
    refine lv_if_ne (tgt := 529) hx hb dL_law_514 (by decide) (fun hc_162 => ?_) (fun hc_162 => ?_)
    · have hw := hw.1 hc_162
      refine lv_goto (tgt := 2604) hx hb dL_law_529 (by decide) ?_
      refine lv_iinc (v := v5 + (6 : Int32)) (lv' := [(5, .int (v5 + (6 : Int32))), (7, .int r_147), (0, .ref bb), (1, va_rf v1), (2, va_rf v2), (3, va_rf v3), (4, va_rf v4), (6, .int v6)]) hx hb dL_law_2604 hl (k := 6) rfl rfl (by decide) (by simp [ga_rcat, ga_cat_r, ga_cat_i, ga_cat_f, ga_cat_l, ga_cat_d]) (fun ls hl => ?_)
      refine lv_goto (tgt := 28) hx hb dL_law_2607 (by decide) ?_
      exact hhd28 _ _ _ _ H locs cells slots ls hw hI hbc hbs (lv_sub hl [2, 3, 4, 5, 6, 0] rfl)
    · have hw := hw.2 hc_162
      refine ga_aload_n hx hb dL_law_517 rfl (lv_at hl 4 rfl) ?_
      refine lv_iconst (v := 0) hx hb dL_law_518 (by decide) ?_
      obtain ⟨a_163, ea_163, hw⟩ := hw
      rewrite [ea_163]
      obtain ⟨n_164, f_165, hq, hi, hw⟩ := hw
      refine ga_ldl hx hb hI (ga_at.h hq) hi dL_law_519 ?_
      refine lv_iload hx hb dL_law_520 (lv_at hl 0 rfl) ?_
      refine lv_i2l (v := r_147.toInt64) hx hb dL_law_522 rfl ?_
      refine W.lcmp hx hb dL_law_523 ?_
      refine lv_if_eq (tgt := 529) hx hb dL_law_524 (by decide) (fun hc_166 => ?_) (fun hc_166 => ?_)
      · have hw := hw.1 hc_166
        refine lv_goto (tgt := 2604) hx hb dL_law_529 (by decide) ?_
        refine lv_iinc (v := v5 + (6 : Int32)) (lv' := [(5, .int (v5 + (6 : Int32))), (7, .int r_147), (0, .ref bb), (1, va_rf v1), (2, va_rf v2), (3, va_rf v3), (4, va_rf v4), (6, .int v6)]) hx hb dL_law_2604 hl (k := 6) rfl rfl (by decide) (by simp [ga_rcat, ga_cat_r, ga_cat_i, ga_cat_f, ga_cat_l, ga_cat_d]) (fun ls hl => ?_)
        refine lv_goto (tgt := 28) hx hb dL_law_2607 (by decide) ?_
        exact hhd28 _ _ _ _ H locs cells slots ls hw hI hbc hbs (lv_sub hl [2, 3, 4, 5, 6, 0] rfl)
      · have hw := hw.2 hc_166
        refine lv_iconst (v := 0) hx hb dL_law_527 (by decide) ?_
        exact hw.elim
  · have hw := hw.2 hc_161
    refine lv_iconst (v := 0) hx hb dL_law_510 (by decide) ?_
    exact hw.elim
def gw_L_law_469 (K : ga_K) (bb L : Nat) (xs : Nat → Int32) (hd28 : Int32 → ga_H → Nat → Nat → Prop) (t0 : Int32) (t1 : Int32) (t2 : Option Nat) (v1 : Option Nat) (v2 : Option Nat) (v3 : Option Nat) (v4 : Option Nat) (v5 : Int32) (h : ga_H) (bc bs : Nat) : Prop :=
  ∃ kc_131 ks_132 : Nat, kc_131 ≤ bc ∧ ks_132 ≤ bs ∧ gw_X0_ladderOf K t2 t1 t0 v3 h kc_131 ks_132 (fun (r_134 : Int32) (h_133 : ga_H) => vp_in (v5 + (1 : Int32)) L ∧ ∀ w_138 : Int32, w_138 = xs (v5 + (1 : Int32)).toNatClampNeg → (vp_in (v5 + (2 : Int32)) L ∧ ∀ w_139 : Int32, w_139 = xs (v5 + (2 : Int32)).toNatClampNeg → ((w_139 = (0 : Int32) → (gw_L_law_496 K bb L xs (fun (y0 : Int32) (T : ga_H) (B1 : Nat) (B2 : Nat) => hd28 y0 T B1 B2) (0 : Int32) w_138 v2 v1 v2 v3 v4 v5 r_134 h_133 (bc - kc_131) (bs - ks_132))) ∧ (¬ w_139 = (0 : Int32) → (gw_L_law_496 K bb L xs (fun (y0 : Int32) (T : ga_H) (B1 : Nat) (B2 : Nat) => hd28 y0 T B1 B2) (1 : Int32) w_138 v2 v1 v2 v3 v4 v5 r_134 h_133 (bc - kc_131) (bs - ks_132)))))) (fun (E_135 : String) (q_136 : Nat) (h_137 : ga_H) => False)
set_option maxHeartbeats 16000000 in
theorem gj_L_law_469 {p : Program} {l : Launch} {e : Env} {s : State} {m : MethodId} {args : Array Value} {below : List Frame} {meth : Method} {c : Code} {Q : State → Prop} {H : Heap} {locs : List Loc} {cells slots : Nat} {ls : Array Slot} (g : ga_G) (bb L : Nat) (xs : Nat → Int32) (hst : l.stackTraces = false) (hfin : ∀ (pc : Nat) (h : ga_H) (H : Heap) (locs : List Loc) (cells slots : Nat) (ls : Array Slot), ga_I g h s H locs → cells ≤ room_1.cells → slots ≤ room_1.slots → decode cL_law pc = .ok (.ireturn, 1) → W p l e room_1 s m args below meth c H locs cells slots Q (F0 m pc ls [.int 1])) (hX : va_X bb L xs s s.heap) (hbl : bb < s.heap.size) (hbA : ¬ ga_A g bb) (hd28 : Int32 → ga_H → Nat → Nat → Prop) (t0 : Int32) (t1 : Int32) (t2 : Option Nat) (v1 : Option Nat) (v2 : Option Nat) (v3 : Option Nat) (v4 : Option Nat) (v5 : Int32) (h : ga_H) (bc bs : Nat) (hC : ga_Cx p s m args meth c cL_law 9 (some .boolean) "PaperStoreLaw" "law") (hw : gw_L_law_469 g.2.2 bb L xs hd28 t0 t1 t2 v1 v2 v3 v4 v5 h bc bs) (hhd28 : ∀ (y0 : Int32) (T : ga_H) (B1 : Nat) (B2 : Nat) (H : Heap) (locs : List Loc) (cells slots : Nat) (ls : Array Slot), hd28 y0 T B1 B2 → ga_I g T s H locs → cells + B1 ≤ room_1.cells → slots + B2 ≤ room_1.slots → lv_has ls 9 [(0, .ref bb), (1, va_rf v1), (2, va_rf v2), (3, va_rf v3), (4, va_rf v4), (5, .int y0)] → W p l e room_1 s m args below meth c H locs cells slots Q (F0 m 28 ls [])) (hI : ga_I g h s H locs) (hbc : cells + bc ≤ room_1.cells) (hbs : slots + bs ≤ room_1.slots) (hl : lv_has ls 9 [(0, .ref bb), (1, va_rf v1), (2, va_rf v2), (3, va_rf v3), (4, va_rf v4), (5, .int v5)]) : W p l e room_1 s m args below meth c H locs cells slots Q (F0 m 469 ls [.int t0, .int t1, va_rf t2]) := by
  obtain ⟨hx, hb, hml, hown, hts, hr, hlk, hnm⟩ := hC
  unfold gw_L_law_469 at hw
  refine ga_aload_n hx hb dL_law_469 rfl (lv_at hl 3 rfl) ?_
  obtain ⟨kc_131, ks_132, hk1, hk2, hw⟩ := hw
  refine ga_xcalli (vx_runSX (As := [va_rf t2, .int t1, .int t0, va_rf v3]) (rest := []) ⟨hx, hb, hml, hown, hts⟩ (gm_X0_ladderOf l hst g t2 t1 t0 v3 h kc_131 ks_132 _ _ hw) (vx_cwSW 4 hts (lw_SW q2185 q2186 q99 q2187) rfl rfl rfl hdG_X0_ladderOf ⟨Nat.le_of_ble_eq_true rfl, Nat.le_of_ble_eq_true rfl⟩) (ga_preS hI rfl) rfl rfl hl.1 rfl (ga_room (Nat.le_of_ble_eq_true rfl)) dL_law_470 ⟨Nat.le_trans (Nat.add_le_add_left hk1 _) hbc, Nat.le_trans (Nat.add_le_add_left hk2 _) hbs⟩) hI hbc hbs hk1 hk2 (fun E_135 q_136 h_137 ce H locs cells slots hw hI hce hbc hbs => ?_) (fun r_134 h_133 H locs cells slots hw hI hbc hbs => ?_)
  · exact hw.elim
  · skip
    refine lv_istore (lv' := [(6, .int r_134), (0, .ref bb), (1, va_rf v1), (2, va_rf v2), (3, va_rf v3), (4, va_rf v4), (5, .int v5)]) hx hb dL_law_473 hl (by decide) rfl (fun ls hl => ?_)
    refine ga_aload_n hx hb dL_law_475 rfl (lv_at hl 3 rfl) ?_
    refine lv_aload_n hx hb dL_law_476 rfl (lv_at hl 1 rfl) ?_
    refine lv_iload hx hb dL_law_477 (lv_at hl 6 rfl) ?_
    refine lv_iconst (v := 1) hx hb dL_law_479 (by decide) ?_
    refine lv_iadd hx hb dL_law_480 ?_
    obtain ⟨hi, hw⟩ := hw
    refine va_sld hx hb hX hbl hbA hI.2.2 hi dL_law_481 ?_
    refine lv_topi (fun w_138 ew_138 => ?_)
    have hw := hw w_138 ew_138
    refine lv_aload_n hx hb dL_law_482 rfl (lv_at hl 1 rfl) ?_
    refine lv_iload hx hb dL_law_483 (lv_at hl 6 rfl) ?_
    refine lv_iconst (v := 2) hx hb dL_law_485 (by decide) ?_
    refine lv_iadd hx hb dL_law_486 ?_
    obtain ⟨hi, hw⟩ := hw
    refine va_sld hx hb hX hbl hbA hI.2.2 hi dL_law_487 ?_
    refine lv_topi (fun w_139 ew_139 => ?_)
    have hw := hw w_139 ew_139
    refine lv_if_eq (tgt := 495) hx hb dL_law_488 (by decide) (fun hc_140 => ?_) (fun hc_140 => ?_)
    · have hw := hw.1 hc_140
      refine lv_iconst (v := 0) hx hb dL_law_495 (by decide) ?_
      exact gj_L_law_496 g bb L xs hst hfin hX hbl hbA (fun (y0 : Int32) (T : ga_H) (B1 : Nat) (B2 : Nat) => hd28 y0 T B1 B2) (0 : Int32) w_138 v2 v1 v2 v3 v4 v5 r_134 h_133 (bc - kc_131) (bs - ks_132) ⟨hx, hb, hml, hown, hts, hr, hlk, hnm⟩ hw hhd28 hI hbc hbs (lv_sub hl [1, 2, 3, 4, 5, 6, 0] rfl)
    · have hw := hw.2 hc_140
      refine lv_iconst (v := 1) hx hb dL_law_491 (by decide) ?_
      refine lv_goto (tgt := 496) hx hb dL_law_492 (by decide) ?_
      exact gj_L_law_496 g bb L xs hst hfin hX hbl hbA (fun (y0 : Int32) (T : ga_H) (B1 : Nat) (B2 : Nat) => hd28 y0 T B1 B2) (1 : Int32) w_138 v2 v1 v2 v3 v4 v5 r_134 h_133 (bc - kc_131) (bs - ks_132) ⟨hx, hb, hml, hown, hts, hr, hlk, hnm⟩ hw hhd28 hI hbc hbs (lv_sub hl [1, 2, 3, 4, 5, 6, 0] rfl)
def gw_L_law_1756 (K : ga_K) (bb L : Nat) (xs : Nat → Int32) (hd28 : Int32 → ga_H → Nat → Nat → Prop) (t0 : Int32) (t1 : Int32) (t2 : Int32) (t3 : Option Nat) (v1 : Option Nat) (v2 : Option Nat) (v3 : Option Nat) (v4 : Option Nat) (v5 : Int32) (v6 : Int32) (h : ga_H) (bc bs : Nat) : Prop :=
  ∃ a_803 : Nat, t3 = some a_803 ∧ ∃ (za_804 zl_805 zt_806 zc_807 : Nat) (S_808 : zt_S), ga_Tw (a_803, za_804, zl_805, zt_806, zc_807) h S_808 ∧ zw_stock t2 t1 t0 S_808 (fun (r_809 : Int32) (S_810 : zt_S) => ∀ h_811 : ga_H, h_811 = ga_tws (a_803, za_804, zl_805, zt_806, zc_807) h S_810 → (∃ a_813 : Nat, v2 = some a_813 ∧ ∃ (za_814 zl_815 zt_816 zc_817 : Nat) (S_818 : zt_S), ga_Tw (a_813, za_814, zl_815, zt_816, zc_817) h_811 S_818 ∧ zw_thrown S_818 (fun (r_819 : Int32) (S_820 : zt_S) => ∀ h_821 : ga_H, h_821 = ga_tws (a_813, za_814, zl_815, zt_816, zc_817) h_811 S_820 → ((r_819 = v6 → ((¬ v6 = (0 : Int32) → (hd28 (v5 + (6 : Int32)) h_821 bc bs)) ∧ (v6 = (0 : Int32) → (∃ a_825 : Nat, v3 = some a_825 ∧ ∃ (n_826 : Nat) (f_827 : Nat → Int64), h_821 a_825 = some (ga_Al n_826 f_827) ∧ vp_in (0 : Int32) n_826 ∧ ((lg_cmp (f_827 (0 : Int32).toNatClampNeg) r_809.toInt64 = (0 : Int32) → (hd28 (v5 + (6 : Int32)) h_821 bc bs)) ∧ (¬ lg_cmp (f_827 (0 : Int32).toNatClampNeg) r_809.toInt64 = (0 : Int32) → False)))))) ∧ (¬ r_819 = v6 → False)))))
set_option maxHeartbeats 16000000 in
theorem gj_L_law_1756 {p : Program} {l : Launch} {e : Env} {s : State} {m : MethodId} {args : Array Value} {below : List Frame} {meth : Method} {c : Code} {Q : State → Prop} {H : Heap} {locs : List Loc} {cells slots : Nat} {ls : Array Slot} (g : ga_G) (bb L : Nat) (xs : Nat → Int32) (hst : l.stackTraces = false) (hfin : ∀ (pc : Nat) (h : ga_H) (H : Heap) (locs : List Loc) (cells slots : Nat) (ls : Array Slot), ga_I g h s H locs → cells ≤ room_1.cells → slots ≤ room_1.slots → decode cL_law pc = .ok (.ireturn, 1) → W p l e room_1 s m args below meth c H locs cells slots Q (F0 m pc ls [.int 1])) (hX : va_X bb L xs s s.heap) (hbl : bb < s.heap.size) (hbA : ¬ ga_A g bb) (hd28 : Int32 → ga_H → Nat → Nat → Prop) (t0 : Int32) (t1 : Int32) (t2 : Int32) (t3 : Option Nat) (v1 : Option Nat) (v2 : Option Nat) (v3 : Option Nat) (v4 : Option Nat) (v5 : Int32) (v6 : Int32) (h : ga_H) (bc bs : Nat) (hC : ga_Cx p s m args meth c cL_law 9 (some .boolean) "PaperStoreLaw" "law") (hw : gw_L_law_1756 g.2.2 bb L xs hd28 t0 t1 t2 t3 v1 v2 v3 v4 v5 v6 h bc bs) (hhd28 : ∀ (y0 : Int32) (T : ga_H) (B1 : Nat) (B2 : Nat) (H : Heap) (locs : List Loc) (cells slots : Nat) (ls : Array Slot), hd28 y0 T B1 B2 → ga_I g T s H locs → cells + B1 ≤ room_1.cells → slots + B2 ≤ room_1.slots → lv_has ls 9 [(0, .ref bb), (1, va_rf v1), (2, va_rf v2), (3, va_rf v3), (4, va_rf v4), (5, .int y0)] → W p l e room_1 s m args below meth c H locs cells slots Q (F0 m 28 ls [])) (hI : ga_I g h s H locs) (hbc : cells + bc ≤ room_1.cells) (hbs : slots + bs ≤ room_1.slots) (hl : lv_has ls 9 [(0, .ref bb), (1, va_rf v1), (2, va_rf v2), (3, va_rf v3), (4, va_rf v4), (5, .int v5), (6, .int v6)]) : W p l e room_1 s m args below meth c H locs cells slots Q (F0 m 1756 ls [.int t0, .int t1, .int t2, va_rf t3]) := by
  obtain ⟨hx, hb, hml, hown, hts, hr, hlk, hnm⟩ := hC
  unfold gw_L_law_1756 at hw
  obtain ⟨a_803, ea_803, hw⟩ := hw
  rewrite [ea_803]
  obtain ⟨za_804, zl_805, zt_806, zc_807, S_808, T_812, hw⟩ := hw
  refine ga_callTi (z := (a_803, za_804, zl_805, zt_806, zc_807)) (va_runV (As := [.int t2, .int t1, .int t0]) (rest := []) ⟨hx, hb, hml, hown, hts⟩ (zm_stock l (ga_gz g (a_803, za_804, zl_805, zt_806, zc_807)) t2 t1 t0 S_808 _ hw) (cwV 3 hts (lw_V q3967 q3968 q3969 q113 q3970) rfl rfl rfl hdT_stock ⟨Nat.le_of_ble_eq_true rfl, Nat.le_of_ble_eq_true rfl⟩) (ga_preT hI T_812 rfl) rfl rfl hl.1 rfl (ga_room (Nat.le_of_ble_eq_true rfl)) dL_law_1756 ⟨Nat.le_trans (Nat.add_le_add_left (Nat.zero_le _) _) hbc, Nat.le_trans (Nat.add_le_add_left (Nat.zero_le _) _) hbs⟩) hI T_812 hbc hbs (fun r_809 S_810 H locs cells slots hw hI hbc hbs => ?_)
  obtain ⟨h_811, eh_811⟩ : ∃ z, z = ga_tws (a_803, za_804, zl_805, zt_806, zc_807) h S_810 := ⟨_, rfl⟩
  rw [← eh_811] at hI
  have hw := hw h_811 eh_811
  refine lv_istore (lv' := [(7, .int r_809), (0, .ref bb), (1, va_rf v1), (2, va_rf v2), (3, va_rf v3), (4, va_rf v4), (5, .int v5), (6, .int v6)]) hx hb dL_law_1759 hl (by decide) rfl (fun ls hl => ?_)
  refine ga_aload_n hx hb dL_law_1761 rfl (lv_at hl 3 rfl) ?_
  obtain ⟨a_813, ea_813, hw⟩ := hw
  rewrite [ea_813]
  obtain ⟨za_814, zl_815, zt_816, zc_817, S_818, T_822, hw⟩ := hw
  refine ga_callTi (z := (a_813, za_814, zl_815, zt_816, zc_817)) (va_runV (As := []) (rest := []) ⟨hx, hb, hml, hown, hts⟩ (zm_thrown l (ga_gz g (a_813, za_814, zl_815, zt_816, zc_817))  S_818 _ hw) (cwV 0 hts (lw_V q3681 q3682 q3683 q113 q3684) rfl rfl rfl hdT_thrown ⟨Nat.le_of_ble_eq_true rfl, Nat.le_of_ble_eq_true rfl⟩) (ga_preT hI T_822 rfl) rfl rfl hl.1 rfl (ga_room (Nat.le_of_ble_eq_true rfl)) dL_law_1762 ⟨Nat.le_trans (Nat.add_le_add_left (Nat.zero_le _) _) hbc, Nat.le_trans (Nat.add_le_add_left (Nat.zero_le _) _) hbs⟩) hI T_822 hbc hbs (fun r_819 S_820 H locs cells slots hw hI hbc hbs => ?_)
  obtain ⟨h_821, eh_821⟩ : ∃ z, z = ga_tws (a_813, za_814, zl_815, zt_816, zc_817) h_811 S_820 := ⟨_, rfl⟩
  rw [← eh_821] at hI
  have hw := hw h_821 eh_821
  refine lv_iload hx hb dL_law_1765 (lv_at hl 7 rfl) ?_
  refine lv_icmp_eq (tgt := 1772) hx hb dL_law_1767 (by decide) (fun hc_823 => ?_) (fun hc_823 => ?_)
  · have hw := hw.1 hc_823
    refine lv_iload hx hb dL_law_1772 (lv_at hl 7 rfl) ?_
    refine lv_if_ne (tgt := 1789) hx hb dL_law_1774 (by decide) (fun hc_824 => ?_) (fun hc_824 => ?_)
    · have hw := hw.1 hc_824
      refine lv_goto (tgt := 2604) hx hb dL_law_1789 (by decide) ?_
      refine lv_iinc (v := v5 + (6 : Int32)) (lv' := [(5, .int (v5 + (6 : Int32))), (7, .int r_809), (0, .ref bb), (1, va_rf v1), (2, va_rf v2), (3, va_rf v3), (4, va_rf v4), (6, .int v6)]) hx hb dL_law_2604 hl (k := 6) rfl rfl (by decide) (by simp [ga_rcat, ga_cat_r, ga_cat_i, ga_cat_f, ga_cat_l, ga_cat_d]) (fun ls hl => ?_)
      refine lv_goto (tgt := 28) hx hb dL_law_2607 (by decide) ?_
      exact hhd28 _ _ _ _ H locs cells slots ls hw hI hbc hbs (lv_sub hl [2, 3, 4, 5, 6, 0] rfl)
    · have hw := hw.2 hc_824
      refine ga_aload_n hx hb dL_law_1777 rfl (lv_at hl 4 rfl) ?_
      refine lv_iconst (v := 0) hx hb dL_law_1778 (by decide) ?_
      obtain ⟨a_825, ea_825, hw⟩ := hw
      rewrite [ea_825]
      obtain ⟨n_826, f_827, hq, hi, hw⟩ := hw
      refine ga_ldl hx hb hI (ga_at.h hq) hi dL_law_1779 ?_
      refine lv_iload hx hb dL_law_1780 (lv_at hl 0 rfl) ?_
      refine lv_i2l (v := r_809.toInt64) hx hb dL_law_1782 rfl ?_
      refine W.lcmp hx hb dL_law_1783 ?_
      refine lv_if_eq (tgt := 1789) hx hb dL_law_1784 (by decide) (fun hc_828 => ?_) (fun hc_828 => ?_)
      · have hw := hw.1 hc_828
        refine lv_goto (tgt := 2604) hx hb dL_law_1789 (by decide) ?_
        refine lv_iinc (v := v5 + (6 : Int32)) (lv' := [(5, .int (v5 + (6 : Int32))), (7, .int r_809), (0, .ref bb), (1, va_rf v1), (2, va_rf v2), (3, va_rf v3), (4, va_rf v4), (6, .int v6)]) hx hb dL_law_2604 hl (k := 6) rfl rfl (by decide) (by simp [ga_rcat, ga_cat_r, ga_cat_i, ga_cat_f, ga_cat_l, ga_cat_d]) (fun ls hl => ?_)
        refine lv_goto (tgt := 28) hx hb dL_law_2607 (by decide) ?_
        exact hhd28 _ _ _ _ H locs cells slots ls hw hI hbc hbs (lv_sub hl [2, 3, 4, 5, 6, 0] rfl)
      · have hw := hw.2 hc_828
        refine lv_iconst (v := 0) hx hb dL_law_1787 (by decide) ?_
        exact hw.elim
  · have hw := hw.2 hc_823
    refine lv_iconst (v := 0) hx hb dL_law_1770 (by decide) ?_
    exact hw.elim
def gw_L_law_1723 (K : ga_K) (bb L : Nat) (xs : Nat → Int32) (hd28 : Int32 → ga_H → Nat → Nat → Prop) (t0 : Int32) (t1 : Int32) (t2 : Int32) (t3 : Option Nat) (v1 : Option Nat) (v2 : Option Nat) (v3 : Option Nat) (v4 : Option Nat) (v5 : Int32) (h : ga_H) (bc bs : Nat) : Prop :=
  ∃ kc_792 ks_793 : Nat, kc_792 ≤ bc ∧ ks_793 ≤ bs ∧ gw_X0_stock K t3 t2 t1 t0 v3 h kc_792 ks_793 (fun (r_795 : Int32) (h_794 : ga_H) => vp_in (v5 + (1 : Int32)) L ∧ ∀ w_799 : Int32, w_799 = xs (v5 + (1 : Int32)).toNatClampNeg → (vp_in (v5 + (2 : Int32)) L ∧ ∀ w_800 : Int32, w_800 = xs (v5 + (2 : Int32)).toNatClampNeg → (vp_in (v5 + (3 : Int32)) L ∧ ∀ w_801 : Int32, w_801 = xs (v5 + (3 : Int32)).toNatClampNeg → ((w_801 = (0 : Int32) → (gw_L_law_1756 K bb L xs (fun (y0 : Int32) (T : ga_H) (B1 : Nat) (B2 : Nat) => hd28 y0 T B1 B2) (0 : Int32) w_800 w_799 v2 v1 v2 v3 v4 v5 r_795 h_794 (bc - kc_792) (bs - ks_793))) ∧ (¬ w_801 = (0 : Int32) → (gw_L_law_1756 K bb L xs (fun (y0 : Int32) (T : ga_H) (B1 : Nat) (B2 : Nat) => hd28 y0 T B1 B2) (1 : Int32) w_800 w_799 v2 v1 v2 v3 v4 v5 r_795 h_794 (bc - kc_792) (bs - ks_793))))))) (fun (E_796 : String) (q_797 : Nat) (h_798 : ga_H) => False)
set_option maxHeartbeats 16000000 in
theorem gj_L_law_1723 {p : Program} {l : Launch} {e : Env} {s : State} {m : MethodId} {args : Array Value} {below : List Frame} {meth : Method} {c : Code} {Q : State → Prop} {H : Heap} {locs : List Loc} {cells slots : Nat} {ls : Array Slot} (g : ga_G) (bb L : Nat) (xs : Nat → Int32) (hst : l.stackTraces = false) (hfin : ∀ (pc : Nat) (h : ga_H) (H : Heap) (locs : List Loc) (cells slots : Nat) (ls : Array Slot), ga_I g h s H locs → cells ≤ room_1.cells → slots ≤ room_1.slots → decode cL_law pc = .ok (.ireturn, 1) → W p l e room_1 s m args below meth c H locs cells slots Q (F0 m pc ls [.int 1])) (hX : va_X bb L xs s s.heap) (hbl : bb < s.heap.size) (hbA : ¬ ga_A g bb) (hd28 : Int32 → ga_H → Nat → Nat → Prop) (t0 : Int32) (t1 : Int32) (t2 : Int32) (t3 : Option Nat) (v1 : Option Nat) (v2 : Option Nat) (v3 : Option Nat) (v4 : Option Nat) (v5 : Int32) (h : ga_H) (bc bs : Nat) (hC : ga_Cx p s m args meth c cL_law 9 (some .boolean) "PaperStoreLaw" "law") (hw : gw_L_law_1723 g.2.2 bb L xs hd28 t0 t1 t2 t3 v1 v2 v3 v4 v5 h bc bs) (hhd28 : ∀ (y0 : Int32) (T : ga_H) (B1 : Nat) (B2 : Nat) (H : Heap) (locs : List Loc) (cells slots : Nat) (ls : Array Slot), hd28 y0 T B1 B2 → ga_I g T s H locs → cells + B1 ≤ room_1.cells → slots + B2 ≤ room_1.slots → lv_has ls 9 [(0, .ref bb), (1, va_rf v1), (2, va_rf v2), (3, va_rf v3), (4, va_rf v4), (5, .int y0)] → W p l e room_1 s m args below meth c H locs cells slots Q (F0 m 28 ls [])) (hI : ga_I g h s H locs) (hbc : cells + bc ≤ room_1.cells) (hbs : slots + bs ≤ room_1.slots) (hl : lv_has ls 9 [(0, .ref bb), (1, va_rf v1), (2, va_rf v2), (3, va_rf v3), (4, va_rf v4), (5, .int v5)]) : W p l e room_1 s m args below meth c H locs cells slots Q (F0 m 1723 ls [.int t0, .int t1, .int t2, va_rf t3]) := by
  obtain ⟨hx, hb, hml, hown, hts, hr, hlk, hnm⟩ := hC
  unfold gw_L_law_1723 at hw
  refine ga_aload_n hx hb dL_law_1723 rfl (lv_at hl 3 rfl) ?_
  obtain ⟨kc_792, ks_793, hk1, hk2, hw⟩ := hw
  refine ga_xcalli (vx_runSX (As := [va_rf t3, .int t2, .int t1, .int t0, va_rf v3]) (rest := []) ⟨hx, hb, hml, hown, hts⟩ (gm_X0_stock l hst g t3 t2 t1 t0 v3 h kc_792 ks_793 _ _ hw) (vx_cwSW 5 hts (lw_SW q2597 q2598 q99 q2599) rfl rfl rfl hdG_X0_stock ⟨Nat.le_of_ble_eq_true rfl, Nat.le_of_ble_eq_true rfl⟩) (ga_preS hI rfl) rfl rfl hl.1 rfl (ga_room (Nat.le_of_ble_eq_true rfl)) dL_law_1724 ⟨Nat.le_trans (Nat.add_le_add_left hk1 _) hbc, Nat.le_trans (Nat.add_le_add_left hk2 _) hbs⟩) hI hbc hbs hk1 hk2 (fun E_796 q_797 h_798 ce H locs cells slots hw hI hce hbc hbs => ?_) (fun r_795 h_794 H locs cells slots hw hI hbc hbs => ?_)
  · exact hw.elim
  · skip
    refine lv_istore (lv' := [(6, .int r_795), (0, .ref bb), (1, va_rf v1), (2, va_rf v2), (3, va_rf v3), (4, va_rf v4), (5, .int v5)]) hx hb dL_law_1727 hl (by decide) rfl (fun ls hl => ?_)
    refine ga_aload_n hx hb dL_law_1729 rfl (lv_at hl 3 rfl) ?_
    refine lv_aload_n hx hb dL_law_1730 rfl (lv_at hl 1 rfl) ?_
    refine lv_iload hx hb dL_law_1731 (lv_at hl 6 rfl) ?_
    refine lv_iconst (v := 1) hx hb dL_law_1733 (by decide) ?_
    refine lv_iadd hx hb dL_law_1734 ?_
    obtain ⟨hi, hw⟩ := hw
    refine va_sld hx hb hX hbl hbA hI.2.2 hi dL_law_1735 ?_
    refine lv_topi (fun w_799 ew_799 => ?_)
    have hw := hw w_799 ew_799
    refine lv_aload_n hx hb dL_law_1736 rfl (lv_at hl 1 rfl) ?_
    refine lv_iload hx hb dL_law_1737 (lv_at hl 6 rfl) ?_
    refine lv_iconst (v := 2) hx hb dL_law_1739 (by decide) ?_
    refine lv_iadd hx hb dL_law_1740 ?_
    obtain ⟨hi, hw⟩ := hw
    refine va_sld hx hb hX hbl hbA hI.2.2 hi dL_law_1741 ?_
    refine lv_topi (fun w_800 ew_800 => ?_)
    have hw := hw w_800 ew_800
    refine lv_aload_n hx hb dL_law_1742 rfl (lv_at hl 1 rfl) ?_
    refine lv_iload hx hb dL_law_1743 (lv_at hl 6 rfl) ?_
    refine lv_iconst (v := 3) hx hb dL_law_1745 (by decide) ?_
    refine lv_iadd hx hb dL_law_1746 ?_
    obtain ⟨hi, hw⟩ := hw
    refine va_sld hx hb hX hbl hbA hI.2.2 hi dL_law_1747 ?_
    refine lv_topi (fun w_801 ew_801 => ?_)
    have hw := hw w_801 ew_801
    refine lv_if_eq (tgt := 1755) hx hb dL_law_1748 (by decide) (fun hc_802 => ?_) (fun hc_802 => ?_)
    · have hw := hw.1 hc_802
      refine lv_iconst (v := 0) hx hb dL_law_1755 (by decide) ?_
      exact gj_L_law_1756 g bb L xs hst hfin hX hbl hbA (fun (y0 : Int32) (T : ga_H) (B1 : Nat) (B2 : Nat) => hd28 y0 T B1 B2) (0 : Int32) w_800 w_799 v2 v1 v2 v3 v4 v5 r_795 h_794 (bc - kc_792) (bs - ks_793) ⟨hx, hb, hml, hown, hts, hr, hlk, hnm⟩ hw hhd28 hI hbc hbs (lv_sub hl [1, 2, 3, 4, 5, 6, 0] rfl)
    · have hw := hw.2 hc_802
      refine lv_iconst (v := 1) hx hb dL_law_1751 (by decide) ?_
      refine lv_goto (tgt := 1756) hx hb dL_law_1752 (by decide) ?_
      exact gj_L_law_1756 g bb L xs hst hfin hX hbl hbA (fun (y0 : Int32) (T : ga_H) (B1 : Nat) (B2 : Nat) => hd28 y0 T B1 B2) (1 : Int32) w_800 w_799 v2 v1 v2 v3 v4 v5 r_795 h_794 (bc - kc_792) (bs - ks_793) ⟨hx, hb, hml, hown, hts, hr, hlk, hnm⟩ hw hhd28 hI hbc hbs (lv_sub hl [1, 2, 3, 4, 5, 6, 0] rfl)
def gw_L_law_2467 (K : ga_K) (bb L : Nat) (xs : Nat → Int32) (hd28 : Int32 → ga_H → Nat → Nat → Prop) (t0 : Int32) (t1 : Option Nat) (v1 : Option Nat) (v2 : Option Nat) (v3 : Option Nat) (v4 : Option Nat) (v5 : Int32) (v6 : Int32) (h : ga_H) (bc bs : Nat) : Prop :=
  ∃ a_1240 : Nat, t1 = some a_1240 ∧ ∃ (za_1241 zl_1242 zt_1243 zc_1244 : Nat) (S_1245 : zt_S), ga_Tw (a_1240, za_1241, zl_1242, zt_1243, zc_1244) h S_1245 ∧ zw_reason t0 S_1245 (fun (r_1246 : Int32) (S_1247 : zt_S) => ∀ h_1248 : ga_H, h_1248 = ga_tws (a_1240, za_1241, zl_1242, zt_1243, zc_1244) h S_1247 → (∃ a_1250 : Nat, v2 = some a_1250 ∧ ∃ (za_1251 zl_1252 zt_1253 zc_1254 : Nat) (S_1255 : zt_S), ga_Tw (a_1250, za_1251, zl_1252, zt_1253, zc_1254) h_1248 S_1255 ∧ zw_thrown S_1255 (fun (r_1256 : Int32) (S_1257 : zt_S) => ∀ h_1258 : ga_H, h_1258 = ga_tws (a_1250, za_1251, zl_1252, zt_1253, zc_1254) h_1248 S_1257 → ((r_1256 = v6 → ((¬ v6 = (0 : Int32) → (hd28 (v5 + (6 : Int32)) h_1258 bc bs)) ∧ (v6 = (0 : Int32) → (∃ a_1262 : Nat, v3 = some a_1262 ∧ ∃ (n_1263 : Nat) (f_1264 : Nat → Int64), h_1258 a_1262 = some (ga_Al n_1263 f_1264) ∧ vp_in (0 : Int32) n_1263 ∧ ((lg_cmp (f_1264 (0 : Int32).toNatClampNeg) r_1246.toInt64 = (0 : Int32) → (hd28 (v5 + (6 : Int32)) h_1258 bc bs)) ∧ (¬ lg_cmp (f_1264 (0 : Int32).toNatClampNeg) r_1246.toInt64 = (0 : Int32) → False)))))) ∧ (¬ r_1256 = v6 → False)))))
set_option maxHeartbeats 16000000 in
theorem gj_L_law_2467 {p : Program} {l : Launch} {e : Env} {s : State} {m : MethodId} {args : Array Value} {below : List Frame} {meth : Method} {c : Code} {Q : State → Prop} {H : Heap} {locs : List Loc} {cells slots : Nat} {ls : Array Slot} (g : ga_G) (bb L : Nat) (xs : Nat → Int32) (hst : l.stackTraces = false) (hfin : ∀ (pc : Nat) (h : ga_H) (H : Heap) (locs : List Loc) (cells slots : Nat) (ls : Array Slot), ga_I g h s H locs → cells ≤ room_1.cells → slots ≤ room_1.slots → decode cL_law pc = .ok (.ireturn, 1) → W p l e room_1 s m args below meth c H locs cells slots Q (F0 m pc ls [.int 1])) (hX : va_X bb L xs s s.heap) (hbl : bb < s.heap.size) (hbA : ¬ ga_A g bb) (hd28 : Int32 → ga_H → Nat → Nat → Prop) (t0 : Int32) (t1 : Option Nat) (v1 : Option Nat) (v2 : Option Nat) (v3 : Option Nat) (v4 : Option Nat) (v5 : Int32) (v6 : Int32) (h : ga_H) (bc bs : Nat) (hC : ga_Cx p s m args meth c cL_law 9 (some .boolean) "PaperStoreLaw" "law") (hw : gw_L_law_2467 g.2.2 bb L xs hd28 t0 t1 v1 v2 v3 v4 v5 v6 h bc bs) (hhd28 : ∀ (y0 : Int32) (T : ga_H) (B1 : Nat) (B2 : Nat) (H : Heap) (locs : List Loc) (cells slots : Nat) (ls : Array Slot), hd28 y0 T B1 B2 → ga_I g T s H locs → cells + B1 ≤ room_1.cells → slots + B2 ≤ room_1.slots → lv_has ls 9 [(0, .ref bb), (1, va_rf v1), (2, va_rf v2), (3, va_rf v3), (4, va_rf v4), (5, .int y0)] → W p l e room_1 s m args below meth c H locs cells slots Q (F0 m 28 ls [])) (hI : ga_I g h s H locs) (hbc : cells + bc ≤ room_1.cells) (hbs : slots + bs ≤ room_1.slots) (hl : lv_has ls 9 [(0, .ref bb), (1, va_rf v1), (2, va_rf v2), (3, va_rf v3), (4, va_rf v4), (5, .int v5), (6, .int v6)]) : W p l e room_1 s m args below meth c H locs cells slots Q (F0 m 2467 ls [.int t0, va_rf t1]) := by
  obtain ⟨hx, hb, hml, hown, hts, hr, hlk, hnm⟩ := hC
  unfold gw_L_law_2467 at hw
  obtain ⟨a_1240, ea_1240, hw⟩ := hw
  rewrite [ea_1240]
  obtain ⟨za_1241, zl_1242, zt_1243, zc_1244, S_1245, T_1249, hw⟩ := hw
  refine ga_callTi (z := (a_1240, za_1241, zl_1242, zt_1243, zc_1244)) (va_runV (As := [.int t0]) (rest := []) ⟨hx, hb, hml, hown, hts⟩ (zm_reason l (ga_gz g (a_1240, za_1241, zl_1242, zt_1243, zc_1244)) t0 S_1245 _ hw) (cwV 1 hts (lw_V q3685 q3686 q3687 q113 q3688) rfl rfl rfl hdT_reason ⟨Nat.le_of_ble_eq_true rfl, Nat.le_of_ble_eq_true rfl⟩) (ga_preT hI T_1249 rfl) rfl rfl hl.1 rfl (ga_room (Nat.le_of_ble_eq_true rfl)) dL_law_2467 ⟨Nat.le_trans (Nat.add_le_add_left (Nat.zero_le _) _) hbc, Nat.le_trans (Nat.add_le_add_left (Nat.zero_le _) _) hbs⟩) hI T_1249 hbc hbs (fun r_1246 S_1247 H locs cells slots hw hI hbc hbs => ?_)
  obtain ⟨h_1248, eh_1248⟩ : ∃ z, z = ga_tws (a_1240, za_1241, zl_1242, zt_1243, zc_1244) h S_1247 := ⟨_, rfl⟩
  rw [← eh_1248] at hI
  have hw := hw h_1248 eh_1248
  refine lv_istore (lv' := [(7, .int r_1246), (0, .ref bb), (1, va_rf v1), (2, va_rf v2), (3, va_rf v3), (4, va_rf v4), (5, .int v5), (6, .int v6)]) hx hb dL_law_2470 hl (by decide) rfl (fun ls hl => ?_)
  refine ga_aload_n hx hb dL_law_2472 rfl (lv_at hl 3 rfl) ?_
  obtain ⟨a_1250, ea_1250, hw⟩ := hw
  rewrite [ea_1250]
  obtain ⟨za_1251, zl_1252, zt_1253, zc_1254, S_1255, T_1259, hw⟩ := hw
  refine ga_callTi (z := (a_1250, za_1251, zl_1252, zt_1253, zc_1254)) (va_runV (As := []) (rest := []) ⟨hx, hb, hml, hown, hts⟩ (zm_thrown l (ga_gz g (a_1250, za_1251, zl_1252, zt_1253, zc_1254))  S_1255 _ hw) (cwV 0 hts (lw_V q3681 q3682 q3683 q113 q3684) rfl rfl rfl hdT_thrown ⟨Nat.le_of_ble_eq_true rfl, Nat.le_of_ble_eq_true rfl⟩) (ga_preT hI T_1259 rfl) rfl rfl hl.1 rfl (ga_room (Nat.le_of_ble_eq_true rfl)) dL_law_2473 ⟨Nat.le_trans (Nat.add_le_add_left (Nat.zero_le _) _) hbc, Nat.le_trans (Nat.add_le_add_left (Nat.zero_le _) _) hbs⟩) hI T_1259 hbc hbs (fun r_1256 S_1257 H locs cells slots hw hI hbc hbs => ?_)
  obtain ⟨h_1258, eh_1258⟩ : ∃ z, z = ga_tws (a_1250, za_1251, zl_1252, zt_1253, zc_1254) h_1248 S_1257 := ⟨_, rfl⟩
  rw [← eh_1258] at hI
  have hw := hw h_1258 eh_1258
  refine lv_iload hx hb dL_law_2476 (lv_at hl 7 rfl) ?_
  refine lv_icmp_eq (tgt := 2483) hx hb dL_law_2478 (by decide) (fun hc_1260 => ?_) (fun hc_1260 => ?_)
  · have hw := hw.1 hc_1260
    refine lv_iload hx hb dL_law_2483 (lv_at hl 7 rfl) ?_
    refine lv_if_ne (tgt := 2500) hx hb dL_law_2485 (by decide) (fun hc_1261 => ?_) (fun hc_1261 => ?_)
    · have hw := hw.1 hc_1261
      refine lv_goto (tgt := 2604) hx hb dL_law_2500 (by decide) ?_
      refine lv_iinc (v := v5 + (6 : Int32)) (lv' := [(5, .int (v5 + (6 : Int32))), (7, .int r_1246), (0, .ref bb), (1, va_rf v1), (2, va_rf v2), (3, va_rf v3), (4, va_rf v4), (6, .int v6)]) hx hb dL_law_2604 hl (k := 6) rfl rfl (by decide) (by simp [ga_rcat, ga_cat_r, ga_cat_i, ga_cat_f, ga_cat_l, ga_cat_d]) (fun ls hl => ?_)
      refine lv_goto (tgt := 28) hx hb dL_law_2607 (by decide) ?_
      exact hhd28 _ _ _ _ H locs cells slots ls hw hI hbc hbs (lv_sub hl [2, 3, 4, 5, 6, 0] rfl)
    · have hw := hw.2 hc_1261
      refine ga_aload_n hx hb dL_law_2488 rfl (lv_at hl 4 rfl) ?_
      refine lv_iconst (v := 0) hx hb dL_law_2489 (by decide) ?_
      obtain ⟨a_1262, ea_1262, hw⟩ := hw
      rewrite [ea_1262]
      obtain ⟨n_1263, f_1264, hq, hi, hw⟩ := hw
      refine ga_ldl hx hb hI (ga_at.h hq) hi dL_law_2490 ?_
      refine lv_iload hx hb dL_law_2491 (lv_at hl 0 rfl) ?_
      refine lv_i2l (v := r_1246.toInt64) hx hb dL_law_2493 rfl ?_
      refine W.lcmp hx hb dL_law_2494 ?_
      refine lv_if_eq (tgt := 2500) hx hb dL_law_2495 (by decide) (fun hc_1265 => ?_) (fun hc_1265 => ?_)
      · have hw := hw.1 hc_1265
        refine lv_goto (tgt := 2604) hx hb dL_law_2500 (by decide) ?_
        refine lv_iinc (v := v5 + (6 : Int32)) (lv' := [(5, .int (v5 + (6 : Int32))), (7, .int r_1246), (0, .ref bb), (1, va_rf v1), (2, va_rf v2), (3, va_rf v3), (4, va_rf v4), (6, .int v6)]) hx hb dL_law_2604 hl (k := 6) rfl rfl (by decide) (by simp [ga_rcat, ga_cat_r, ga_cat_i, ga_cat_f, ga_cat_l, ga_cat_d]) (fun ls hl => ?_)
        refine lv_goto (tgt := 28) hx hb dL_law_2607 (by decide) ?_
        exact hhd28 _ _ _ _ H locs cells slots ls hw hI hbc hbs (lv_sub hl [2, 3, 4, 5, 6, 0] rfl)
      · have hw := hw.2 hc_1265
        refine lv_iconst (v := 0) hx hb dL_law_2498 (by decide) ?_
        exact hw.elim
  · have hw := hw.2 hc_1260
    refine lv_iconst (v := 0) hx hb dL_law_2481 (by decide) ?_
    exact hw.elim
def gw_L_law_2446 (K : ga_K) (bb L : Nat) (xs : Nat → Int32) (hd28 : Int32 → ga_H → Nat → Nat → Prop) (t0 : Int32) (t1 : Option Nat) (v1 : Option Nat) (v2 : Option Nat) (v3 : Option Nat) (v4 : Option Nat) (v5 : Int32) (h : ga_H) (bc bs : Nat) : Prop :=
  ∃ kc_1231 ks_1232 : Nat, kc_1231 ≤ bc ∧ ks_1232 ≤ bs ∧ gw_X0_reason K t1 t0 v3 h kc_1231 ks_1232 (fun (r_1234 : Int32) (h_1233 : ga_H) => vp_in (v5 + (1 : Int32)) L ∧ ∀ w_1238 : Int32, w_1238 = xs (v5 + (1 : Int32)).toNatClampNeg → ((w_1238 = (0 : Int32) → (gw_L_law_2467 K bb L xs (fun (y0 : Int32) (T : ga_H) (B1 : Nat) (B2 : Nat) => hd28 y0 T B1 B2) (0 : Int32) v2 v1 v2 v3 v4 v5 r_1234 h_1233 (bc - kc_1231) (bs - ks_1232))) ∧ (¬ w_1238 = (0 : Int32) → (gw_L_law_2467 K bb L xs (fun (y0 : Int32) (T : ga_H) (B1 : Nat) (B2 : Nat) => hd28 y0 T B1 B2) (1 : Int32) v2 v1 v2 v3 v4 v5 r_1234 h_1233 (bc - kc_1231) (bs - ks_1232))))) (fun (E_1235 : String) (q_1236 : Nat) (h_1237 : ga_H) => False)
set_option maxHeartbeats 16000000 in
theorem gj_L_law_2446 {p : Program} {l : Launch} {e : Env} {s : State} {m : MethodId} {args : Array Value} {below : List Frame} {meth : Method} {c : Code} {Q : State → Prop} {H : Heap} {locs : List Loc} {cells slots : Nat} {ls : Array Slot} (g : ga_G) (bb L : Nat) (xs : Nat → Int32) (hst : l.stackTraces = false) (hfin : ∀ (pc : Nat) (h : ga_H) (H : Heap) (locs : List Loc) (cells slots : Nat) (ls : Array Slot), ga_I g h s H locs → cells ≤ room_1.cells → slots ≤ room_1.slots → decode cL_law pc = .ok (.ireturn, 1) → W p l e room_1 s m args below meth c H locs cells slots Q (F0 m pc ls [.int 1])) (hX : va_X bb L xs s s.heap) (hbl : bb < s.heap.size) (hbA : ¬ ga_A g bb) (hd28 : Int32 → ga_H → Nat → Nat → Prop) (t0 : Int32) (t1 : Option Nat) (v1 : Option Nat) (v2 : Option Nat) (v3 : Option Nat) (v4 : Option Nat) (v5 : Int32) (h : ga_H) (bc bs : Nat) (hC : ga_Cx p s m args meth c cL_law 9 (some .boolean) "PaperStoreLaw" "law") (hw : gw_L_law_2446 g.2.2 bb L xs hd28 t0 t1 v1 v2 v3 v4 v5 h bc bs) (hhd28 : ∀ (y0 : Int32) (T : ga_H) (B1 : Nat) (B2 : Nat) (H : Heap) (locs : List Loc) (cells slots : Nat) (ls : Array Slot), hd28 y0 T B1 B2 → ga_I g T s H locs → cells + B1 ≤ room_1.cells → slots + B2 ≤ room_1.slots → lv_has ls 9 [(0, .ref bb), (1, va_rf v1), (2, va_rf v2), (3, va_rf v3), (4, va_rf v4), (5, .int y0)] → W p l e room_1 s m args below meth c H locs cells slots Q (F0 m 28 ls [])) (hI : ga_I g h s H locs) (hbc : cells + bc ≤ room_1.cells) (hbs : slots + bs ≤ room_1.slots) (hl : lv_has ls 9 [(0, .ref bb), (1, va_rf v1), (2, va_rf v2), (3, va_rf v3), (4, va_rf v4), (5, .int v5)]) : W p l e room_1 s m args below meth c H locs cells slots Q (F0 m 2446 ls [.int t0, va_rf t1]) := by
  obtain ⟨hx, hb, hml, hown, hts, hr, hlk, hnm⟩ := hC
  unfold gw_L_law_2446 at hw
  refine ga_aload_n hx hb dL_law_2446 rfl (lv_at hl 3 rfl) ?_
  obtain ⟨kc_1231, ks_1232, hk1, hk2, hw⟩ := hw
  refine ga_xcalli (vx_runSX (As := [va_rf t1, .int t0, va_rf v3]) (rest := []) ⟨hx, hb, hml, hown, hts⟩ (gm_X0_reason l hst g t1 t0 v3 h kc_1231 ks_1232 _ _ hw) (vx_cwSW 3 hts (lw_SW q3601 q3602 q99 q3603) rfl rfl rfl hdG_X0_reason ⟨Nat.le_of_ble_eq_true rfl, Nat.le_of_ble_eq_true rfl⟩) (ga_preS hI rfl) rfl rfl hl.1 rfl (ga_room (Nat.le_of_ble_eq_true rfl)) dL_law_2447 ⟨Nat.le_trans (Nat.add_le_add_left hk1 _) hbc, Nat.le_trans (Nat.add_le_add_left hk2 _) hbs⟩) hI hbc hbs hk1 hk2 (fun E_1235 q_1236 h_1237 ce H locs cells slots hw hI hce hbc hbs => ?_) (fun r_1234 h_1233 H locs cells slots hw hI hbc hbs => ?_)
  · exact hw.elim
  · skip
    refine lv_istore (lv' := [(6, .int r_1234), (0, .ref bb), (1, va_rf v1), (2, va_rf v2), (3, va_rf v3), (4, va_rf v4), (5, .int v5)]) hx hb dL_law_2450 hl (by decide) rfl (fun ls hl => ?_)
    refine ga_aload_n hx hb dL_law_2452 rfl (lv_at hl 3 rfl) ?_
    refine lv_aload_n hx hb dL_law_2453 rfl (lv_at hl 1 rfl) ?_
    refine lv_iload hx hb dL_law_2454 (lv_at hl 6 rfl) ?_
    refine lv_iconst (v := 1) hx hb dL_law_2456 (by decide) ?_
    refine lv_iadd hx hb dL_law_2457 ?_
    obtain ⟨hi, hw⟩ := hw
    refine va_sld hx hb hX hbl hbA hI.2.2 hi dL_law_2458 ?_
    refine lv_topi (fun w_1238 ew_1238 => ?_)
    have hw := hw w_1238 ew_1238
    refine lv_if_eq (tgt := 2466) hx hb dL_law_2459 (by decide) (fun hc_1239 => ?_) (fun hc_1239 => ?_)
    · have hw := hw.1 hc_1239
      refine lv_iconst (v := 0) hx hb dL_law_2466 (by decide) ?_
      exact gj_L_law_2467 g bb L xs hst hfin hX hbl hbA (fun (y0 : Int32) (T : ga_H) (B1 : Nat) (B2 : Nat) => hd28 y0 T B1 B2) (0 : Int32) v2 v1 v2 v3 v4 v5 r_1234 h_1233 (bc - kc_1231) (bs - ks_1232) ⟨hx, hb, hml, hown, hts, hr, hlk, hnm⟩ hw hhd28 hI hbc hbs (lv_sub hl [1, 2, 3, 4, 5, 6, 0] rfl)
    · have hw := hw.2 hc_1239
      refine lv_iconst (v := 1) hx hb dL_law_2462 (by decide) ?_
      refine lv_goto (tgt := 2467) hx hb dL_law_2463 (by decide) ?_
      exact gj_L_law_2467 g bb L xs hst hfin hX hbl hbA (fun (y0 : Int32) (T : ga_H) (B1 : Nat) (B2 : Nat) => hd28 y0 T B1 B2) (1 : Int32) v2 v1 v2 v3 v4 v5 r_1234 h_1233 (bc - kc_1231) (bs - ks_1232) ⟨hx, hb, hml, hown, hts, hr, hlk, hnm⟩ hw hhd28 hI hbc hbs (lv_sub hl [1, 2, 3, 4, 5, 6, 0] rfl)
def gw_L_law (K : ga_K) (bb L : Nat) (xs : Nat → Int32) (h : ga_H) (mc ms : Nat) : Prop :=
  1 ≤ mc ∧ 8 ≤ ms ∧ ∀ q_1 : Nat, h q_1 = none → ∀ h_2 : ga_H, h_2 = ga_set h q_1 (ga_O 0 [va_rf none, va_rf none, va_rf none, va_rf none, va_rf none, .int 0, va_rf none, va_rf none]) → (∃ kc_3 ks_4 : Nat, kc_3 ≤ (mc - 1) ∧ ks_4 ≤ (ms - 8) ∧ gw_X1_init K q_1 h_2 kc_3 ks_4 (fun (h_5 : ga_H) => 1 ≤ ((mc - 1) - kc_3) ∧ 16 ≤ ((ms - 8) - ks_4) ∧ ∀ q_6 : Nat, h_5 q_6 = none → ∀ h_7 : ga_H, h_7 = ga_set h_5 q_6 (ga_O 30 [.int 0, va_rf none, .int 0, .int 0, .int 0, .int 0, .int 0, va_rf none, .int 0, va_rf none, .int 0, .int 0, .int 0, .int 0, va_rf none, .int 0]) → (∃ kc_8 ks_9 : Nat, kc_8 ≤ (((mc - 1) - kc_3) - 1) ∧ ks_9 ≤ (((ms - 8) - ks_4) - 16) ∧ gw_X5_init K q_6 h_7 kc_8 ks_9 (fun (h_10 : ga_H) => 1 ≤ ((((mc - 1) - kc_3) - 1) - kc_8) ∧ 1 ≤ ((((ms - 8) - ks_4) - 16) - ks_9) ∧ ∀ q_11 : Nat, h_10 q_11 = none → ∀ h_12 : ga_H, h_12 = ga_set h_10 q_11 (ga_Al 1 (fun _ => 0)) → (1 ≤ (((((mc - 1) - kc_3) - 1) - kc_8) - 1) ∧ 1 ≤ (((((ms - 8) - ks_4) - 16) - ks_9) - 1) ∧ ∀ q_13 : Nat, h_12 q_13 = none → ∀ h_14 : ga_H, h_14 = ga_set h_12 q_13 (ga_Ad 1 (fun _ => 0)) → (∃ (In_15 : Int32 → ga_H → Nat → Nat → Prop) (mu_15 : Int32 → ga_H → Nat → Nat → Nat), In_15 (0 : Int32) h_14 ((((((mc - 1) - kc_3) - 1) - kc_8) - 1) - 1) ((((((ms - 8) - ks_4) - 16) - ks_9) - 1) - 1) ∧ ∀ (x5_15 : Int32) (h_15 : ga_H) (bc_15 : Nat) (bs_15 : Nat), In_15 x5_15 h_15 bc_15 bs_15 → (((nI L) - (6 : Int32) < x5_15 → True) ∧ (¬ (nI L) - (6 : Int32) < x5_15 → (vp_in x5_15 L ∧ ∀ w_17 : Int32, w_17 = xs x5_15.toNatClampNeg → ((w_17 &&& (63 : Int32) = (0 : Int32) → (vp_in (x5_15 + (1 : Int32)) L ∧ ∀ w_19 : Int32, w_19 = xs (x5_15 + (1 : Int32)).toNatClampNeg → (∃ kc_20 ks_21 : Nat, kc_20 ≤ bc_15 ∧ ks_21 ≤ bs_15 ∧ gw_X0_ladder K (some q_1) w_19 (some q_11) h_15 kc_20 ks_21 (fun (r_23 : Int32) (h_22 : ga_H) => vp_in (x5_15 + (1 : Int32)) L ∧ ∀ w_27 : Int32, w_27 = xs (x5_15 + (1 : Int32)).toNatClampNeg → (∃ (za_28 zl_29 zt_30 zc_31 : Nat) (S_32 : zt_S), ga_Tw (q_6, za_28, zl_29, zt_30, zc_31) h_22 S_32 ∧ zw_ladder w_27 S_32 (fun (r_33 : Int32) (S_34 : zt_S) => ∀ h_35 : ga_H, h_35 = ga_tws (q_6, za_28, zl_29, zt_30, zc_31) h_22 S_34 → (∃ (za_37 zl_38 zt_39 zc_40 : Nat) (S_41 : zt_S), ga_Tw (q_6, za_37, zl_38, zt_39, zc_40) h_35 S_41 ∧ zw_thrown S_41 (fun (r_42 : Int32) (S_43 : zt_S) => ∀ h_44 : ga_H, h_44 = ga_tws (q_6, za_37, zl_38, zt_39, zc_40) h_35 S_43 → ((r_42 = r_23 → ((¬ r_23 = (0 : Int32) → (In_15 (x5_15 + (6 : Int32)) h_44 (bc_15 - kc_20) (bs_15 - ks_21) ∧ mu_15 (x5_15 + (6 : Int32)) h_44 (bc_15 - kc_20) (bs_15 - ks_21) < mu_15 x5_15 h_15 bc_15 bs_15)) ∧ (r_23 = (0 : Int32) → (∃ (n_48 : Nat) (f_49 : Nat → Int64), h_44 q_11 = some (ga_Al n_48 f_49) ∧ vp_in (0 : Int32) n_48 ∧ ((lg_cmp (f_49 (0 : Int32).toNatClampNeg) r_33.toInt64 = (0 : Int32) → (In_15 (x5_15 + (6 : Int32)) h_44 (bc_15 - kc_20) (bs_15 - ks_21) ∧ mu_15 (x5_15 + (6 : Int32)) h_44 (bc_15 - kc_20) (bs_15 - ks_21) < mu_15 x5_15 h_15 bc_15 bs_15)) ∧ (¬ lg_cmp (f_49 (0 : Int32).toNatClampNeg) r_33.toInt64 = (0 : Int32) → False)))))) ∧ (¬ r_42 = r_23 → False))))))) (fun (E_24 : String) (q_25 : Nat) (h_26 : ga_H) => False)))) ∧ (¬ w_17 &&& (63 : Int32) = (0 : Int32) → ((w_17 &&& (63 : Int32) = (1 : Int32) → (vp_in (x5_15 + (1 : Int32)) L ∧ ∀ w_52 : Int32, w_52 = xs (x5_15 + (1 : Int32)).toNatClampNeg → (vp_in (x5_15 + (2 : Int32)) L ∧ ∀ w_53 : Int32, w_53 = xs (x5_15 + (2 : Int32)).toNatClampNeg → (∃ kc_54 ks_55 : Nat, kc_54 ≤ bc_15 ∧ ks_55 ≤ bs_15 ∧ gw_X0_push K (some q_1) w_52 w_53 (some q_11) h_15 kc_54 ks_55 (fun (r_57 : Int32) (h_56 : ga_H) => vp_in (x5_15 + (1 : Int32)) L ∧ ∀ w_61 : Int32, w_61 = xs (x5_15 + (1 : Int32)).toNatClampNeg → (vp_in (x5_15 + (2 : Int32)) L ∧ ∀ w_62 : Int32, w_62 = xs (x5_15 + (2 : Int32)).toNatClampNeg → (∃ (za_63 zl_64 zt_65 zc_66 : Nat) (S_67 : zt_S), ga_Tw (q_6, za_63, zl_64, zt_65, zc_66) h_56 S_67 ∧ zw_push w_61 w_62 S_67 (fun (r_68 : Int32) (S_69 : zt_S) => ∀ h_70 : ga_H, h_70 = ga_tws (q_6, za_63, zl_64, zt_65, zc_66) h_56 S_69 → (∃ (za_72 zl_73 zt_74 zc_75 : Nat) (S_76 : zt_S), ga_Tw (q_6, za_72, zl_73, zt_74, zc_75) h_70 S_76 ∧ zw_thrown S_76 (fun (r_77 : Int32) (S_78 : zt_S) => ∀ h_79 : ga_H, h_79 = ga_tws (q_6, za_72, zl_73, zt_74, zc_75) h_70 S_78 → ((r_77 = r_57 → ((¬ r_57 = (0 : Int32) → (In_15 (x5_15 + (6 : Int32)) h_79 (bc_15 - kc_54) (bs_15 - ks_55) ∧ mu_15 (x5_15 + (6 : Int32)) h_79 (bc_15 - kc_54) (bs_15 - ks_55) < mu_15 x5_15 h_15 bc_15 bs_15)) ∧ (r_57 = (0 : Int32) → (∃ (n_83 : Nat) (f_84 : Nat → Int64), h_79 q_11 = some (ga_Al n_83 f_84) ∧ vp_in (0 : Int32) n_83 ∧ ((lg_cmp (f_84 (0 : Int32).toNatClampNeg) r_68.toInt64 = (0 : Int32) → (In_15 (x5_15 + (6 : Int32)) h_79 (bc_15 - kc_54) (bs_15 - ks_55) ∧ mu_15 (x5_15 + (6 : Int32)) h_79 (bc_15 - kc_54) (bs_15 - ks_55) < mu_15 x5_15 h_15 bc_15 bs_15)) ∧ (¬ lg_cmp (f_84 (0 : Int32).toNatClampNeg) r_68.toInt64 = (0 : Int32) → False)))))) ∧ (¬ r_77 = r_57 → False)))))))) (fun (E_58 : String) (q_59 : Nat) (h_60 : ga_H) => False))))) ∧ (¬ w_17 &&& (63 : Int32) = (1 : Int32) → ((w_17 &&& (63 : Int32) = (2 : Int32) → (vp_in (x5_15 + (1 : Int32)) L ∧ ∀ w_87 : Int32, w_87 = xs (x5_15 + (1 : Int32)).toNatClampNeg → (vp_in (x5_15 + (2 : Int32)) L ∧ ∀ w_88 : Int32, w_88 = xs (x5_15 + (2 : Int32)).toNatClampNeg → (vp_in (x5_15 + (3 : Int32)) L ∧ ∀ w_89 : Int32, w_89 = xs (x5_15 + (3 : Int32)).toNatClampNeg → (vp_in (x5_15 + (4 : Int32)) L ∧ ∀ w_90 : Int32, w_90 = xs (x5_15 + (4 : Int32)).toNatClampNeg → (vp_in (x5_15 + (5 : Int32)) L ∧ ∀ w_91 : Int32, w_91 = xs (x5_15 + (5 : Int32)).toNatClampNeg → (∃ kc_92 ks_93 : Nat, kc_92 ≤ bc_15 ∧ ks_93 ≤ bs_15 ∧ gw_X0_store K (some q_1) w_87 w_88 w_89 w_90 w_91 (some q_11) h_15 kc_92 ks_93 (fun (r_95 : Int32) (h_94 : ga_H) => vp_in (x5_15 + (1 : Int32)) L ∧ ∀ w_99 : Int32, w_99 = xs (x5_15 + (1 : Int32)).toNatClampNeg → (vp_in (x5_15 + (2 : Int32)) L ∧ ∀ w_100 : Int32, w_100 = xs (x5_15 + (2 : Int32)).toNatClampNeg → (vp_in (x5_15 + (3 : Int32)) L ∧ ∀ w_101 : Int32, w_101 = xs (x5_15 + (3 : Int32)).toNatClampNeg → (vp_in (x5_15 + (4 : Int32)) L ∧ ∀ w_102 : Int32, w_102 = xs (x5_15 + (4 : Int32)).toNatClampNeg → (vp_in (x5_15 + (5 : Int32)) L ∧ ∀ w_103 : Int32, w_103 = xs (x5_15 + (5 : Int32)).toNatClampNeg → (∃ (za_104 zl_105 zt_106 zc_107 : Nat) (S_108 : zt_S), ga_Tw (q_6, za_104, zl_105, zt_106, zc_107) h_94 S_108 ∧ zw_store w_99 w_100 w_101 w_102 w_103 S_108 (fun (r_109 : Int32) (S_110 : zt_S) => ∀ h_111 : ga_H, h_111 = ga_tws (q_6, za_104, zl_105, zt_106, zc_107) h_94 S_110 → (∃ (za_113 zl_114 zt_115 zc_116 : Nat) (S_117 : zt_S), ga_Tw (q_6, za_113, zl_114, zt_115, zc_116) h_111 S_117 ∧ zw_thrown S_117 (fun (r_118 : Int32) (S_119 : zt_S) => ∀ h_120 : ga_H, h_120 = ga_tws (q_6, za_113, zl_114, zt_115, zc_116) h_111 S_119 → ((r_118 = r_95 → ((¬ r_95 = (0 : Int32) → (In_15 (x5_15 + (6 : Int32)) h_120 (bc_15 - kc_92) (bs_15 - ks_93) ∧ mu_15 (x5_15 + (6 : Int32)) h_120 (bc_15 - kc_92) (bs_15 - ks_93) < mu_15 x5_15 h_15 bc_15 bs_15)) ∧ (r_95 = (0 : Int32) → (∃ (n_124 : Nat) (f_125 : Nat → Int64), h_120 q_11 = some (ga_Al n_124 f_125) ∧ vp_in (0 : Int32) n_124 ∧ ((lg_cmp (f_125 (0 : Int32).toNatClampNeg) r_109.toInt64 = (0 : Int32) → (In_15 (x5_15 + (6 : Int32)) h_120 (bc_15 - kc_92) (bs_15 - ks_93) ∧ mu_15 (x5_15 + (6 : Int32)) h_120 (bc_15 - kc_92) (bs_15 - ks_93) < mu_15 x5_15 h_15 bc_15 bs_15)) ∧ (¬ lg_cmp (f_125 (0 : Int32).toNatClampNeg) r_109.toInt64 = (0 : Int32) → False)))))) ∧ (¬ r_118 = r_95 → False))))))))))) (fun (E_96 : String) (q_97 : Nat) (h_98 : ga_H) => False)))))))) ∧ (¬ w_17 &&& (63 : Int32) = (2 : Int32) → ((w_17 &&& (63 : Int32) = (3 : Int32) → (vp_in (x5_15 + (1 : Int32)) L ∧ ∀ w_128 : Int32, w_128 = xs (x5_15 + (1 : Int32)).toNatClampNeg → (vp_in (x5_15 + (2 : Int32)) L ∧ ∀ w_129 : Int32, w_129 = xs (x5_15 + (2 : Int32)).toNatClampNeg → ((w_129 = (0 : Int32) → (gw_L_law_469 K bb L xs (fun (y0 : Int32) (T : ga_H) (B1 : Nat) (B2 : Nat) => In_15 y0 T B1 B2 ∧ mu_15 y0 T B1 B2 < mu_15 x5_15 h_15 bc_15 bs_15) (0 : Int32) w_128 (some q_1) (some q_1) (some q_6) (some q_11) (some q_13) x5_15 h_15 bc_15 bs_15)) ∧ (¬ w_129 = (0 : Int32) → (gw_L_law_469 K bb L xs (fun (y0 : Int32) (T : ga_H) (B1 : Nat) (B2 : Nat) => In_15 y0 T B1 B2 ∧ mu_15 y0 T B1 B2 < mu_15 x5_15 h_15 bc_15 bs_15) (1 : Int32) w_128 (some q_1) (some q_1) (some q_6) (some q_11) (some q_13) x5_15 h_15 bc_15 bs_15)))))) ∧ (¬ w_17 &&& (63 : Int32) = (3 : Int32) → ((w_17 &&& (63 : Int32) = (4 : Int32) → (vp_in (x5_15 + (1 : Int32)) L ∧ ∀ w_168 : Int32, w_168 = xs (x5_15 + (1 : Int32)).toNatClampNeg → (vp_in (x5_15 + (2 : Int32)) L ∧ ∀ w_169 : Int32, w_169 = xs (x5_15 + (2 : Int32)).toNatClampNeg → (∃ kc_170 ks_171 : Nat, kc_170 ≤ bc_15 ∧ ks_171 ≤ bs_15 ∧ gw_X0_reamOf K (some q_1) w_168 w_169 (some q_11) h_15 kc_170 ks_171 (fun (r_173 : Int32) (h_172 : ga_H) => vp_in (x5_15 + (1 : Int32)) L ∧ ∀ w_177 : Int32, w_177 = xs (x5_15 + (1 : Int32)).toNatClampNeg → (vp_in (x5_15 + (2 : Int32)) L ∧ ∀ w_178 : Int32, w_178 = xs (x5_15 + (2 : Int32)).toNatClampNeg → (∃ (za_179 zl_180 zt_181 zc_182 : Nat) (S_183 : zt_S), ga_Tw (q_6, za_179, zl_180, zt_181, zc_182) h_172 S_183 ∧ zw_reamOf w_177 w_178 S_183 (fun (r_184 : Int32) (S_185 : zt_S) => ∀ h_186 : ga_H, h_186 = ga_tws (q_6, za_179, zl_180, zt_181, zc_182) h_172 S_185 → (∃ (za_188 zl_189 zt_190 zc_191 : Nat) (S_192 : zt_S), ga_Tw (q_6, za_188, zl_189, zt_190, zc_191) h_186 S_192 ∧ zw_thrown S_192 (fun (r_193 : Int32) (S_194 : zt_S) => ∀ h_195 : ga_H, h_195 = ga_tws (q_6, za_188, zl_189, zt_190, zc_191) h_186 S_194 → ((r_193 = r_173 → ((¬ r_173 = (0 : Int32) → (In_15 (x5_15 + (6 : Int32)) h_195 (bc_15 - kc_170) (bs_15 - ks_171) ∧ mu_15 (x5_15 + (6 : Int32)) h_195 (bc_15 - kc_170) (bs_15 - ks_171) < mu_15 x5_15 h_15 bc_15 bs_15)) ∧ (r_173 = (0 : Int32) → (∃ (n_199 : Nat) (f_200 : Nat → Int64), h_195 q_11 = some (ga_Al n_199 f_200) ∧ vp_in (0 : Int32) n_199 ∧ ((lg_cmp (f_200 (0 : Int32).toNatClampNeg) r_184.toInt64 = (0 : Int32) → (In_15 (x5_15 + (6 : Int32)) h_195 (bc_15 - kc_170) (bs_15 - ks_171) ∧ mu_15 (x5_15 + (6 : Int32)) h_195 (bc_15 - kc_170) (bs_15 - ks_171) < mu_15 x5_15 h_15 bc_15 bs_15)) ∧ (¬ lg_cmp (f_200 (0 : Int32).toNatClampNeg) r_184.toInt64 = (0 : Int32) → False)))))) ∧ (¬ r_193 = r_173 → False)))))))) (fun (E_174 : String) (q_175 : Nat) (h_176 : ga_H) => False))))) ∧ (¬ w_17 &&& (63 : Int32) = (4 : Int32) → ((w_17 &&& (63 : Int32) = (5 : Int32) → (vp_in (x5_15 + (1 : Int32)) L ∧ ∀ w_203 : Int32, w_203 = xs (x5_15 + (1 : Int32)).toNatClampNeg → (vp_in (x5_15 + (2 : Int32)) L ∧ ∀ w_204 : Int32, w_204 = xs (x5_15 + (2 : Int32)).toNatClampNeg → (∃ kc_205 ks_206 : Nat, kc_205 ≤ bc_15 ∧ ks_206 ≤ bs_15 ∧ gw_X0_top K (some q_1) w_203 w_204 (some q_11) h_15 kc_205 ks_206 (fun (r_208 : Int32) (h_207 : ga_H) => vp_in (x5_15 + (1 : Int32)) L ∧ ∀ w_212 : Int32, w_212 = xs (x5_15 + (1 : Int32)).toNatClampNeg → (vp_in (x5_15 + (2 : Int32)) L ∧ ∀ w_213 : Int32, w_213 = xs (x5_15 + (2 : Int32)).toNatClampNeg → (∃ (za_214 zl_215 zt_216 zc_217 : Nat) (S_218 : zt_S), ga_Tw (q_6, za_214, zl_215, zt_216, zc_217) h_207 S_218 ∧ zw_top w_212 w_213 S_218 (fun (r_219 : Int32) (S_220 : zt_S) => ∀ h_221 : ga_H, h_221 = ga_tws (q_6, za_214, zl_215, zt_216, zc_217) h_207 S_220 → (∃ (za_223 zl_224 zt_225 zc_226 : Nat) (S_227 : zt_S), ga_Tw (q_6, za_223, zl_224, zt_225, zc_226) h_221 S_227 ∧ zw_thrown S_227 (fun (r_228 : Int32) (S_229 : zt_S) => ∀ h_230 : ga_H, h_230 = ga_tws (q_6, za_223, zl_224, zt_225, zc_226) h_221 S_229 → ((r_228 = r_208 → ((¬ r_208 = (0 : Int32) → (In_15 (x5_15 + (6 : Int32)) h_230 (bc_15 - kc_205) (bs_15 - ks_206) ∧ mu_15 (x5_15 + (6 : Int32)) h_230 (bc_15 - kc_205) (bs_15 - ks_206) < mu_15 x5_15 h_15 bc_15 bs_15)) ∧ (r_208 = (0 : Int32) → (∃ (n_234 : Nat) (f_235 : Nat → Int64), h_230 q_11 = some (ga_Al n_234 f_235) ∧ vp_in (0 : Int32) n_234 ∧ ((lg_cmp (f_235 (0 : Int32).toNatClampNeg) r_219.toInt64 = (0 : Int32) → (In_15 (x5_15 + (6 : Int32)) h_230 (bc_15 - kc_205) (bs_15 - ks_206) ∧ mu_15 (x5_15 + (6 : Int32)) h_230 (bc_15 - kc_205) (bs_15 - ks_206) < mu_15 x5_15 h_15 bc_15 bs_15)) ∧ (¬ lg_cmp (f_235 (0 : Int32).toNatClampNeg) r_219.toInt64 = (0 : Int32) → False)))))) ∧ (¬ r_228 = r_208 → False)))))))) (fun (E_209 : String) (q_210 : Nat) (h_211 : ga_H) => False))))) ∧ (¬ w_17 &&& (63 : Int32) = (5 : Int32) → ((w_17 &&& (63 : Int32) = (6 : Int32) → (vp_in (x5_15 + (1 : Int32)) L ∧ ∀ w_238 : Int32, w_238 = xs (x5_15 + (1 : Int32)).toNatClampNeg → (∃ kc_239 ks_240 : Nat, kc_239 ≤ bc_15 ∧ ks_240 ≤ bs_15 ∧ gw_X0_wavyIn K (some q_1) w_238 (some q_11) h_15 kc_239 ks_240 (fun (r_242 : Int32) (h_241 : ga_H) => vp_in (x5_15 + (1 : Int32)) L ∧ ∀ w_246 : Int32, w_246 = xs (x5_15 + (1 : Int32)).toNatClampNeg → (∃ (za_247 zl_248 zt_249 zc_250 : Nat) (S_251 : zt_S), ga_Tw (q_6, za_247, zl_248, zt_249, zc_250) h_241 S_251 ∧ zw_wavyIn w_246 S_251 (fun (r_252 : Int32) (S_253 : zt_S) => ∀ h_254 : ga_H, h_254 = ga_tws (q_6, za_247, zl_248, zt_249, zc_250) h_241 S_253 → (∃ (za_256 zl_257 zt_258 zc_259 : Nat) (S_260 : zt_S), ga_Tw (q_6, za_256, zl_257, zt_258, zc_259) h_254 S_260 ∧ zw_thrown S_260 (fun (r_261 : Int32) (S_262 : zt_S) => ∀ h_263 : ga_H, h_263 = ga_tws (q_6, za_256, zl_257, zt_258, zc_259) h_254 S_262 → ((r_261 = r_242 → ((¬ r_242 = (0 : Int32) → (In_15 (x5_15 + (6 : Int32)) h_263 (bc_15 - kc_239) (bs_15 - ks_240) ∧ mu_15 (x5_15 + (6 : Int32)) h_263 (bc_15 - kc_239) (bs_15 - ks_240) < mu_15 x5_15 h_15 bc_15 bs_15)) ∧ (r_242 = (0 : Int32) → (∃ (n_267 : Nat) (f_268 : Nat → Int64), h_263 q_11 = some (ga_Al n_267 f_268) ∧ vp_in (0 : Int32) n_267 ∧ ((lg_cmp (f_268 (0 : Int32).toNatClampNeg) r_252.toInt64 = (0 : Int32) → (In_15 (x5_15 + (6 : Int32)) h_263 (bc_15 - kc_239) (bs_15 - ks_240) ∧ mu_15 (x5_15 + (6 : Int32)) h_263 (bc_15 - kc_239) (bs_15 - ks_240) < mu_15 x5_15 h_15 bc_15 bs_15)) ∧ (¬ lg_cmp (f_268 (0 : Int32).toNatClampNeg) r_252.toInt64 = (0 : Int32) → False)))))) ∧ (¬ r_261 = r_242 → False))))))) (fun (E_243 : String) (q_244 : Nat) (h_245 : ga_H) => False)))) ∧ (¬ w_17 &&& (63 : Int32) = (6 : Int32) → ((w_17 &&& (63 : Int32) = (7 : Int32) → (vp_in (x5_15 + (1 : Int32)) L ∧ ∀ w_271 : Int32, w_271 = xs (x5_15 + (1 : Int32)).toNatClampNeg → (vp_in (x5_15 + (2 : Int32)) L ∧ ∀ w_272 : Int32, w_272 = xs (x5_15 + (2 : Int32)).toNatClampNeg → (∃ kc_273 ks_274 : Nat, kc_273 ≤ bc_15 ∧ ks_274 ≤ bs_15 ∧ gw_X0_air K (some q_1) w_271 w_272 (some q_11) h_15 kc_273 ks_274 (fun (r_276 : Int32) (h_275 : ga_H) => vp_in (x5_15 + (1 : Int32)) L ∧ ∀ w_280 : Int32, w_280 = xs (x5_15 + (1 : Int32)).toNatClampNeg → (vp_in (x5_15 + (2 : Int32)) L ∧ ∀ w_281 : Int32, w_281 = xs (x5_15 + (2 : Int32)).toNatClampNeg → (∃ (za_282 zl_283 zt_284 zc_285 : Nat) (S_286 : zt_S), ga_Tw (q_6, za_282, zl_283, zt_284, zc_285) h_275 S_286 ∧ zw_air w_280 w_281 S_286 (fun (r_287 : Int32) (S_288 : zt_S) => ∀ h_289 : ga_H, h_289 = ga_tws (q_6, za_282, zl_283, zt_284, zc_285) h_275 S_288 → (∃ (za_291 zl_292 zt_293 zc_294 : Nat) (S_295 : zt_S), ga_Tw (q_6, za_291, zl_292, zt_293, zc_294) h_289 S_295 ∧ zw_thrown S_295 (fun (r_296 : Int32) (S_297 : zt_S) => ∀ h_298 : ga_H, h_298 = ga_tws (q_6, za_291, zl_292, zt_293, zc_294) h_289 S_297 → ((r_296 = r_276 → ((¬ r_276 = (0 : Int32) → (In_15 (x5_15 + (6 : Int32)) h_298 (bc_15 - kc_273) (bs_15 - ks_274) ∧ mu_15 (x5_15 + (6 : Int32)) h_298 (bc_15 - kc_273) (bs_15 - ks_274) < mu_15 x5_15 h_15 bc_15 bs_15)) ∧ (r_276 = (0 : Int32) → (∃ (n_302 : Nat) (f_303 : Nat → Int64), h_298 q_11 = some (ga_Al n_302 f_303) ∧ vp_in (0 : Int32) n_302 ∧ ((lg_cmp (f_303 (0 : Int32).toNatClampNeg) r_287.toInt64 = (0 : Int32) → (In_15 (x5_15 + (6 : Int32)) h_298 (bc_15 - kc_273) (bs_15 - ks_274) ∧ mu_15 (x5_15 + (6 : Int32)) h_298 (bc_15 - kc_273) (bs_15 - ks_274) < mu_15 x5_15 h_15 bc_15 bs_15)) ∧ (¬ lg_cmp (f_303 (0 : Int32).toNatClampNeg) r_287.toInt64 = (0 : Int32) → False)))))) ∧ (¬ r_296 = r_276 → False)))))))) (fun (E_277 : String) (q_278 : Nat) (h_279 : ga_H) => False))))) ∧ (¬ w_17 &&& (63 : Int32) = (7 : Int32) → ((w_17 &&& (63 : Int32) = (8 : Int32) → (vp_in (x5_15 + (1 : Int32)) L ∧ ∀ w_306 : Int32, w_306 = xs (x5_15 + (1 : Int32)).toNatClampNeg → (vp_in (x5_15 + (2 : Int32)) L ∧ ∀ w_307 : Int32, w_307 = xs (x5_15 + (2 : Int32)).toNatClampNeg → (∃ kc_308 ks_309 : Nat, kc_308 ≤ bc_15 ∧ ks_309 ≤ bs_15 ∧ gw_X0_mice K (some q_1) w_306 w_307 (some q_11) h_15 kc_308 ks_309 (fun (r_311 : Int32) (h_310 : ga_H) => vp_in (x5_15 + (1 : Int32)) L ∧ ∀ w_315 : Int32, w_315 = xs (x5_15 + (1 : Int32)).toNatClampNeg → (vp_in (x5_15 + (2 : Int32)) L ∧ ∀ w_316 : Int32, w_316 = xs (x5_15 + (2 : Int32)).toNatClampNeg → (∃ (za_317 zl_318 zt_319 zc_320 : Nat) (S_321 : zt_S), ga_Tw (q_6, za_317, zl_318, zt_319, zc_320) h_310 S_321 ∧ zw_mice w_315 w_316 S_321 (fun (r_322 : Int32) (S_323 : zt_S) => ∀ h_324 : ga_H, h_324 = ga_tws (q_6, za_317, zl_318, zt_319, zc_320) h_310 S_323 → (∃ (za_326 zl_327 zt_328 zc_329 : Nat) (S_330 : zt_S), ga_Tw (q_6, za_326, zl_327, zt_328, zc_329) h_324 S_330 ∧ zw_thrown S_330 (fun (r_331 : Int32) (S_332 : zt_S) => ∀ h_333 : ga_H, h_333 = ga_tws (q_6, za_326, zl_327, zt_328, zc_329) h_324 S_332 → ((r_331 = r_311 → ((¬ r_311 = (0 : Int32) → (In_15 (x5_15 + (6 : Int32)) h_333 (bc_15 - kc_308) (bs_15 - ks_309) ∧ mu_15 (x5_15 + (6 : Int32)) h_333 (bc_15 - kc_308) (bs_15 - ks_309) < mu_15 x5_15 h_15 bc_15 bs_15)) ∧ (r_311 = (0 : Int32) → (∃ (n_337 : Nat) (f_338 : Nat → Int64), h_333 q_11 = some (ga_Al n_337 f_338) ∧ vp_in (0 : Int32) n_337 ∧ ((lg_cmp (f_338 (0 : Int32).toNatClampNeg) r_322.toInt64 = (0 : Int32) → (In_15 (x5_15 + (6 : Int32)) h_333 (bc_15 - kc_308) (bs_15 - ks_309) ∧ mu_15 (x5_15 + (6 : Int32)) h_333 (bc_15 - kc_308) (bs_15 - ks_309) < mu_15 x5_15 h_15 bc_15 bs_15)) ∧ (¬ lg_cmp (f_338 (0 : Int32).toNatClampNeg) r_322.toInt64 = (0 : Int32) → False)))))) ∧ (¬ r_331 = r_311 → False)))))))) (fun (E_312 : String) (q_313 : Nat) (h_314 : ga_H) => False))))) ∧ (¬ w_17 &&& (63 : Int32) = (8 : Int32) → ((w_17 &&& (63 : Int32) = (9 : Int32) → (vp_in (x5_15 + (1 : Int32)) L ∧ ∀ w_341 : Int32, w_341 = xs (x5_15 + (1 : Int32)).toNatClampNeg → (vp_in (x5_15 + (2 : Int32)) L ∧ ∀ w_342 : Int32, w_342 = xs (x5_15 + (2 : Int32)).toNatClampNeg → (∃ kc_343 ks_344 : Nat, kc_343 ≤ bc_15 ∧ ks_344 ≤ bs_15 ∧ gw_X0_trap K (some q_1) w_341 w_342 (some q_11) h_15 kc_343 ks_344 (fun (r_346 : Int32) (h_345 : ga_H) => vp_in (x5_15 + (1 : Int32)) L ∧ ∀ w_350 : Int32, w_350 = xs (x5_15 + (1 : Int32)).toNatClampNeg → (vp_in (x5_15 + (2 : Int32)) L ∧ ∀ w_351 : Int32, w_351 = xs (x5_15 + (2 : Int32)).toNatClampNeg → (∃ (za_352 zl_353 zt_354 zc_355 : Nat) (S_356 : zt_S), ga_Tw (q_6, za_352, zl_353, zt_354, zc_355) h_345 S_356 ∧ zw_trap w_350 w_351 S_356 (fun (r_357 : Int32) (S_358 : zt_S) => ∀ h_359 : ga_H, h_359 = ga_tws (q_6, za_352, zl_353, zt_354, zc_355) h_345 S_358 → (∃ (za_361 zl_362 zt_363 zc_364 : Nat) (S_365 : zt_S), ga_Tw (q_6, za_361, zl_362, zt_363, zc_364) h_359 S_365 ∧ zw_thrown S_365 (fun (r_366 : Int32) (S_367 : zt_S) => ∀ h_368 : ga_H, h_368 = ga_tws (q_6, za_361, zl_362, zt_363, zc_364) h_359 S_367 → ((r_366 = r_346 → ((¬ r_346 = (0 : Int32) → (In_15 (x5_15 + (6 : Int32)) h_368 (bc_15 - kc_343) (bs_15 - ks_344) ∧ mu_15 (x5_15 + (6 : Int32)) h_368 (bc_15 - kc_343) (bs_15 - ks_344) < mu_15 x5_15 h_15 bc_15 bs_15)) ∧ (r_346 = (0 : Int32) → (∃ (n_372 : Nat) (f_373 : Nat → Int64), h_368 q_11 = some (ga_Al n_372 f_373) ∧ vp_in (0 : Int32) n_372 ∧ ((lg_cmp (f_373 (0 : Int32).toNatClampNeg) r_357.toInt64 = (0 : Int32) → (In_15 (x5_15 + (6 : Int32)) h_368 (bc_15 - kc_343) (bs_15 - ks_344) ∧ mu_15 (x5_15 + (6 : Int32)) h_368 (bc_15 - kc_343) (bs_15 - ks_344) < mu_15 x5_15 h_15 bc_15 bs_15)) ∧ (¬ lg_cmp (f_373 (0 : Int32).toNatClampNeg) r_357.toInt64 = (0 : Int32) → False)))))) ∧ (¬ r_366 = r_346 → False)))))))) (fun (E_347 : String) (q_348 : Nat) (h_349 : ga_H) => False))))) ∧ (¬ w_17 &&& (63 : Int32) = (9 : Int32) → ((w_17 &&& (63 : Int32) = (10 : Int32) → (vp_in (x5_15 + (1 : Int32)) L ∧ ∀ w_376 : Int32, w_376 = xs (x5_15 + (1 : Int32)).toNatClampNeg → (vp_in (x5_15 + (2 : Int32)) L ∧ ∀ w_377 : Int32, w_377 = xs (x5_15 + (2 : Int32)).toNatClampNeg → (∃ kc_378 ks_379 : Nat, kc_378 ≤ bc_15 ∧ ks_379 ≤ bs_15 ∧ gw_X0_aisleOf K (some q_1) w_376 w_377 (some q_11) h_15 kc_378 ks_379 (fun (r_381 : Int32) (h_380 : ga_H) => vp_in (x5_15 + (1 : Int32)) L ∧ ∀ w_385 : Int32, w_385 = xs (x5_15 + (1 : Int32)).toNatClampNeg → (vp_in (x5_15 + (2 : Int32)) L ∧ ∀ w_386 : Int32, w_386 = xs (x5_15 + (2 : Int32)).toNatClampNeg → (∃ (za_387 zl_388 zt_389 zc_390 : Nat) (S_391 : zt_S), ga_Tw (q_6, za_387, zl_388, zt_389, zc_390) h_380 S_391 ∧ zw_aisleOf w_385 w_386 S_391 (fun (r_392 : Int32) (S_393 : zt_S) => ∀ h_394 : ga_H, h_394 = ga_tws (q_6, za_387, zl_388, zt_389, zc_390) h_380 S_393 → (∃ (za_396 zl_397 zt_398 zc_399 : Nat) (S_400 : zt_S), ga_Tw (q_6, za_396, zl_397, zt_398, zc_399) h_394 S_400 ∧ zw_thrown S_400 (fun (r_401 : Int32) (S_402 : zt_S) => ∀ h_403 : ga_H, h_403 = ga_tws (q_6, za_396, zl_397, zt_398, zc_399) h_394 S_402 → ((r_401 = r_381 → ((¬ r_381 = (0 : Int32) → (In_15 (x5_15 + (6 : Int32)) h_403 (bc_15 - kc_378) (bs_15 - ks_379) ∧ mu_15 (x5_15 + (6 : Int32)) h_403 (bc_15 - kc_378) (bs_15 - ks_379) < mu_15 x5_15 h_15 bc_15 bs_15)) ∧ (r_381 = (0 : Int32) → (∃ (n_407 : Nat) (f_408 : Nat → Int64), h_403 q_11 = some (ga_Al n_407 f_408) ∧ vp_in (0 : Int32) n_407 ∧ ((lg_cmp (f_408 (0 : Int32).toNatClampNeg) r_392.toInt64 = (0 : Int32) → (In_15 (x5_15 + (6 : Int32)) h_403 (bc_15 - kc_378) (bs_15 - ks_379) ∧ mu_15 (x5_15 + (6 : Int32)) h_403 (bc_15 - kc_378) (bs_15 - ks_379) < mu_15 x5_15 h_15 bc_15 bs_15)) ∧ (¬ lg_cmp (f_408 (0 : Int32).toNatClampNeg) r_392.toInt64 = (0 : Int32) → False)))))) ∧ (¬ r_401 = r_381 → False)))))))) (fun (E_382 : String) (q_383 : Nat) (h_384 : ga_H) => False))))) ∧ (¬ w_17 &&& (63 : Int32) = (10 : Int32) → ((w_17 &&& (63 : Int32) = (11 : Int32) → (vp_in (x5_15 + (1 : Int32)) L ∧ ∀ w_411 : Int32, w_411 = xs (x5_15 + (1 : Int32)).toNatClampNeg → (vp_in (x5_15 + (2 : Int32)) L ∧ ∀ w_412 : Int32, w_412 = xs (x5_15 + (2 : Int32)).toNatClampNeg → (∃ kc_413 ks_414 : Nat, kc_413 ≤ bc_15 ∧ ks_414 ≤ bs_15 ∧ gw_X0_eatenIn K (some q_1) w_411 w_412 (some q_11) h_15 kc_413 ks_414 (fun (r_416 : Int32) (h_415 : ga_H) => vp_in (x5_15 + (1 : Int32)) L ∧ ∀ w_420 : Int32, w_420 = xs (x5_15 + (1 : Int32)).toNatClampNeg → (vp_in (x5_15 + (2 : Int32)) L ∧ ∀ w_421 : Int32, w_421 = xs (x5_15 + (2 : Int32)).toNatClampNeg → (∃ (za_422 zl_423 zt_424 zc_425 : Nat) (S_426 : zt_S), ga_Tw (q_6, za_422, zl_423, zt_424, zc_425) h_415 S_426 ∧ zw_eatenIn w_420 w_421 S_426 (fun (r_427 : Int32) (S_428 : zt_S) => ∀ h_429 : ga_H, h_429 = ga_tws (q_6, za_422, zl_423, zt_424, zc_425) h_415 S_428 → (∃ (za_431 zl_432 zt_433 zc_434 : Nat) (S_435 : zt_S), ga_Tw (q_6, za_431, zl_432, zt_433, zc_434) h_429 S_435 ∧ zw_thrown S_435 (fun (r_436 : Int32) (S_437 : zt_S) => ∀ h_438 : ga_H, h_438 = ga_tws (q_6, za_431, zl_432, zt_433, zc_434) h_429 S_437 → ((r_436 = r_416 → ((¬ r_416 = (0 : Int32) → (In_15 (x5_15 + (6 : Int32)) h_438 (bc_15 - kc_413) (bs_15 - ks_414) ∧ mu_15 (x5_15 + (6 : Int32)) h_438 (bc_15 - kc_413) (bs_15 - ks_414) < mu_15 x5_15 h_15 bc_15 bs_15)) ∧ (r_416 = (0 : Int32) → (∃ (n_442 : Nat) (f_443 : Nat → Int64), h_438 q_11 = some (ga_Al n_442 f_443) ∧ vp_in (0 : Int32) n_442 ∧ ((lg_cmp (f_443 (0 : Int32).toNatClampNeg) r_427.toInt64 = (0 : Int32) → (In_15 (x5_15 + (6 : Int32)) h_438 (bc_15 - kc_413) (bs_15 - ks_414) ∧ mu_15 (x5_15 + (6 : Int32)) h_438 (bc_15 - kc_413) (bs_15 - ks_414) < mu_15 x5_15 h_15 bc_15 bs_15)) ∧ (¬ lg_cmp (f_443 (0 : Int32).toNatClampNeg) r_427.toInt64 = (0 : Int32) → False)))))) ∧ (¬ r_436 = r_416 → False)))))))) (fun (E_417 : String) (q_418 : Nat) (h_419 : ga_H) => False))))) ∧ (¬ w_17 &&& (63 : Int32) = (11 : Int32) → ((w_17 &&& (63 : Int32) = (12 : Int32) → (vp_in (x5_15 + (1 : Int32)) L ∧ ∀ w_446 : Int32, w_446 = xs (x5_15 + (1 : Int32)).toNatClampNeg → (∃ kc_447 ks_448 : Nat, kc_447 ≤ bc_15 ∧ ks_448 ≤ bs_15 ∧ gw_X0_ranked K (some q_1) w_446 (some q_11) h_15 kc_447 ks_448 (fun (r_450 : Int32) (h_449 : ga_H) => vp_in (x5_15 + (1 : Int32)) L ∧ ∀ w_454 : Int32, w_454 = xs (x5_15 + (1 : Int32)).toNatClampNeg → (∃ (za_455 zl_456 zt_457 zc_458 : Nat) (S_459 : zt_S), ga_Tw (q_6, za_455, zl_456, zt_457, zc_458) h_449 S_459 ∧ zw_ranked w_454 S_459 (fun (r_460 : Int32) (S_461 : zt_S) => ∀ h_462 : ga_H, h_462 = ga_tws (q_6, za_455, zl_456, zt_457, zc_458) h_449 S_461 → (∃ (za_464 zl_465 zt_466 zc_467 : Nat) (S_468 : zt_S), ga_Tw (q_6, za_464, zl_465, zt_466, zc_467) h_462 S_468 ∧ zw_thrown S_468 (fun (r_469 : Int32) (S_470 : zt_S) => ∀ h_471 : ga_H, h_471 = ga_tws (q_6, za_464, zl_465, zt_466, zc_467) h_462 S_470 → ((r_469 = r_450 → ((¬ r_450 = (0 : Int32) → (In_15 (x5_15 + (6 : Int32)) h_471 (bc_15 - kc_447) (bs_15 - ks_448) ∧ mu_15 (x5_15 + (6 : Int32)) h_471 (bc_15 - kc_447) (bs_15 - ks_448) < mu_15 x5_15 h_15 bc_15 bs_15)) ∧ (r_450 = (0 : Int32) → (∃ (n_475 : Nat) (f_476 : Nat → Int64), h_471 q_11 = some (ga_Al n_475 f_476) ∧ vp_in (0 : Int32) n_475 ∧ ((lg_cmp (f_476 (0 : Int32).toNatClampNeg) r_460.toInt64 = (0 : Int32) → (In_15 (x5_15 + (6 : Int32)) h_471 (bc_15 - kc_447) (bs_15 - ks_448) ∧ mu_15 (x5_15 + (6 : Int32)) h_471 (bc_15 - kc_447) (bs_15 - ks_448) < mu_15 x5_15 h_15 bc_15 bs_15)) ∧ (¬ lg_cmp (f_476 (0 : Int32).toNatClampNeg) r_460.toInt64 = (0 : Int32) → False)))))) ∧ (¬ r_469 = r_450 → False))))))) (fun (E_451 : String) (q_452 : Nat) (h_453 : ga_H) => False)))) ∧ (¬ w_17 &&& (63 : Int32) = (12 : Int32) → ((w_17 &&& (63 : Int32) = (13 : Int32) → (vp_in (x5_15 + (1 : Int32)) L ∧ ∀ w_479 : Int32, w_479 = xs (x5_15 + (1 : Int32)).toNatClampNeg → (vp_in (x5_15 + (2 : Int32)) L ∧ ∀ w_480 : Int32, w_480 = xs (x5_15 + (2 : Int32)).toNatClampNeg → (vp_in (x5_15 + (3 : Int32)) L ∧ ∀ w_481 : Int32, w_481 = xs (x5_15 + (3 : Int32)).toNatClampNeg → (∃ kc_482 ks_483 : Nat, kc_482 ≤ bc_15 ∧ ks_483 ≤ bs_15 ∧ gw_X0_order K (some q_1) w_479 w_480 w_481 (some q_11) h_15 kc_482 ks_483 (fun (r_485 : Int32) (h_484 : ga_H) => vp_in (x5_15 + (1 : Int32)) L ∧ ∀ w_489 : Int32, w_489 = xs (x5_15 + (1 : Int32)).toNatClampNeg → (vp_in (x5_15 + (2 : Int32)) L ∧ ∀ w_490 : Int32, w_490 = xs (x5_15 + (2 : Int32)).toNatClampNeg → (vp_in (x5_15 + (3 : Int32)) L ∧ ∀ w_491 : Int32, w_491 = xs (x5_15 + (3 : Int32)).toNatClampNeg → (∃ (za_492 zl_493 zt_494 zc_495 : Nat) (S_496 : zt_S), ga_Tw (q_6, za_492, zl_493, zt_494, zc_495) h_484 S_496 ∧ zw_order w_489 w_490 w_491 S_496 (fun (r_497 : Int32) (S_498 : zt_S) => ∀ h_499 : ga_H, h_499 = ga_tws (q_6, za_492, zl_493, zt_494, zc_495) h_484 S_498 → (∃ (za_501 zl_502 zt_503 zc_504 : Nat) (S_505 : zt_S), ga_Tw (q_6, za_501, zl_502, zt_503, zc_504) h_499 S_505 ∧ zw_thrown S_505 (fun (r_506 : Int32) (S_507 : zt_S) => ∀ h_508 : ga_H, h_508 = ga_tws (q_6, za_501, zl_502, zt_503, zc_504) h_499 S_507 → ((r_506 = r_485 → ((¬ r_485 = (0 : Int32) → (In_15 (x5_15 + (6 : Int32)) h_508 (bc_15 - kc_482) (bs_15 - ks_483) ∧ mu_15 (x5_15 + (6 : Int32)) h_508 (bc_15 - kc_482) (bs_15 - ks_483) < mu_15 x5_15 h_15 bc_15 bs_15)) ∧ (r_485 = (0 : Int32) → (∃ (n_512 : Nat) (f_513 : Nat → Int64), h_508 q_11 = some (ga_Al n_512 f_513) ∧ vp_in (0 : Int32) n_512 ∧ ((lg_cmp (f_513 (0 : Int32).toNatClampNeg) r_497.toInt64 = (0 : Int32) → (In_15 (x5_15 + (6 : Int32)) h_508 (bc_15 - kc_482) (bs_15 - ks_483) ∧ mu_15 (x5_15 + (6 : Int32)) h_508 (bc_15 - kc_482) (bs_15 - ks_483) < mu_15 x5_15 h_15 bc_15 bs_15)) ∧ (¬ lg_cmp (f_513 (0 : Int32).toNatClampNeg) r_497.toInt64 = (0 : Int32) → False)))))) ∧ (¬ r_506 = r_485 → False))))))))) (fun (E_486 : String) (q_487 : Nat) (h_488 : ga_H) => False)))))) ∧ (¬ w_17 &&& (63 : Int32) = (13 : Int32) → ((w_17 &&& (63 : Int32) = (14 : Int32) → (vp_in (x5_15 + (1 : Int32)) L ∧ ∀ w_516 : Int32, w_516 = xs (x5_15 + (1 : Int32)).toNatClampNeg → (∃ kc_517 ks_518 : Nat, kc_517 ≤ bc_15 ∧ ks_518 ≤ bs_15 ∧ gw_X0_cancel K (some q_1) w_516 (some q_11) h_15 kc_517 ks_518 (fun (r_520 : Int32) (h_519 : ga_H) => vp_in (x5_15 + (1 : Int32)) L ∧ ∀ w_524 : Int32, w_524 = xs (x5_15 + (1 : Int32)).toNatClampNeg → (∃ (za_525 zl_526 zt_527 zc_528 : Nat) (S_529 : zt_S), ga_Tw (q_6, za_525, zl_526, zt_527, zc_528) h_519 S_529 ∧ zw_cancel w_524 S_529 (fun (r_530 : Int32) (S_531 : zt_S) => ∀ h_532 : ga_H, h_532 = ga_tws (q_6, za_525, zl_526, zt_527, zc_528) h_519 S_531 → (∃ (za_534 zl_535 zt_536 zc_537 : Nat) (S_538 : zt_S), ga_Tw (q_6, za_534, zl_535, zt_536, zc_537) h_532 S_538 ∧ zw_thrown S_538 (fun (r_539 : Int32) (S_540 : zt_S) => ∀ h_541 : ga_H, h_541 = ga_tws (q_6, za_534, zl_535, zt_536, zc_537) h_532 S_540 → ((r_539 = r_520 → ((¬ r_520 = (0 : Int32) → (In_15 (x5_15 + (6 : Int32)) h_541 (bc_15 - kc_517) (bs_15 - ks_518) ∧ mu_15 (x5_15 + (6 : Int32)) h_541 (bc_15 - kc_517) (bs_15 - ks_518) < mu_15 x5_15 h_15 bc_15 bs_15)) ∧ (r_520 = (0 : Int32) → (∃ (n_545 : Nat) (f_546 : Nat → Int64), h_541 q_11 = some (ga_Al n_545 f_546) ∧ vp_in (0 : Int32) n_545 ∧ ((lg_cmp (f_546 (0 : Int32).toNatClampNeg) r_530.toInt64 = (0 : Int32) → (In_15 (x5_15 + (6 : Int32)) h_541 (bc_15 - kc_517) (bs_15 - ks_518) ∧ mu_15 (x5_15 + (6 : Int32)) h_541 (bc_15 - kc_517) (bs_15 - ks_518) < mu_15 x5_15 h_15 bc_15 bs_15)) ∧ (¬ lg_cmp (f_546 (0 : Int32).toNatClampNeg) r_530.toInt64 = (0 : Int32) → False)))))) ∧ (¬ r_539 = r_520 → False))))))) (fun (E_521 : String) (q_522 : Nat) (h_523 : ga_H) => False)))) ∧ (¬ w_17 &&& (63 : Int32) = (14 : Int32) → ((w_17 &&& (63 : Int32) = (15 : Int32) → (vp_in (x5_15 + (1 : Int32)) L ∧ ∀ w_549 : Int32, w_549 = xs (x5_15 + (1 : Int32)).toNatClampNeg → (∃ kc_550 ks_551 : Nat, kc_550 ≤ bc_15 ∧ ks_551 ≤ bs_15 ∧ gw_X0_cart K (some q_1) w_549 (some q_11) h_15 kc_550 ks_551 (fun (r_553 : Int32) (h_552 : ga_H) => vp_in (x5_15 + (1 : Int32)) L ∧ ∀ w_557 : Int32, w_557 = xs (x5_15 + (1 : Int32)).toNatClampNeg → (∃ (za_558 zl_559 zt_560 zc_561 : Nat) (S_562 : zt_S), ga_Tw (q_6, za_558, zl_559, zt_560, zc_561) h_552 S_562 ∧ zw_cart w_557 S_562 (fun (r_563 : Int32) (S_564 : zt_S) => ∀ h_565 : ga_H, h_565 = ga_tws (q_6, za_558, zl_559, zt_560, zc_561) h_552 S_564 → (∃ (za_567 zl_568 zt_569 zc_570 : Nat) (S_571 : zt_S), ga_Tw (q_6, za_567, zl_568, zt_569, zc_570) h_565 S_571 ∧ zw_thrown S_571 (fun (r_572 : Int32) (S_573 : zt_S) => ∀ h_574 : ga_H, h_574 = ga_tws (q_6, za_567, zl_568, zt_569, zc_570) h_565 S_573 → ((r_572 = r_553 → ((¬ r_553 = (0 : Int32) → (In_15 (x5_15 + (6 : Int32)) h_574 (bc_15 - kc_550) (bs_15 - ks_551) ∧ mu_15 (x5_15 + (6 : Int32)) h_574 (bc_15 - kc_550) (bs_15 - ks_551) < mu_15 x5_15 h_15 bc_15 bs_15)) ∧ (r_553 = (0 : Int32) → (∃ (n_578 : Nat) (f_579 : Nat → Int64), h_574 q_11 = some (ga_Al n_578 f_579) ∧ vp_in (0 : Int32) n_578 ∧ ((lg_cmp (f_579 (0 : Int32).toNatClampNeg) r_563.toInt64 = (0 : Int32) → (In_15 (x5_15 + (6 : Int32)) h_574 (bc_15 - kc_550) (bs_15 - ks_551) ∧ mu_15 (x5_15 + (6 : Int32)) h_574 (bc_15 - kc_550) (bs_15 - ks_551) < mu_15 x5_15 h_15 bc_15 bs_15)) ∧ (¬ lg_cmp (f_579 (0 : Int32).toNatClampNeg) r_563.toInt64 = (0 : Int32) → False)))))) ∧ (¬ r_572 = r_553 → False))))))) (fun (E_554 : String) (q_555 : Nat) (h_556 : ga_H) => False)))) ∧ (¬ w_17 &&& (63 : Int32) = (15 : Int32) → ((w_17 &&& (63 : Int32) = (16 : Int32) → (vp_in (x5_15 + (1 : Int32)) L ∧ ∀ w_582 : Int32, w_582 = xs (x5_15 + (1 : Int32)).toNatClampNeg → (vp_in (x5_15 + (2 : Int32)) L ∧ ∀ w_583 : Int32, w_583 = xs (x5_15 + (2 : Int32)).toNatClampNeg → (vp_in (x5_15 + (3 : Int32)) L ∧ ∀ w_584 : Int32, w_584 = xs (x5_15 + (3 : Int32)).toNatClampNeg → (∃ kc_585 ks_586 : Nat, kc_585 ≤ bc_15 ∧ ks_586 ≤ bs_15 ∧ gw_X0_gather K (some q_1) w_582 w_583 w_584 (some q_11) h_15 kc_585 ks_586 (fun (r_588 : Int32) (h_587 : ga_H) => vp_in (x5_15 + (1 : Int32)) L ∧ ∀ w_592 : Int32, w_592 = xs (x5_15 + (1 : Int32)).toNatClampNeg → (vp_in (x5_15 + (2 : Int32)) L ∧ ∀ w_593 : Int32, w_593 = xs (x5_15 + (2 : Int32)).toNatClampNeg → (vp_in (x5_15 + (3 : Int32)) L ∧ ∀ w_594 : Int32, w_594 = xs (x5_15 + (3 : Int32)).toNatClampNeg → (∃ (za_595 zl_596 zt_597 zc_598 : Nat) (S_599 : zt_S), ga_Tw (q_6, za_595, zl_596, zt_597, zc_598) h_587 S_599 ∧ zw_gather w_592 w_593 w_594 S_599 (fun (r_600 : Int32) (S_601 : zt_S) => ∀ h_602 : ga_H, h_602 = ga_tws (q_6, za_595, zl_596, zt_597, zc_598) h_587 S_601 → (∃ (za_604 zl_605 zt_606 zc_607 : Nat) (S_608 : zt_S), ga_Tw (q_6, za_604, zl_605, zt_606, zc_607) h_602 S_608 ∧ zw_thrown S_608 (fun (r_609 : Int32) (S_610 : zt_S) => ∀ h_611 : ga_H, h_611 = ga_tws (q_6, za_604, zl_605, zt_606, zc_607) h_602 S_610 → ((r_609 = r_588 → ((¬ r_588 = (0 : Int32) → (In_15 (x5_15 + (6 : Int32)) h_611 (bc_15 - kc_585) (bs_15 - ks_586) ∧ mu_15 (x5_15 + (6 : Int32)) h_611 (bc_15 - kc_585) (bs_15 - ks_586) < mu_15 x5_15 h_15 bc_15 bs_15)) ∧ (r_588 = (0 : Int32) → (∃ (n_615 : Nat) (f_616 : Nat → Int64), h_611 q_11 = some (ga_Al n_615 f_616) ∧ vp_in (0 : Int32) n_615 ∧ ((lg_cmp (f_616 (0 : Int32).toNatClampNeg) r_600.toInt64 = (0 : Int32) → (In_15 (x5_15 + (6 : Int32)) h_611 (bc_15 - kc_585) (bs_15 - ks_586) ∧ mu_15 (x5_15 + (6 : Int32)) h_611 (bc_15 - kc_585) (bs_15 - ks_586) < mu_15 x5_15 h_15 bc_15 bs_15)) ∧ (¬ lg_cmp (f_616 (0 : Int32).toNatClampNeg) r_600.toInt64 = (0 : Int32) → False)))))) ∧ (¬ r_609 = r_588 → False))))))))) (fun (E_589 : String) (q_590 : Nat) (h_591 : ga_H) => False)))))) ∧ (¬ w_17 &&& (63 : Int32) = (16 : Int32) → ((w_17 &&& (63 : Int32) = (17 : Int32) → (vp_in (x5_15 + (1 : Int32)) L ∧ ∀ w_619 : Int32, w_619 = xs (x5_15 + (1 : Int32)).toNatClampNeg → (∃ kc_620 ks_621 : Nat, kc_620 ≤ bc_15 ∧ ks_621 ≤ bs_15 ∧ gw_X0_send K (some q_1) w_619 (some q_11) h_15 kc_620 ks_621 (fun (r_623 : Int32) (h_622 : ga_H) => vp_in (x5_15 + (1 : Int32)) L ∧ ∀ w_627 : Int32, w_627 = xs (x5_15 + (1 : Int32)).toNatClampNeg → (∃ (za_628 zl_629 zt_630 zc_631 : Nat) (S_632 : zt_S), ga_Tw (q_6, za_628, zl_629, zt_630, zc_631) h_622 S_632 ∧ zw_send w_627 S_632 (fun (r_633 : Int32) (S_634 : zt_S) => ∀ h_635 : ga_H, h_635 = ga_tws (q_6, za_628, zl_629, zt_630, zc_631) h_622 S_634 → (∃ (za_637 zl_638 zt_639 zc_640 : Nat) (S_641 : zt_S), ga_Tw (q_6, za_637, zl_638, zt_639, zc_640) h_635 S_641 ∧ zw_thrown S_641 (fun (r_642 : Int32) (S_643 : zt_S) => ∀ h_644 : ga_H, h_644 = ga_tws (q_6, za_637, zl_638, zt_639, zc_640) h_635 S_643 → ((r_642 = r_623 → ((¬ r_623 = (0 : Int32) → (In_15 (x5_15 + (6 : Int32)) h_644 (bc_15 - kc_620) (bs_15 - ks_621) ∧ mu_15 (x5_15 + (6 : Int32)) h_644 (bc_15 - kc_620) (bs_15 - ks_621) < mu_15 x5_15 h_15 bc_15 bs_15)) ∧ (r_623 = (0 : Int32) → (∃ (n_648 : Nat) (f_649 : Nat → Int64), h_644 q_11 = some (ga_Al n_648 f_649) ∧ vp_in (0 : Int32) n_648 ∧ ((lg_cmp (f_649 (0 : Int32).toNatClampNeg) r_633.toInt64 = (0 : Int32) → (In_15 (x5_15 + (6 : Int32)) h_644 (bc_15 - kc_620) (bs_15 - ks_621) ∧ mu_15 (x5_15 + (6 : Int32)) h_644 (bc_15 - kc_620) (bs_15 - ks_621) < mu_15 x5_15 h_15 bc_15 bs_15)) ∧ (¬ lg_cmp (f_649 (0 : Int32).toNatClampNeg) r_633.toInt64 = (0 : Int32) → False)))))) ∧ (¬ r_642 = r_623 → False))))))) (fun (E_624 : String) (q_625 : Nat) (h_626 : ga_H) => False)))) ∧ (¬ w_17 &&& (63 : Int32) = (17 : Int32) → ((w_17 &&& (63 : Int32) = (18 : Int32) → (vp_in (x5_15 + (1 : Int32)) L ∧ ∀ w_652 : Int32, w_652 = xs (x5_15 + (1 : Int32)).toNatClampNeg → (vp_in (x5_15 + (2 : Int32)) L ∧ ∀ w_653 : Int32, w_653 = xs (x5_15 + (2 : Int32)).toNatClampNeg → (∃ kc_654 ks_655 : Nat, kc_654 ≤ bc_15 ∧ ks_655 ≤ bs_15 ∧ gw_X0_orderOf K (some q_1) w_652 w_653 (some q_11) h_15 kc_654 ks_655 (fun (r_657 : Int32) (h_656 : ga_H) => vp_in (x5_15 + (1 : Int32)) L ∧ ∀ w_661 : Int32, w_661 = xs (x5_15 + (1 : Int32)).toNatClampNeg → (vp_in (x5_15 + (2 : Int32)) L ∧ ∀ w_662 : Int32, w_662 = xs (x5_15 + (2 : Int32)).toNatClampNeg → (∃ (za_663 zl_664 zt_665 zc_666 : Nat) (S_667 : zt_S), ga_Tw (q_6, za_663, zl_664, zt_665, zc_666) h_656 S_667 ∧ zw_orderOf w_661 w_662 S_667 (fun (r_668 : Int32) (S_669 : zt_S) => ∀ h_670 : ga_H, h_670 = ga_tws (q_6, za_663, zl_664, zt_665, zc_666) h_656 S_669 → (∃ (za_672 zl_673 zt_674 zc_675 : Nat) (S_676 : zt_S), ga_Tw (q_6, za_672, zl_673, zt_674, zc_675) h_670 S_676 ∧ zw_thrown S_676 (fun (r_677 : Int32) (S_678 : zt_S) => ∀ h_679 : ga_H, h_679 = ga_tws (q_6, za_672, zl_673, zt_674, zc_675) h_670 S_678 → ((r_677 = r_657 → ((¬ r_657 = (0 : Int32) → (In_15 (x5_15 + (6 : Int32)) h_679 (bc_15 - kc_654) (bs_15 - ks_655) ∧ mu_15 (x5_15 + (6 : Int32)) h_679 (bc_15 - kc_654) (bs_15 - ks_655) < mu_15 x5_15 h_15 bc_15 bs_15)) ∧ (r_657 = (0 : Int32) → (∃ (n_683 : Nat) (f_684 : Nat → Int64), h_679 q_11 = some (ga_Al n_683 f_684) ∧ vp_in (0 : Int32) n_683 ∧ ((lg_cmp (f_684 (0 : Int32).toNatClampNeg) r_668.toInt64 = (0 : Int32) → (In_15 (x5_15 + (6 : Int32)) h_679 (bc_15 - kc_654) (bs_15 - ks_655) ∧ mu_15 (x5_15 + (6 : Int32)) h_679 (bc_15 - kc_654) (bs_15 - ks_655) < mu_15 x5_15 h_15 bc_15 bs_15)) ∧ (¬ lg_cmp (f_684 (0 : Int32).toNatClampNeg) r_668.toInt64 = (0 : Int32) → False)))))) ∧ (¬ r_677 = r_657 → False)))))))) (fun (E_658 : String) (q_659 : Nat) (h_660 : ga_H) => False))))) ∧ (¬ w_17 &&& (63 : Int32) = (18 : Int32) → ((w_17 &&& (63 : Int32) = (19 : Int32) → (vp_in (x5_15 + (1 : Int32)) L ∧ ∀ w_687 : Int32, w_687 = xs (x5_15 + (1 : Int32)).toNatClampNeg → (∃ kc_688 ks_689 : Nat, kc_688 ≤ bc_15 ∧ ks_689 ≤ bs_15 ∧ gw_X0_lacking K (some q_1) w_687 (some q_11) h_15 kc_688 ks_689 (fun (r_691 : Int32) (h_690 : ga_H) => vp_in (x5_15 + (1 : Int32)) L ∧ ∀ w_695 : Int32, w_695 = xs (x5_15 + (1 : Int32)).toNatClampNeg → (∃ (za_696 zl_697 zt_698 zc_699 : Nat) (S_700 : zt_S), ga_Tw (q_6, za_696, zl_697, zt_698, zc_699) h_690 S_700 ∧ zw_lacking w_695 S_700 (fun (r_701 : Int32) (S_702 : zt_S) => ∀ h_703 : ga_H, h_703 = ga_tws (q_6, za_696, zl_697, zt_698, zc_699) h_690 S_702 → (∃ (za_705 zl_706 zt_707 zc_708 : Nat) (S_709 : zt_S), ga_Tw (q_6, za_705, zl_706, zt_707, zc_708) h_703 S_709 ∧ zw_thrown S_709 (fun (r_710 : Int32) (S_711 : zt_S) => ∀ h_712 : ga_H, h_712 = ga_tws (q_6, za_705, zl_706, zt_707, zc_708) h_703 S_711 → ((r_710 = r_691 → ((¬ r_691 = (0 : Int32) → (In_15 (x5_15 + (6 : Int32)) h_712 (bc_15 - kc_688) (bs_15 - ks_689) ∧ mu_15 (x5_15 + (6 : Int32)) h_712 (bc_15 - kc_688) (bs_15 - ks_689) < mu_15 x5_15 h_15 bc_15 bs_15)) ∧ (r_691 = (0 : Int32) → (∃ (n_716 : Nat) (f_717 : Nat → Int64), h_712 q_11 = some (ga_Al n_716 f_717) ∧ vp_in (0 : Int32) n_716 ∧ ((lg_cmp (f_717 (0 : Int32).toNatClampNeg) r_701.toInt64 = (0 : Int32) → (In_15 (x5_15 + (6 : Int32)) h_712 (bc_15 - kc_688) (bs_15 - ks_689) ∧ mu_15 (x5_15 + (6 : Int32)) h_712 (bc_15 - kc_688) (bs_15 - ks_689) < mu_15 x5_15 h_15 bc_15 bs_15)) ∧ (¬ lg_cmp (f_717 (0 : Int32).toNatClampNeg) r_701.toInt64 = (0 : Int32) → False)))))) ∧ (¬ r_710 = r_691 → False))))))) (fun (E_692 : String) (q_693 : Nat) (h_694 : ga_H) => False)))) ∧ (¬ w_17 &&& (63 : Int32) = (19 : Int32) → ((w_17 &&& (63 : Int32) = (20 : Int32) → (vp_in (x5_15 + (1 : Int32)) L ∧ ∀ w_720 : Int32, w_720 = xs (x5_15 + (1 : Int32)).toNatClampNeg → (∃ kc_721 ks_722 : Nat, kc_721 ≤ bc_15 ∧ ks_722 ≤ bs_15 ∧ gw_X0_bestLadder K (some q_1) w_720 (some q_11) h_15 kc_721 ks_722 (fun (r_724 : Int32) (h_723 : ga_H) => vp_in (x5_15 + (1 : Int32)) L ∧ ∀ w_728 : Int32, w_728 = xs (x5_15 + (1 : Int32)).toNatClampNeg → (∃ (za_729 zl_730 zt_731 zc_732 : Nat) (S_733 : zt_S), ga_Tw (q_6, za_729, zl_730, zt_731, zc_732) h_723 S_733 ∧ zw_bestLadder w_728 S_733 (fun (r_734 : Int32) (S_735 : zt_S) => ∀ h_736 : ga_H, h_736 = ga_tws (q_6, za_729, zl_730, zt_731, zc_732) h_723 S_735 → (∃ (za_738 zl_739 zt_740 zc_741 : Nat) (S_742 : zt_S), ga_Tw (q_6, za_738, zl_739, zt_740, zc_741) h_736 S_742 ∧ zw_thrown S_742 (fun (r_743 : Int32) (S_744 : zt_S) => ∀ h_745 : ga_H, h_745 = ga_tws (q_6, za_738, zl_739, zt_740, zc_741) h_736 S_744 → ((r_743 = r_724 → ((¬ r_724 = (0 : Int32) → (In_15 (x5_15 + (6 : Int32)) h_745 (bc_15 - kc_721) (bs_15 - ks_722) ∧ mu_15 (x5_15 + (6 : Int32)) h_745 (bc_15 - kc_721) (bs_15 - ks_722) < mu_15 x5_15 h_15 bc_15 bs_15)) ∧ (r_724 = (0 : Int32) → (∃ (n_749 : Nat) (f_750 : Nat → Int64), h_745 q_11 = some (ga_Al n_749 f_750) ∧ vp_in (0 : Int32) n_749 ∧ ((lg_cmp (f_750 (0 : Int32).toNatClampNeg) r_734.toInt64 = (0 : Int32) → (In_15 (x5_15 + (6 : Int32)) h_745 (bc_15 - kc_721) (bs_15 - ks_722) ∧ mu_15 (x5_15 + (6 : Int32)) h_745 (bc_15 - kc_721) (bs_15 - ks_722) < mu_15 x5_15 h_15 bc_15 bs_15)) ∧ (¬ lg_cmp (f_750 (0 : Int32).toNatClampNeg) r_734.toInt64 = (0 : Int32) → False)))))) ∧ (¬ r_743 = r_724 → False))))))) (fun (E_725 : String) (q_726 : Nat) (h_727 : ga_H) => False)))) ∧ (¬ w_17 &&& (63 : Int32) = (20 : Int32) → ((w_17 &&& (63 : Int32) = (21 : Int32) → (vp_in (x5_15 + (1 : Int32)) L ∧ ∀ w_753 : Int32, w_753 = xs (x5_15 + (1 : Int32)).toNatClampNeg → (vp_in (x5_15 + (2 : Int32)) L ∧ ∀ w_754 : Int32, w_754 = xs (x5_15 + (2 : Int32)).toNatClampNeg → (∃ kc_755 ks_756 : Nat, kc_755 ≤ bc_15 ∧ ks_756 ≤ bs_15 ∧ gw_X0_cartOf K (some q_1) w_753 w_754 (some q_11) h_15 kc_755 ks_756 (fun (r_758 : Int32) (h_757 : ga_H) => vp_in (x5_15 + (1 : Int32)) L ∧ ∀ w_762 : Int32, w_762 = xs (x5_15 + (1 : Int32)).toNatClampNeg → (vp_in (x5_15 + (2 : Int32)) L ∧ ∀ w_763 : Int32, w_763 = xs (x5_15 + (2 : Int32)).toNatClampNeg → (∃ (za_764 zl_765 zt_766 zc_767 : Nat) (S_768 : zt_S), ga_Tw (q_6, za_764, zl_765, zt_766, zc_767) h_757 S_768 ∧ zw_cartOf w_762 w_763 S_768 (fun (r_769 : Int32) (S_770 : zt_S) => ∀ h_771 : ga_H, h_771 = ga_tws (q_6, za_764, zl_765, zt_766, zc_767) h_757 S_770 → (∃ (za_773 zl_774 zt_775 zc_776 : Nat) (S_777 : zt_S), ga_Tw (q_6, za_773, zl_774, zt_775, zc_776) h_771 S_777 ∧ zw_thrown S_777 (fun (r_778 : Int32) (S_779 : zt_S) => ∀ h_780 : ga_H, h_780 = ga_tws (q_6, za_773, zl_774, zt_775, zc_776) h_771 S_779 → ((r_778 = r_758 → ((¬ r_758 = (0 : Int32) → (In_15 (x5_15 + (6 : Int32)) h_780 (bc_15 - kc_755) (bs_15 - ks_756) ∧ mu_15 (x5_15 + (6 : Int32)) h_780 (bc_15 - kc_755) (bs_15 - ks_756) < mu_15 x5_15 h_15 bc_15 bs_15)) ∧ (r_758 = (0 : Int32) → (∃ (n_784 : Nat) (f_785 : Nat → Int64), h_780 q_11 = some (ga_Al n_784 f_785) ∧ vp_in (0 : Int32) n_784 ∧ ((lg_cmp (f_785 (0 : Int32).toNatClampNeg) r_769.toInt64 = (0 : Int32) → (In_15 (x5_15 + (6 : Int32)) h_780 (bc_15 - kc_755) (bs_15 - ks_756) ∧ mu_15 (x5_15 + (6 : Int32)) h_780 (bc_15 - kc_755) (bs_15 - ks_756) < mu_15 x5_15 h_15 bc_15 bs_15)) ∧ (¬ lg_cmp (f_785 (0 : Int32).toNatClampNeg) r_769.toInt64 = (0 : Int32) → False)))))) ∧ (¬ r_778 = r_758 → False)))))))) (fun (E_759 : String) (q_760 : Nat) (h_761 : ga_H) => False))))) ∧ (¬ w_17 &&& (63 : Int32) = (21 : Int32) → ((w_17 &&& (63 : Int32) = (22 : Int32) → (vp_in (x5_15 + (1 : Int32)) L ∧ ∀ w_788 : Int32, w_788 = xs (x5_15 + (1 : Int32)).toNatClampNeg → (vp_in (x5_15 + (2 : Int32)) L ∧ ∀ w_789 : Int32, w_789 = xs (x5_15 + (2 : Int32)).toNatClampNeg → (vp_in (x5_15 + (3 : Int32)) L ∧ ∀ w_790 : Int32, w_790 = xs (x5_15 + (3 : Int32)).toNatClampNeg → ((w_790 = (0 : Int32) → (gw_L_law_1723 K bb L xs (fun (y0 : Int32) (T : ga_H) (B1 : Nat) (B2 : Nat) => In_15 y0 T B1 B2 ∧ mu_15 y0 T B1 B2 < mu_15 x5_15 h_15 bc_15 bs_15) (0 : Int32) w_789 w_788 (some q_1) (some q_1) (some q_6) (some q_11) (some q_13) x5_15 h_15 bc_15 bs_15)) ∧ (¬ w_790 = (0 : Int32) → (gw_L_law_1723 K bb L xs (fun (y0 : Int32) (T : ga_H) (B1 : Nat) (B2 : Nat) => In_15 y0 T B1 B2 ∧ mu_15 y0 T B1 B2 < mu_15 x5_15 h_15 bc_15 bs_15) (1 : Int32) w_789 w_788 (some q_1) (some q_1) (some q_6) (some q_11) (some q_13) x5_15 h_15 bc_15 bs_15))))))) ∧ (¬ w_17 &&& (63 : Int32) = (22 : Int32) → ((w_17 &&& (63 : Int32) = (23 : Int32) → (vp_in (x5_15 + (1 : Int32)) L ∧ ∀ w_830 : Int32, w_830 = xs (x5_15 + (1 : Int32)).toNatClampNeg → (vp_in (x5_15 + (2 : Int32)) L ∧ ∀ w_831 : Int32, w_831 = xs (x5_15 + (2 : Int32)).toNatClampNeg → (∃ kc_832 ks_833 : Nat, kc_832 ≤ bc_15 ∧ ks_833 ≤ bs_15 ∧ gw_X0_sent K (some q_1) w_830 w_831 (some q_11) h_15 kc_832 ks_833 (fun (r_835 : Int32) (h_834 : ga_H) => vp_in (x5_15 + (1 : Int32)) L ∧ ∀ w_839 : Int32, w_839 = xs (x5_15 + (1 : Int32)).toNatClampNeg → (vp_in (x5_15 + (2 : Int32)) L ∧ ∀ w_840 : Int32, w_840 = xs (x5_15 + (2 : Int32)).toNatClampNeg → (∃ (za_841 zl_842 zt_843 zc_844 : Nat) (S_845 : zt_S), ga_Tw (q_6, za_841, zl_842, zt_843, zc_844) h_834 S_845 ∧ zw_sent w_839 w_840 S_845 (fun (r_846 : Int32) (S_847 : zt_S) => ∀ h_848 : ga_H, h_848 = ga_tws (q_6, za_841, zl_842, zt_843, zc_844) h_834 S_847 → (∃ (za_850 zl_851 zt_852 zc_853 : Nat) (S_854 : zt_S), ga_Tw (q_6, za_850, zl_851, zt_852, zc_853) h_848 S_854 ∧ zw_thrown S_854 (fun (r_855 : Int32) (S_856 : zt_S) => ∀ h_857 : ga_H, h_857 = ga_tws (q_6, za_850, zl_851, zt_852, zc_853) h_848 S_856 → ((r_855 = r_835 → ((¬ r_835 = (0 : Int32) → (In_15 (x5_15 + (6 : Int32)) h_857 (bc_15 - kc_832) (bs_15 - ks_833) ∧ mu_15 (x5_15 + (6 : Int32)) h_857 (bc_15 - kc_832) (bs_15 - ks_833) < mu_15 x5_15 h_15 bc_15 bs_15)) ∧ (r_835 = (0 : Int32) → (∃ (n_861 : Nat) (f_862 : Nat → Int64), h_857 q_11 = some (ga_Al n_861 f_862) ∧ vp_in (0 : Int32) n_861 ∧ ((lg_cmp (f_862 (0 : Int32).toNatClampNeg) r_846.toInt64 = (0 : Int32) → (In_15 (x5_15 + (6 : Int32)) h_857 (bc_15 - kc_832) (bs_15 - ks_833) ∧ mu_15 (x5_15 + (6 : Int32)) h_857 (bc_15 - kc_832) (bs_15 - ks_833) < mu_15 x5_15 h_15 bc_15 bs_15)) ∧ (¬ lg_cmp (f_862 (0 : Int32).toNatClampNeg) r_846.toInt64 = (0 : Int32) → False)))))) ∧ (¬ r_855 = r_835 → False)))))))) (fun (E_836 : String) (q_837 : Nat) (h_838 : ga_H) => False))))) ∧ (¬ w_17 &&& (63 : Int32) = (23 : Int32) → ((w_17 &&& (63 : Int32) = (24 : Int32) → (∃ kc_865 ks_866 : Nat, kc_865 ≤ bc_15 ∧ ks_866 ≤ bs_15 ∧ gw_X0_bestPaper K (some q_1) (some q_11) h_15 kc_865 ks_866 (fun (r_868 : Int32) (h_867 : ga_H) => ∃ (za_872 zl_873 zt_874 zc_875 : Nat) (S_876 : zt_S), ga_Tw (q_6, za_872, zl_873, zt_874, zc_875) h_867 S_876 ∧ zw_bestPaper S_876 (fun (r_877 : Int32) (S_878 : zt_S) => ∀ h_879 : ga_H, h_879 = ga_tws (q_6, za_872, zl_873, zt_874, zc_875) h_867 S_878 → (∃ (za_881 zl_882 zt_883 zc_884 : Nat) (S_885 : zt_S), ga_Tw (q_6, za_881, zl_882, zt_883, zc_884) h_879 S_885 ∧ zw_thrown S_885 (fun (r_886 : Int32) (S_887 : zt_S) => ∀ h_888 : ga_H, h_888 = ga_tws (q_6, za_881, zl_882, zt_883, zc_884) h_879 S_887 → ((r_886 = r_868 → ((¬ r_868 = (0 : Int32) → (In_15 (x5_15 + (6 : Int32)) h_888 (bc_15 - kc_865) (bs_15 - ks_866) ∧ mu_15 (x5_15 + (6 : Int32)) h_888 (bc_15 - kc_865) (bs_15 - ks_866) < mu_15 x5_15 h_15 bc_15 bs_15)) ∧ (r_868 = (0 : Int32) → (∃ (n_892 : Nat) (f_893 : Nat → Int64), h_888 q_11 = some (ga_Al n_892 f_893) ∧ vp_in (0 : Int32) n_892 ∧ ((lg_cmp (f_893 (0 : Int32).toNatClampNeg) r_877.toInt64 = (0 : Int32) → (In_15 (x5_15 + (6 : Int32)) h_888 (bc_15 - kc_865) (bs_15 - ks_866) ∧ mu_15 (x5_15 + (6 : Int32)) h_888 (bc_15 - kc_865) (bs_15 - ks_866) < mu_15 x5_15 h_15 bc_15 bs_15)) ∧ (¬ lg_cmp (f_893 (0 : Int32).toNatClampNeg) r_877.toInt64 = (0 : Int32) → False)))))) ∧ (¬ r_886 = r_868 → False)))))) (fun (E_869 : String) (q_870 : Nat) (h_871 : ga_H) => False))) ∧ (¬ w_17 &&& (63 : Int32) = (24 : Int32) → ((w_17 &&& (63 : Int32) = (25 : Int32) → (∃ kc_896 ks_897 : Nat, kc_896 ≤ bc_15 ∧ ks_897 ≤ bs_15 ∧ ∃ fs_898 : List Value, ga_at K h_15 q_1 (ga_O 0 fs_898) ∧ gw_X1_papers K q_1 h_15 kc_896 ks_897 (fun (r_900 : Int32) (h_899 : ga_H) => ∃ (za_901 zl_902 zt_903 zc_904 : Nat) (S_905 : zt_S), ga_Tw (q_6, za_901, zl_902, zt_903, zc_904) h_899 S_905 ∧ zw_papers S_905 (fun (r_906 : Int32) (S_907 : zt_S) => ∀ h_908 : ga_H, h_908 = ga_tws (q_6, za_901, zl_902, zt_903, zc_904) h_899 S_907 → ((r_900 = r_906 → (In_15 (x5_15 + (6 : Int32)) h_908 (bc_15 - kc_896) (bs_15 - ks_897) ∧ mu_15 (x5_15 + (6 : Int32)) h_908 (bc_15 - kc_896) (bs_15 - ks_897) < mu_15 x5_15 h_15 bc_15 bs_15)) ∧ (¬ r_900 = r_906 → False)))))) ∧ (¬ w_17 &&& (63 : Int32) = (25 : Int32) → ((w_17 &&& (63 : Int32) = (26 : Int32) → (vp_in (x5_15 + (1 : Int32)) L ∧ ∀ w_912 : Int32, w_912 = xs (x5_15 + (1 : Int32)).toNatClampNeg → (∃ kc_913 ks_914 : Nat, kc_913 ≤ bc_15 ∧ ks_914 ≤ bs_15 ∧ gw_X0_days K (some q_1) w_912 (some q_11) h_15 kc_913 ks_914 (fun (r_916 : Int32) (h_915 : ga_H) => vp_in (x5_15 + (1 : Int32)) L ∧ ∀ w_920 : Int32, w_920 = xs (x5_15 + (1 : Int32)).toNatClampNeg → (∃ (za_921 zl_922 zt_923 zc_924 : Nat) (S_925 : zt_S), ga_Tw (q_6, za_921, zl_922, zt_923, zc_924) h_915 S_925 ∧ zw_days w_920 S_925 (fun (r_926 : Int32) (S_927 : zt_S) => ∀ h_928 : ga_H, h_928 = ga_tws (q_6, za_921, zl_922, zt_923, zc_924) h_915 S_927 → (∃ (za_930 zl_931 zt_932 zc_933 : Nat) (S_934 : zt_S), ga_Tw (q_6, za_930, zl_931, zt_932, zc_933) h_928 S_934 ∧ zw_thrown S_934 (fun (r_935 : Int32) (S_936 : zt_S) => ∀ h_937 : ga_H, h_937 = ga_tws (q_6, za_930, zl_931, zt_932, zc_933) h_928 S_936 → ((r_935 = r_916 → ((¬ r_916 = (0 : Int32) → (In_15 (x5_15 + (6 : Int32)) h_937 (bc_15 - kc_913) (bs_15 - ks_914) ∧ mu_15 (x5_15 + (6 : Int32)) h_937 (bc_15 - kc_913) (bs_15 - ks_914) < mu_15 x5_15 h_15 bc_15 bs_15)) ∧ (r_916 = (0 : Int32) → (∃ (n_941 : Nat) (f_942 : Nat → Int64), h_937 q_11 = some (ga_Al n_941 f_942) ∧ vp_in (0 : Int32) n_941 ∧ ((lg_cmp (f_942 (0 : Int32).toNatClampNeg) r_926.toInt64 = (0 : Int32) → (In_15 (x5_15 + (6 : Int32)) h_937 (bc_15 - kc_913) (bs_15 - ks_914) ∧ mu_15 (x5_15 + (6 : Int32)) h_937 (bc_15 - kc_913) (bs_15 - ks_914) < mu_15 x5_15 h_15 bc_15 bs_15)) ∧ (¬ lg_cmp (f_942 (0 : Int32).toNatClampNeg) r_926.toInt64 = (0 : Int32) → False)))))) ∧ (¬ r_935 = r_916 → False))))))) (fun (E_917 : String) (q_918 : Nat) (h_919 : ga_H) => False)))) ∧ (¬ w_17 &&& (63 : Int32) = (26 : Int32) → ((w_17 &&& (63 : Int32) = (27 : Int32) → (vp_in (x5_15 + (1 : Int32)) L ∧ ∀ w_945 : Int32, w_945 = xs (x5_15 + (1 : Int32)).toNatClampNeg → (∃ kc_946 ks_947 : Nat, kc_946 ≤ bc_15 ∧ ks_947 ≤ bs_15 ∧ gw_X0_tell K (some q_1) w_945 (some q_11) h_15 kc_946 ks_947 (fun (r_949 : Int32) (h_948 : ga_H) => vp_in (x5_15 + (1 : Int32)) L ∧ ∀ w_953 : Int32, w_953 = xs (x5_15 + (1 : Int32)).toNatClampNeg → (∃ (za_954 zl_955 zt_956 zc_957 : Nat) (S_958 : zt_S), ga_Tw (q_6, za_954, zl_955, zt_956, zc_957) h_948 S_958 ∧ zw_tell w_953 S_958 (fun (r_959 : Int32) (S_960 : zt_S) => ∀ h_961 : ga_H, h_961 = ga_tws (q_6, za_954, zl_955, zt_956, zc_957) h_948 S_960 → (∃ (za_963 zl_964 zt_965 zc_966 : Nat) (S_967 : zt_S), ga_Tw (q_6, za_963, zl_964, zt_965, zc_966) h_961 S_967 ∧ zw_thrown S_967 (fun (r_968 : Int32) (S_969 : zt_S) => ∀ h_970 : ga_H, h_970 = ga_tws (q_6, za_963, zl_964, zt_965, zc_966) h_961 S_969 → ((r_968 = r_949 → ((¬ r_949 = (0 : Int32) → (In_15 (x5_15 + (6 : Int32)) h_970 (bc_15 - kc_946) (bs_15 - ks_947) ∧ mu_15 (x5_15 + (6 : Int32)) h_970 (bc_15 - kc_946) (bs_15 - ks_947) < mu_15 x5_15 h_15 bc_15 bs_15)) ∧ (r_949 = (0 : Int32) → (∃ (n_974 : Nat) (f_975 : Nat → Int64), h_970 q_11 = some (ga_Al n_974 f_975) ∧ vp_in (0 : Int32) n_974 ∧ ((lg_cmp (f_975 (0 : Int32).toNatClampNeg) r_959.toInt64 = (0 : Int32) → (In_15 (x5_15 + (6 : Int32)) h_970 (bc_15 - kc_946) (bs_15 - ks_947) ∧ mu_15 (x5_15 + (6 : Int32)) h_970 (bc_15 - kc_946) (bs_15 - ks_947) < mu_15 x5_15 h_15 bc_15 bs_15)) ∧ (¬ lg_cmp (f_975 (0 : Int32).toNatClampNeg) r_959.toInt64 = (0 : Int32) → False)))))) ∧ (¬ r_968 = r_949 → False))))))) (fun (E_950 : String) (q_951 : Nat) (h_952 : ga_H) => False)))) ∧ (¬ w_17 &&& (63 : Int32) = (27 : Int32) → ((w_17 &&& (63 : Int32) = (28 : Int32) → (vp_in (x5_15 + (1 : Int32)) L ∧ ∀ w_978 : Int32, w_978 = xs (x5_15 + (1 : Int32)).toNatClampNeg → (∃ kc_979 ks_980 : Nat, kc_979 ≤ bc_15 ∧ ks_980 ≤ bs_15 ∧ gw_X0_character K (some q_1) w_978 (some q_11) h_15 kc_979 ks_980 (fun (r_982 : Int32) (h_981 : ga_H) => vp_in (x5_15 + (1 : Int32)) L ∧ ∀ w_986 : Int32, w_986 = xs (x5_15 + (1 : Int32)).toNatClampNeg → (∃ (za_987 zl_988 zt_989 zc_990 : Nat) (S_991 : zt_S), ga_Tw (q_6, za_987, zl_988, zt_989, zc_990) h_981 S_991 ∧ zw_character w_986 S_991 (fun (r_992 : Int32) (S_993 : zt_S) => ∀ h_994 : ga_H, h_994 = ga_tws (q_6, za_987, zl_988, zt_989, zc_990) h_981 S_993 → (∃ (za_996 zl_997 zt_998 zc_999 : Nat) (S_1000 : zt_S), ga_Tw (q_6, za_996, zl_997, zt_998, zc_999) h_994 S_1000 ∧ zw_thrown S_1000 (fun (r_1001 : Int32) (S_1002 : zt_S) => ∀ h_1003 : ga_H, h_1003 = ga_tws (q_6, za_996, zl_997, zt_998, zc_999) h_994 S_1002 → ((r_1001 = r_982 → ((¬ r_982 = (0 : Int32) → (In_15 (x5_15 + (6 : Int32)) h_1003 (bc_15 - kc_979) (bs_15 - ks_980) ∧ mu_15 (x5_15 + (6 : Int32)) h_1003 (bc_15 - kc_979) (bs_15 - ks_980) < mu_15 x5_15 h_15 bc_15 bs_15)) ∧ (r_982 = (0 : Int32) → (∃ (n_1007 : Nat) (f_1008 : Nat → Int64), h_1003 q_11 = some (ga_Al n_1007 f_1008) ∧ vp_in (0 : Int32) n_1007 ∧ ((lg_cmp (f_1008 (0 : Int32).toNatClampNeg) r_992.toInt64 = (0 : Int32) → (In_15 (x5_15 + (6 : Int32)) h_1003 (bc_15 - kc_979) (bs_15 - ks_980) ∧ mu_15 (x5_15 + (6 : Int32)) h_1003 (bc_15 - kc_979) (bs_15 - ks_980) < mu_15 x5_15 h_15 bc_15 bs_15)) ∧ (¬ lg_cmp (f_1008 (0 : Int32).toNatClampNeg) r_992.toInt64 = (0 : Int32) → False)))))) ∧ (¬ r_1001 = r_982 → False))))))) (fun (E_983 : String) (q_984 : Nat) (h_985 : ga_H) => False)))) ∧ (¬ w_17 &&& (63 : Int32) = (28 : Int32) → ((w_17 &&& (63 : Int32) = (29 : Int32) → (∃ kc_1011 ks_1012 : Nat, kc_1011 ≤ bc_15 ∧ ks_1012 ≤ bs_15 ∧ gw_X0_meanDamp K (some q_1) (some q_13) h_15 kc_1011 ks_1012 (fun (r_1014 : Int32) (h_1013 : ga_H) => ∃ (za_1018 zl_1019 zt_1020 zc_1021 : Nat) (S_1022 : zt_S), ga_Tw (q_6, za_1018, zl_1019, zt_1020, zc_1021) h_1013 S_1022 ∧ zw_meanDamp S_1022 (fun (r_1023 : UInt32) (S_1024 : zt_S) => ∀ h_1025 : ga_H, h_1025 = ga_tws (q_6, za_1018, zl_1019, zt_1020, zc_1021) h_1013 S_1024 → (∃ (za_1027 zl_1028 zt_1029 zc_1030 : Nat) (S_1031 : zt_S), ga_Tw (q_6, za_1027, zl_1028, zt_1029, zc_1030) h_1025 S_1031 ∧ zw_thrown S_1031 (fun (r_1032 : Int32) (S_1033 : zt_S) => ∀ h_1034 : ga_H, h_1034 = ga_tws (q_6, za_1027, zl_1028, zt_1029, zc_1030) h_1025 S_1033 → ((r_1032 = r_1014 → ((¬ r_1014 = (0 : Int32) → (In_15 (x5_15 + (6 : Int32)) h_1034 (bc_15 - kc_1011) (bs_15 - ks_1012) ∧ mu_15 (x5_15 + (6 : Int32)) h_1034 (bc_15 - kc_1011) (bs_15 - ks_1012) < mu_15 x5_15 h_15 bc_15 bs_15)) ∧ (r_1014 = (0 : Int32) → (∃ (n_1038 : Nat) (f_1039 : Nat → UInt64), h_1034 q_13 = some (ga_Ad n_1038 f_1039) ∧ vp_in (0 : Int32) n_1038 ∧ (vf_n64 (FP.f2d r_1023) ∧ ((Op.cmpValue (FP.dcmp (f_1039 (0 : Int32).toNatClampNeg) (FP.f2d r_1023)) .l = (0 : Int32) → (In_15 (x5_15 + (6 : Int32)) h_1034 (bc_15 - kc_1011) (bs_15 - ks_1012) ∧ mu_15 (x5_15 + (6 : Int32)) h_1034 (bc_15 - kc_1011) (bs_15 - ks_1012) < mu_15 x5_15 h_15 bc_15 bs_15)) ∧ (¬ Op.cmpValue (FP.dcmp (f_1039 (0 : Int32).toNatClampNeg) (FP.f2d r_1023)) .l = (0 : Int32) → (∃ (n_1041 : Nat) (f_1042 : Nat → UInt64), h_1034 q_13 = some (ga_Ad n_1041 f_1042) ∧ vp_in (0 : Int32) n_1041 ∧ (∃ (n_1043 : Nat) (f_1044 : Nat → UInt64), h_1034 q_13 = some (ga_Ad n_1043 f_1044) ∧ vp_in (0 : Int32) n_1043 ∧ ((Op.cmpValue (FP.dcmp (f_1042 (0 : Int32).toNatClampNeg) (f_1044 (0 : Int32).toNatClampNeg)) .l = (0 : Int32) → False) ∧ (¬ Op.cmpValue (FP.dcmp (f_1042 (0 : Int32).toNatClampNeg) (f_1044 (0 : Int32).toNatClampNeg)) .l = (0 : Int32) → ((¬ Op.cmpValue (FP.fcmp r_1023 r_1023) .l = (0 : Int32) → (In_15 (x5_15 + (6 : Int32)) h_1034 (bc_15 - kc_1011) (bs_15 - ks_1012) ∧ mu_15 (x5_15 + (6 : Int32)) h_1034 (bc_15 - kc_1011) (bs_15 - ks_1012) < mu_15 x5_15 h_15 bc_15 bs_15)) ∧ (Op.cmpValue (FP.fcmp r_1023 r_1023) .l = (0 : Int32) → False))))))))))))) ∧ (¬ r_1032 = r_1014 → False)))))) (fun (E_1015 : String) (q_1016 : Nat) (h_1017 : ga_H) => False))) ∧ (¬ w_17 &&& (63 : Int32) = (29 : Int32) → ((w_17 &&& (63 : Int32) = (30 : Int32) → (∃ kc_1048 ks_1049 : Nat, kc_1048 ≤ bc_15 ∧ ks_1049 ≤ bs_15 ∧ gw_X0_eatenShare K (some q_1) (some q_13) h_15 kc_1048 ks_1049 (fun (r_1051 : Int32) (h_1050 : ga_H) => ∃ (za_1055 zl_1056 zt_1057 zc_1058 : Nat) (S_1059 : zt_S), ga_Tw (q_6, za_1055, zl_1056, zt_1057, zc_1058) h_1050 S_1059 ∧ zw_eatenShare S_1059 (fun (r_1060 : UInt64) (S_1061 : zt_S) => ∀ h_1062 : ga_H, h_1062 = ga_tws (q_6, za_1055, zl_1056, zt_1057, zc_1058) h_1050 S_1061 → (∃ (za_1064 zl_1065 zt_1066 zc_1067 : Nat) (S_1068 : zt_S), ga_Tw (q_6, za_1064, zl_1065, zt_1066, zc_1067) h_1062 S_1068 ∧ zw_thrown S_1068 (fun (r_1069 : Int32) (S_1070 : zt_S) => ∀ h_1071 : ga_H, h_1071 = ga_tws (q_6, za_1064, zl_1065, zt_1066, zc_1067) h_1062 S_1070 → ((r_1069 = r_1051 → ((¬ r_1051 = (0 : Int32) → (In_15 (x5_15 + (6 : Int32)) h_1071 (bc_15 - kc_1048) (bs_15 - ks_1049) ∧ mu_15 (x5_15 + (6 : Int32)) h_1071 (bc_15 - kc_1048) (bs_15 - ks_1049) < mu_15 x5_15 h_15 bc_15 bs_15)) ∧ (r_1051 = (0 : Int32) → (∃ (n_1075 : Nat) (f_1076 : Nat → UInt64), h_1071 q_13 = some (ga_Ad n_1075 f_1076) ∧ vp_in (0 : Int32) n_1075 ∧ ((Op.cmpValue (FP.dcmp (f_1076 (0 : Int32).toNatClampNeg) r_1060) .l = (0 : Int32) → (In_15 (x5_15 + (6 : Int32)) h_1071 (bc_15 - kc_1048) (bs_15 - ks_1049) ∧ mu_15 (x5_15 + (6 : Int32)) h_1071 (bc_15 - kc_1048) (bs_15 - ks_1049) < mu_15 x5_15 h_15 bc_15 bs_15)) ∧ (¬ Op.cmpValue (FP.dcmp (f_1076 (0 : Int32).toNatClampNeg) r_1060) .l = (0 : Int32) → (∃ (n_1078 : Nat) (f_1079 : Nat → UInt64), h_1071 q_13 = some (ga_Ad n_1078 f_1079) ∧ vp_in (0 : Int32) n_1078 ∧ (∃ (n_1080 : Nat) (f_1081 : Nat → UInt64), h_1071 q_13 = some (ga_Ad n_1080 f_1081) ∧ vp_in (0 : Int32) n_1080 ∧ ((Op.cmpValue (FP.dcmp (f_1079 (0 : Int32).toNatClampNeg) (f_1081 (0 : Int32).toNatClampNeg)) .l = (0 : Int32) → False) ∧ (¬ Op.cmpValue (FP.dcmp (f_1079 (0 : Int32).toNatClampNeg) (f_1081 (0 : Int32).toNatClampNeg)) .l = (0 : Int32) → ((¬ Op.cmpValue (FP.dcmp r_1060 r_1060) .l = (0 : Int32) → (In_15 (x5_15 + (6 : Int32)) h_1071 (bc_15 - kc_1048) (bs_15 - ks_1049) ∧ mu_15 (x5_15 + (6 : Int32)) h_1071 (bc_15 - kc_1048) (bs_15 - ks_1049) < mu_15 x5_15 h_15 bc_15 bs_15)) ∧ (Op.cmpValue (FP.dcmp r_1060 r_1060) .l = (0 : Int32) → False)))))))))))) ∧ (¬ r_1069 = r_1051 → False)))))) (fun (E_1052 : String) (q_1053 : Nat) (h_1054 : ga_H) => False))) ∧ (¬ w_17 &&& (63 : Int32) = (30 : Int32) → ((w_17 &&& (63 : Int32) = (31 : Int32) → (vp_in (x5_15 + (1 : Int32)) L ∧ ∀ w_1085 : Int32, w_1085 = xs (x5_15 + (1 : Int32)).toNatClampNeg → (∃ kc_1086 ks_1087 : Nat, kc_1086 ≤ bc_15 ∧ ks_1087 ≤ bs_15 ∧ gw_X0_account K (some q_1) w_1085 (some q_11) h_15 kc_1086 ks_1087 (fun (r_1089 : Int32) (h_1088 : ga_H) => vp_in (x5_15 + (1 : Int32)) L ∧ ∀ w_1093 : Int32, w_1093 = xs (x5_15 + (1 : Int32)).toNatClampNeg → (∃ (za_1094 zl_1095 zt_1096 zc_1097 : Nat) (S_1098 : zt_S), ga_Tw (q_6, za_1094, zl_1095, zt_1096, zc_1097) h_1088 S_1098 ∧ zw_account w_1093 S_1098 (fun (r_1099 : Int32) (S_1100 : zt_S) => ∀ h_1101 : ga_H, h_1101 = ga_tws (q_6, za_1094, zl_1095, zt_1096, zc_1097) h_1088 S_1100 → (∃ (za_1103 zl_1104 zt_1105 zc_1106 : Nat) (S_1107 : zt_S), ga_Tw (q_6, za_1103, zl_1104, zt_1105, zc_1106) h_1101 S_1107 ∧ zw_thrown S_1107 (fun (r_1108 : Int32) (S_1109 : zt_S) => ∀ h_1110 : ga_H, h_1110 = ga_tws (q_6, za_1103, zl_1104, zt_1105, zc_1106) h_1101 S_1109 → ((r_1108 = r_1089 → ((¬ r_1089 = (0 : Int32) → (In_15 (x5_15 + (6 : Int32)) h_1110 (bc_15 - kc_1086) (bs_15 - ks_1087) ∧ mu_15 (x5_15 + (6 : Int32)) h_1110 (bc_15 - kc_1086) (bs_15 - ks_1087) < mu_15 x5_15 h_15 bc_15 bs_15)) ∧ (r_1089 = (0 : Int32) → (∃ (n_1114 : Nat) (f_1115 : Nat → Int64), h_1110 q_11 = some (ga_Al n_1114 f_1115) ∧ vp_in (0 : Int32) n_1114 ∧ ((lg_cmp (f_1115 (0 : Int32).toNatClampNeg) r_1099.toInt64 = (0 : Int32) → (In_15 (x5_15 + (6 : Int32)) h_1110 (bc_15 - kc_1086) (bs_15 - ks_1087) ∧ mu_15 (x5_15 + (6 : Int32)) h_1110 (bc_15 - kc_1086) (bs_15 - ks_1087) < mu_15 x5_15 h_15 bc_15 bs_15)) ∧ (¬ lg_cmp (f_1115 (0 : Int32).toNatClampNeg) r_1099.toInt64 = (0 : Int32) → False)))))) ∧ (¬ r_1108 = r_1089 → False))))))) (fun (E_1090 : String) (q_1091 : Nat) (h_1092 : ga_H) => False)))) ∧ (¬ w_17 &&& (63 : Int32) = (31 : Int32) → ((w_17 &&& (63 : Int32) = (32 : Int32) → (∃ kc_1118 ks_1119 : Nat, kc_1118 ≤ bc_15 ∧ ks_1119 ≤ bs_15 ∧ ∃ fs_1120 : List Value, ga_at K h_15 q_1 (ga_O 0 fs_1120) ∧ gw_X1_quiresAgain K q_1 h_15 kc_1118 ks_1119 (fun (r_1122 : Int32) (h_1121 : ga_H) => ∃ (za_1123 zl_1124 zt_1125 zc_1126 : Nat) (S_1127 : zt_S), ga_Tw (q_6, za_1123, zl_1124, zt_1125, zc_1126) h_1121 S_1127 ∧ zw_quiresAgain S_1127 (fun (r_1128 : Int32) (S_1129 : zt_S) => ∀ h_1130 : ga_H, h_1130 = ga_tws (q_6, za_1123, zl_1124, zt_1125, zc_1126) h_1121 S_1129 → ((r_1122 = r_1128 → (In_15 (x5_15 + (6 : Int32)) h_1130 (bc_15 - kc_1118) (bs_15 - ks_1119) ∧ mu_15 (x5_15 + (6 : Int32)) h_1130 (bc_15 - kc_1118) (bs_15 - ks_1119) < mu_15 x5_15 h_15 bc_15 bs_15)) ∧ (¬ r_1122 = r_1128 → False)))))) ∧ (¬ w_17 &&& (63 : Int32) = (32 : Int32) → ((w_17 &&& (63 : Int32) = (33 : Int32) → (vp_in (x5_15 + (1 : Int32)) L ∧ ∀ w_1134 : Int32, w_1134 = xs (x5_15 + (1 : Int32)).toNatClampNeg → (∃ kc_1135 ks_1136 : Nat, kc_1135 ≤ bc_15 ∧ ks_1136 ≤ bs_15 ∧ gw_X0_append K (some q_1) ((w_1134.toUInt32 % 65536).toInt32) (some q_11) h_15 kc_1135 ks_1136 (fun (r_1138 : Int32) (h_1137 : ga_H) => vp_in (x5_15 + (1 : Int32)) L ∧ ∀ w_1142 : Int32, w_1142 = xs (x5_15 + (1 : Int32)).toNatClampNeg → (∃ (za_1143 zl_1144 zt_1145 zc_1146 : Nat) (S_1147 : zt_S), ga_Tw (q_6, za_1143, zl_1144, zt_1145, zc_1146) h_1137 S_1147 ∧ zw_append ((w_1142.toUInt32 % 65536).toInt32) S_1147 (fun (r_1148 : Int32) (S_1149 : zt_S) => ∀ h_1150 : ga_H, h_1150 = ga_tws (q_6, za_1143, zl_1144, zt_1145, zc_1146) h_1137 S_1149 → (∃ (za_1152 zl_1153 zt_1154 zc_1155 : Nat) (S_1156 : zt_S), ga_Tw (q_6, za_1152, zl_1153, zt_1154, zc_1155) h_1150 S_1156 ∧ zw_thrown S_1156 (fun (r_1157 : Int32) (S_1158 : zt_S) => ∀ h_1159 : ga_H, h_1159 = ga_tws (q_6, za_1152, zl_1153, zt_1154, zc_1155) h_1150 S_1158 → ((r_1157 = r_1138 → ((¬ r_1138 = (0 : Int32) → (In_15 (x5_15 + (6 : Int32)) h_1159 (bc_15 - kc_1135) (bs_15 - ks_1136) ∧ mu_15 (x5_15 + (6 : Int32)) h_1159 (bc_15 - kc_1135) (bs_15 - ks_1136) < mu_15 x5_15 h_15 bc_15 bs_15)) ∧ (r_1138 = (0 : Int32) → (∃ (n_1163 : Nat) (f_1164 : Nat → Int64), h_1159 q_11 = some (ga_Al n_1163 f_1164) ∧ vp_in (0 : Int32) n_1163 ∧ ((lg_cmp (f_1164 (0 : Int32).toNatClampNeg) r_1148.toInt64 = (0 : Int32) → (In_15 (x5_15 + (6 : Int32)) h_1159 (bc_15 - kc_1135) (bs_15 - ks_1136) ∧ mu_15 (x5_15 + (6 : Int32)) h_1159 (bc_15 - kc_1135) (bs_15 - ks_1136) < mu_15 x5_15 h_15 bc_15 bs_15)) ∧ (¬ lg_cmp (f_1164 (0 : Int32).toNatClampNeg) r_1148.toInt64 = (0 : Int32) → False)))))) ∧ (¬ r_1157 = r_1138 → False))))))) (fun (E_1139 : String) (q_1140 : Nat) (h_1141 : ga_H) => False)))) ∧ (¬ w_17 &&& (63 : Int32) = (33 : Int32) → ((w_17 &&& (63 : Int32) = (34 : Int32) → (∃ kc_1167 ks_1168 : Nat, kc_1167 ≤ bc_15 ∧ ks_1168 ≤ bs_15 ∧ gw_X0_read K (some q_1) (some q_11) h_15 kc_1167 ks_1168 (fun (r_1170 : Int32) (h_1169 : ga_H) => ∃ (za_1174 zl_1175 zt_1176 zc_1177 : Nat) (S_1178 : zt_S), ga_Tw (q_6, za_1174, zl_1175, zt_1176, zc_1177) h_1169 S_1178 ∧ zw_read S_1178 (fun (r_1179 : Int32) (S_1180 : zt_S) => ∀ h_1181 : ga_H, h_1181 = ga_tws (q_6, za_1174, zl_1175, zt_1176, zc_1177) h_1169 S_1180 → (∃ (za_1183 zl_1184 zt_1185 zc_1186 : Nat) (S_1187 : zt_S), ga_Tw (q_6, za_1183, zl_1184, zt_1185, zc_1186) h_1181 S_1187 ∧ zw_thrown S_1187 (fun (r_1188 : Int32) (S_1189 : zt_S) => ∀ h_1190 : ga_H, h_1190 = ga_tws (q_6, za_1183, zl_1184, zt_1185, zc_1186) h_1181 S_1189 → ((r_1188 = r_1170 → ((¬ r_1170 = (0 : Int32) → (In_15 (x5_15 + (6 : Int32)) h_1190 (bc_15 - kc_1167) (bs_15 - ks_1168) ∧ mu_15 (x5_15 + (6 : Int32)) h_1190 (bc_15 - kc_1167) (bs_15 - ks_1168) < mu_15 x5_15 h_15 bc_15 bs_15)) ∧ (r_1170 = (0 : Int32) → (∃ (n_1194 : Nat) (f_1195 : Nat → Int64), h_1190 q_11 = some (ga_Al n_1194 f_1195) ∧ vp_in (0 : Int32) n_1194 ∧ ((lg_cmp (f_1195 (0 : Int32).toNatClampNeg) r_1179.toInt64 = (0 : Int32) → (In_15 (x5_15 + (6 : Int32)) h_1190 (bc_15 - kc_1167) (bs_15 - ks_1168) ∧ mu_15 (x5_15 + (6 : Int32)) h_1190 (bc_15 - kc_1167) (bs_15 - ks_1168) < mu_15 x5_15 h_15 bc_15 bs_15)) ∧ (¬ lg_cmp (f_1195 (0 : Int32).toNatClampNeg) r_1179.toInt64 = (0 : Int32) → False)))))) ∧ (¬ r_1188 = r_1170 → False)))))) (fun (E_1171 : String) (q_1172 : Nat) (h_1173 : ga_H) => False))) ∧ (¬ w_17 &&& (63 : Int32) = (34 : Int32) → ((w_17 &&& (63 : Int32) = (35 : Int32) → (∃ kc_1198 ks_1199 : Nat, kc_1198 ≤ bc_15 ∧ ks_1199 ≤ bs_15 ∧ gw_X0_errorPosition K (some q_1) (some q_11) h_15 kc_1198 ks_1199 (fun (r_1201 : Int32) (h_1200 : ga_H) => ∃ (za_1205 zl_1206 zt_1207 zc_1208 : Nat) (S_1209 : zt_S), ga_Tw (q_6, za_1205, zl_1206, zt_1207, zc_1208) h_1200 S_1209 ∧ zw_errorPosition S_1209 (fun (r_1210 : Int32) (S_1211 : zt_S) => ∀ h_1212 : ga_H, h_1212 = ga_tws (q_6, za_1205, zl_1206, zt_1207, zc_1208) h_1200 S_1211 → (∃ (za_1214 zl_1215 zt_1216 zc_1217 : Nat) (S_1218 : zt_S), ga_Tw (q_6, za_1214, zl_1215, zt_1216, zc_1217) h_1212 S_1218 ∧ zw_thrown S_1218 (fun (r_1219 : Int32) (S_1220 : zt_S) => ∀ h_1221 : ga_H, h_1221 = ga_tws (q_6, za_1214, zl_1215, zt_1216, zc_1217) h_1212 S_1220 → ((r_1219 = r_1201 → ((¬ r_1201 = (0 : Int32) → (In_15 (x5_15 + (6 : Int32)) h_1221 (bc_15 - kc_1198) (bs_15 - ks_1199) ∧ mu_15 (x5_15 + (6 : Int32)) h_1221 (bc_15 - kc_1198) (bs_15 - ks_1199) < mu_15 x5_15 h_15 bc_15 bs_15)) ∧ (r_1201 = (0 : Int32) → (∃ (n_1225 : Nat) (f_1226 : Nat → Int64), h_1221 q_11 = some (ga_Al n_1225 f_1226) ∧ vp_in (0 : Int32) n_1225 ∧ ((lg_cmp (f_1226 (0 : Int32).toNatClampNeg) r_1210.toInt64 = (0 : Int32) → (In_15 (x5_15 + (6 : Int32)) h_1221 (bc_15 - kc_1198) (bs_15 - ks_1199) ∧ mu_15 (x5_15 + (6 : Int32)) h_1221 (bc_15 - kc_1198) (bs_15 - ks_1199) < mu_15 x5_15 h_15 bc_15 bs_15)) ∧ (¬ lg_cmp (f_1226 (0 : Int32).toNatClampNeg) r_1210.toInt64 = (0 : Int32) → False)))))) ∧ (¬ r_1219 = r_1201 → False)))))) (fun (E_1202 : String) (q_1203 : Nat) (h_1204 : ga_H) => False))) ∧ (¬ w_17 &&& (63 : Int32) = (35 : Int32) → ((w_17 &&& (63 : Int32) = (36 : Int32) → (vp_in (x5_15 + (1 : Int32)) L ∧ ∀ w_1229 : Int32, w_1229 = xs (x5_15 + (1 : Int32)).toNatClampNeg → ((w_1229 = (0 : Int32) → (gw_L_law_2446 K bb L xs (fun (y0 : Int32) (T : ga_H) (B1 : Nat) (B2 : Nat) => In_15 y0 T B1 B2 ∧ mu_15 y0 T B1 B2 < mu_15 x5_15 h_15 bc_15 bs_15) (0 : Int32) (some q_1) (some q_1) (some q_6) (some q_11) (some q_13) x5_15 h_15 bc_15 bs_15)) ∧ (¬ w_1229 = (0 : Int32) → (gw_L_law_2446 K bb L xs (fun (y0 : Int32) (T : ga_H) (B1 : Nat) (B2 : Nat) => In_15 y0 T B1 B2 ∧ mu_15 y0 T B1 B2 < mu_15 x5_15 h_15 bc_15 bs_15) (1 : Int32) (some q_1) (some q_1) (some q_6) (some q_11) (some q_13) x5_15 h_15 bc_15 bs_15))))) ∧ (¬ w_17 &&& (63 : Int32) = (36 : Int32) → ((w_17 &&& (63 : Int32) = (37 : Int32) → (∃ kc_1267 ks_1268 : Nat, kc_1267 ≤ bc_15 ∧ ks_1268 ≤ bs_15 ∧ gw_X0_undo K (some q_1) (some q_11) h_15 kc_1267 ks_1268 (fun (r_1270 : Int32) (h_1269 : ga_H) => ∃ (za_1274 zl_1275 zt_1276 zc_1277 : Nat) (S_1278 : zt_S), ga_Tw (q_6, za_1274, zl_1275, zt_1276, zc_1277) h_1269 S_1278 ∧ zw_undo S_1278 (fun (r_1279 : Int32) (S_1280 : zt_S) => ∀ h_1281 : ga_H, h_1281 = ga_tws (q_6, za_1274, zl_1275, zt_1276, zc_1277) h_1269 S_1280 → (∃ (za_1283 zl_1284 zt_1285 zc_1286 : Nat) (S_1287 : zt_S), ga_Tw (q_6, za_1283, zl_1284, zt_1285, zc_1286) h_1281 S_1287 ∧ zw_thrown S_1287 (fun (r_1288 : Int32) (S_1289 : zt_S) => ∀ h_1290 : ga_H, h_1290 = ga_tws (q_6, za_1283, zl_1284, zt_1285, zc_1286) h_1281 S_1289 → ((r_1288 = r_1270 → ((¬ r_1270 = (0 : Int32) → (In_15 (x5_15 + (6 : Int32)) h_1290 (bc_15 - kc_1267) (bs_15 - ks_1268) ∧ mu_15 (x5_15 + (6 : Int32)) h_1290 (bc_15 - kc_1267) (bs_15 - ks_1268) < mu_15 x5_15 h_15 bc_15 bs_15)) ∧ (r_1270 = (0 : Int32) → (∃ (n_1294 : Nat) (f_1295 : Nat → Int64), h_1290 q_11 = some (ga_Al n_1294 f_1295) ∧ vp_in (0 : Int32) n_1294 ∧ ((lg_cmp (f_1295 (0 : Int32).toNatClampNeg) r_1279.toInt64 = (0 : Int32) → (In_15 (x5_15 + (6 : Int32)) h_1290 (bc_15 - kc_1267) (bs_15 - ks_1268) ∧ mu_15 (x5_15 + (6 : Int32)) h_1290 (bc_15 - kc_1267) (bs_15 - ks_1268) < mu_15 x5_15 h_15 bc_15 bs_15)) ∧ (¬ lg_cmp (f_1295 (0 : Int32).toNatClampNeg) r_1279.toInt64 = (0 : Int32) → False)))))) ∧ (¬ r_1288 = r_1270 → False)))))) (fun (E_1271 : String) (q_1272 : Nat) (h_1273 : ga_H) => False))) ∧ (¬ w_17 &&& (63 : Int32) = (37 : Int32) → ((w_17 &&& (63 : Int32) = (38 : Int32) → (∃ kc_1298 ks_1299 : Nat, kc_1298 ≤ bc_15 ∧ ks_1299 ≤ bs_15 ∧ ∃ fs_1300 : List Value, ga_at K h_15 q_1 (ga_O 0 fs_1300) ∧ gw_X1_save K q_1 h_15 kc_1298 ks_1299 (fun (r_1302 : Int32) (h_1301 : ga_H) => ∃ (za_1303 zl_1304 zt_1305 zc_1306 : Nat) (S_1307 : zt_S), ga_Tw (q_6, za_1303, zl_1304, zt_1305, zc_1306) h_1301 S_1307 ∧ zw_save S_1307 (fun (r_1308 : Int32) (S_1309 : zt_S) => ∀ h_1310 : ga_H, h_1310 = ga_tws (q_6, za_1303, zl_1304, zt_1305, zc_1306) h_1301 S_1309 → ((r_1302 = r_1308 → (In_15 (x5_15 + (6 : Int32)) h_1310 (bc_15 - kc_1298) (bs_15 - ks_1299) ∧ mu_15 (x5_15 + (6 : Int32)) h_1310 (bc_15 - kc_1298) (bs_15 - ks_1299) < mu_15 x5_15 h_15 bc_15 bs_15)) ∧ (¬ r_1302 = r_1308 → False)))))) ∧ (¬ w_17 &&& (63 : Int32) = (38 : Int32) → ((w_17 &&& (63 : Int32) = (39 : Int32) → (∃ kc_1314 ks_1315 : Nat, kc_1314 ≤ bc_15 ∧ ks_1315 ≤ bs_15 ∧ gw_X0_restore K (some q_1) (some q_11) h_15 kc_1314 ks_1315 (fun (r_1317 : Int32) (h_1316 : ga_H) => ∃ (za_1321 zl_1322 zt_1323 zc_1324 : Nat) (S_1325 : zt_S), ga_Tw (q_6, za_1321, zl_1322, zt_1323, zc_1324) h_1316 S_1325 ∧ zw_restore S_1325 (fun (r_1326 : Int32) (S_1327 : zt_S) => ∀ h_1328 : ga_H, h_1328 = ga_tws (q_6, za_1321, zl_1322, zt_1323, zc_1324) h_1316 S_1327 → (∃ (za_1330 zl_1331 zt_1332 zc_1333 : Nat) (S_1334 : zt_S), ga_Tw (q_6, za_1330, zl_1331, zt_1332, zc_1333) h_1328 S_1334 ∧ zw_thrown S_1334 (fun (r_1335 : Int32) (S_1336 : zt_S) => ∀ h_1337 : ga_H, h_1337 = ga_tws (q_6, za_1330, zl_1331, zt_1332, zc_1333) h_1328 S_1336 → ((r_1335 = r_1317 → ((¬ r_1317 = (0 : Int32) → (In_15 (x5_15 + (6 : Int32)) h_1337 (bc_15 - kc_1314) (bs_15 - ks_1315) ∧ mu_15 (x5_15 + (6 : Int32)) h_1337 (bc_15 - kc_1314) (bs_15 - ks_1315) < mu_15 x5_15 h_15 bc_15 bs_15)) ∧ (r_1317 = (0 : Int32) → (∃ (n_1341 : Nat) (f_1342 : Nat → Int64), h_1337 q_11 = some (ga_Al n_1341 f_1342) ∧ vp_in (0 : Int32) n_1341 ∧ ((lg_cmp (f_1342 (0 : Int32).toNatClampNeg) r_1326.toInt64 = (0 : Int32) → (In_15 (x5_15 + (6 : Int32)) h_1337 (bc_15 - kc_1314) (bs_15 - ks_1315) ∧ mu_15 (x5_15 + (6 : Int32)) h_1337 (bc_15 - kc_1314) (bs_15 - ks_1315) < mu_15 x5_15 h_15 bc_15 bs_15)) ∧ (¬ lg_cmp (f_1342 (0 : Int32).toNatClampNeg) r_1326.toInt64 = (0 : Int32) → False)))))) ∧ (¬ r_1335 = r_1317 → False)))))) (fun (E_1318 : String) (q_1319 : Nat) (h_1320 : ga_H) => False))) ∧ (¬ w_17 &&& (63 : Int32) = (39 : Int32) → (In_15 (x5_15 + (6 : Int32)) h_15 bc_15 bs_15 ∧ mu_15 (x5_15 + (6 : Int32)) h_15 bc_15 bs_15 < mu_15 x5_15 h_15 bc_15 bs_15))))))))))))))))))))))))))))))))))))))))))))))))))))))))))))))))))))))))))))))))))))))))))
set_option maxHeartbeats 16000000 in
theorem gm_L_law {p : Program} {l : Launch} {e : Env} {s : State} {m : MethodId} {args : Array Value} {below : List Frame} {meth : Method} {c : Code} {Q : State → Prop} {H : Heap} {locs : List Loc} {cells slots : Nat} {ls : Array Slot} (g : ga_G) (bb L : Nat) (xs : Nat → Int32) (h : ga_H) (mc ms : Nat) (hst : l.stackTraces = false) (hfin : ∀ (pc : Nat) (h : ga_H) (H : Heap) (locs : List Loc) (cells slots : Nat) (ls : Array Slot), ga_I g h s H locs → cells ≤ room_1.cells → slots ≤ room_1.slots → decode cL_law pc = .ok (.ireturn, 1) → W p l e room_1 s m args below meth c H locs cells slots Q (F0 m pc ls [.int 1])) (hX : va_X bb L xs s s.heap) (hbl : bb < s.heap.size) (hbA : ¬ ga_A g bb) (hC : ga_Cx p s m args meth c cL_law 9 (some .boolean) "PaperStoreLaw" "law") (hw : gw_L_law g.2.2 bb L xs h mc ms) (hI : ga_I g h s H locs) (hbc : cells + mc ≤ room_1.cells) (hbs : slots + ms ≤ room_1.slots) (hl : lv_has ls 9 [(0, .ref bb)]) : W p l e room_1 s m args below meth c H locs cells slots Q (F0 m 0 ls []) := by
  obtain ⟨hx, hb, hml, hown, hts, hr, hlk, hnm⟩ := hC
  unfold gw_L_law at hw
  refine ga_new (ci := 0) (T := TX1) hx hb hts hown hI in_X1 rfl tyX1 tyX1_ok q173 q174 q100 [va_rf none, va_rf none, va_rf none, va_rf none, va_rf none, .int 0, va_rf none, va_rf none] ga_df_X1 hbc hbs hw.1 hw.2.1 dL_law_0 (fun q_1 H cells slots hn_q_1 hI hbc hbs => ?_)
  obtain ⟨h_2, eh_2⟩ : ∃ z, z = ga_set h q_1 (ga_O 0 [va_rf none, va_rf none, va_rf none, va_rf none, va_rf none, .int 0, va_rf none, va_rf none]) := ⟨_, rfl⟩
  rw [← eh_2] at hI
  have hw := hw.2.2 q_1 hn_q_1 h_2 eh_2
  refine lv_dup hx hb dL_law_3 rfl ?_
  obtain ⟨kc_3, ks_4, hk1, hk2, hw⟩ := hw
  refine ga_callv (va_runI (As := []) (rest := [.ref q_1]) ⟨hx, hb, hml, hown, hts⟩ (gm_X1_init l g q_1 h_2 kc_3 ks_4 _ hw) (cwI 0 hts (lw_meth q177) rfl rfl rfl (hts _ q100) (hts _ q175) (hts _ q176) rfl hdG_X1_init ⟨Nat.le_of_ble_eq_true rfl, Nat.le_of_ble_eq_true rfl⟩) (ga_preS hI rfl) rfl rfl hl.1 rfl (ga_room (Nat.le_of_ble_eq_true rfl)) dL_law_4 ⟨Nat.le_trans (Nat.add_le_add_left hk1 _) hbc, Nat.le_trans (Nat.add_le_add_left hk2 _) hbs⟩) hI hbc hbs hk1 hk2 (fun h_5 H locs cells slots hw hI hbc hbs => ?_)
  refine lv_astore_n (i := 1) (lv' := [(1, .ref q_1), (0, .ref bb)]) hx hb dL_law_7 rfl hl (by decide) rfl (fun ls hl => ?_)
  refine ga_new (ci := 30) (T := TX5) hx hb hts hown hI in_X5 rfl tyX5 tyX5_ok q3626 q3627 q113 [.int 0, va_rf none, .int 0, .int 0, .int 0, .int 0, .int 0, va_rf none, .int 0, va_rf none, .int 0, .int 0, .int 0, .int 0, va_rf none, .int 0] ga_df_X5 hbc hbs hw.1 hw.2.1 dL_law_8 (fun q_6 H cells slots hn_q_6 hI hbc hbs => ?_)
  obtain ⟨h_7, eh_7⟩ : ∃ z, z = ga_set h_5 q_6 (ga_O 30 [.int 0, va_rf none, .int 0, .int 0, .int 0, .int 0, .int 0, va_rf none, .int 0, va_rf none, .int 0, .int 0, .int 0, .int 0, va_rf none, .int 0]) := ⟨_, rfl⟩
  rw [← eh_7] at hI
  have hw := hw.2.2 q_6 hn_q_6 h_7 eh_7
  refine lv_dup hx hb dL_law_11 rfl ?_
  obtain ⟨kc_8, ks_9, hk1, hk2, hw⟩ := hw
  refine ga_callv (va_runI (As := []) (rest := [.ref q_6]) ⟨hx, hb, hml, hown, hts⟩ (gm_X5_init l g q_6 h_7 kc_8 ks_9 _ hw) (cwI 0 hts (lw_meth q3630) rfl rfl rfl (hts _ q113) (hts _ q3628) (hts _ q3629) rfl hdG_X5_init ⟨Nat.le_of_ble_eq_true rfl, Nat.le_of_ble_eq_true rfl⟩) (ga_preS hI rfl) rfl rfl hl.1 rfl (ga_room (Nat.le_of_ble_eq_true rfl)) dL_law_12 ⟨Nat.le_trans (Nat.add_le_add_left hk1 _) hbc, Nat.le_trans (Nat.add_le_add_left hk2 _) hbs⟩) hI hbc hbs hk1 hk2 (fun h_10 H locs cells slots hw hI hbc hbs => ?_)
  refine lv_astore_n (i := 2) (lv' := [(2, .ref q_6), (1, .ref q_1), (0, .ref bb)]) hx hb dL_law_15 rfl hl (by decide) rfl (fun ls hl => ?_)
  refine lv_iconst (v := 1) hx hb dL_law_16 (by decide) ?_
  refine ga_nal hx hb hts hI q439 hbc hbs (by decide) (N := 1) rfl (Nat.le_of_ble_eq_true rfl) hw.1 hw.2.1 dL_law_17 (fun q_11 H cells slots hn_q_11 hI hbc hbs => ?_)
  obtain ⟨h_12, eh_12⟩ : ∃ z, z = ga_set h_10 q_11 (ga_Al 1 (fun _ => 0)) := ⟨_, rfl⟩
  rw [← eh_12] at hI
  have hw := hw.2.2 q_11 hn_q_11 h_12 eh_12
  refine lv_astore_n (i := 3) (lv' := [(3, .ref q_11), (2, .ref q_6), (1, .ref q_1), (0, .ref bb)]) hx hb dL_law_19 rfl hl (by decide) rfl (fun ls hl => ?_)
  refine lv_iconst (v := 1) hx hb dL_law_20 (by decide) ?_
  refine ga_nad hx hb hts hI q4107 hbc hbs (by decide) (N := 1) rfl (Nat.le_of_ble_eq_true rfl) hw.1 hw.2.1 dL_law_21 (fun q_13 H cells slots hn_q_13 hI hbc hbs => ?_)
  obtain ⟨h_14, eh_14⟩ : ∃ z, z = ga_set h_12 q_13 (ga_Ad 1 (fun _ => 0)) := ⟨_, rfl⟩
  rw [← eh_14] at hI
  have hw := hw.2.2 q_13 hn_q_13 h_14 eh_14
  refine lv_astore (lv' := [(4, .ref q_13), (3, .ref q_11), (2, .ref q_6), (1, .ref q_1), (0, .ref bb)]) hx hb dL_law_23 hl (by decide) rfl (fun ls hl => ?_)
  refine lv_iconst (v := 0) hx hb dL_law_25 (by decide) ?_
  refine lv_istore (lv' := [(5, .int (0 : Int32)), (4, .ref q_13), (3, .ref q_11), (2, .ref q_6), (1, .ref q_1), (0, .ref bb)]) hx hb dL_law_26 hl (by decide) rfl (fun ls hl => ?_)
  obtain ⟨In_15, mu_15, h0_15, hw⟩ := hw
  have hL_15 : ∀ (n : Nat) (x5_15 : Int32) (h_15 : ga_H) (bc_15 : Nat) (bs_15 : Nat) (H : Heap) (locs : List Loc) (cells slots : Nat) (ls : Array Slot), mu_15 x5_15 h_15 bc_15 bs_15 < n → In_15 x5_15 h_15 bc_15 bs_15 → ga_I g h_15 s H locs → cells + bc_15 ≤ room_1.cells → slots + bs_15 ≤ room_1.slots → lv_has ls 9 [(0, .ref bb), (1, va_rf (some q_1)), (2, va_rf (some q_6)), (3, va_rf (some q_11)), (4, va_rf (some q_13)), (5, .int x5_15)] → W p l e room_1 s m args below meth c H locs cells slots Q (F0 m 28 ls []) := by
    intro n
    induction n with
    | zero => intro x5_15 h_15 bc_15 bs_15 H locs cells slots ls hn _ _ _ _ _; exact absurd hn (Nat.not_lt_zero _)
    | succ n ih_15 =>
      intro x5_15 h_15 bc_15 bs_15 H locs cells slots ls hn_15 hi_15 hI hbc hbs hl
      have hw := hw x5_15 h_15 bc_15 bs_15 hi_15
      refine lv_iload hx hb dL_law_28 (lv_at hl 5 rfl) ?_
      refine lv_aload_n hx hb dL_law_30 rfl (lv_at hl 0 rfl) ?_
      refine va_slen hx hb hX hbl hbA hI.2.2 dL_law_31 ?_
      refine lv_bipush (v := 6) hx hb dL_law_32 (by decide) ?_
      refine lv_isub hx hb dL_law_34 ?_
      refine lv_icmp_gt (tgt := 2610) hx hb dL_law_35 (by decide) (fun hc_16 => ?_) (fun hc_16 => ?_)
      · have hw := hw.1 hc_16
        refine lv_iconst (v := 1) hx hb dL_law_2610 (by decide) ?_
        exact hfin _ _ _ _ _ _ _ hI (Nat.le_trans (Nat.le_add_right _ _) hbc) (Nat.le_trans (Nat.le_add_right _ _) hbs) dL_law_2611
      · have hw := hw.2 hc_16
        refine lv_aload_n hx hb dL_law_38 rfl (lv_at hl 0 rfl) ?_
        refine lv_iload hx hb dL_law_39 (lv_at hl 5 rfl) ?_
        obtain ⟨hi, hw⟩ := hw
        refine va_sld hx hb hX hbl hbA hI.2.2 hi dL_law_41 ?_
        refine lv_topi (fun w_17 ew_17 => ?_)
        have hw := hw w_17 ew_17
        refine lv_bipush (v := 63) hx hb dL_law_42 (by decide) ?_
        refine lv_iand hx hb dL_law_44 ?_
        by_cases hc_18 : w_17 &&& (63 : Int32) = (0 : Int32)
        · have hw := hw.1 hc_18
          refine lv_tableIn (tgt := 220) hx hb dL_law_45 (by rw [hc_18]; decide) (by rw [hc_18]; decide) (off := 175) (by rw [hc_18]; rfl) (by decide) ?_
          refine ga_aload_n hx hb dL_law_220 rfl (lv_at hl 1 rfl) ?_
          refine lv_aload_n hx hb dL_law_221 rfl (lv_at hl 0 rfl) ?_
          refine lv_iload hx hb dL_law_222 (lv_at hl 5 rfl) ?_
          refine lv_iconst (v := 1) hx hb dL_law_224 (by decide) ?_
          refine lv_iadd hx hb dL_law_225 ?_
          obtain ⟨hi, hw⟩ := hw
          refine va_sld hx hb hX hbl hbA hI.2.2 hi dL_law_226 ?_
          refine lv_topi (fun w_19 ew_19 => ?_)
          have hw := hw w_19 ew_19
          refine ga_aload_n hx hb dL_law_227 rfl (lv_at hl 3 rfl) ?_
          obtain ⟨kc_20, ks_21, hk1, hk2, hw⟩ := hw
          refine ga_xcalli (vx_runSX (As := [va_rf (some q_1), .int w_19, va_rf (some q_11)]) (rest := []) ⟨hx, hb, hml, hown, hts⟩ (gm_X0_ladder l hst g (some q_1) w_19 (some q_11) h_15 kc_20 ks_21 _ _ hw) (vx_cwSW 3 hts (lw_SW q2014 q2015 q99 q2016) rfl rfl rfl hdG_X0_ladder ⟨Nat.le_of_ble_eq_true rfl, Nat.le_of_ble_eq_true rfl⟩) (ga_preS hI rfl) rfl rfl hl.1 rfl (ga_room (Nat.le_of_ble_eq_true rfl)) dL_law_228 ⟨Nat.le_trans (Nat.add_le_add_left hk1 _) hbc, Nat.le_trans (Nat.add_le_add_left hk2 _) hbs⟩) hI hbc hbs hk1 hk2 (fun E_24 q_25 h_26 ce H locs cells slots hw hI hce hbc hbs => ?_) (fun r_23 h_22 H locs cells slots hw hI hbc hbs => ?_)
          · exact hw.elim
          · skip
            refine lv_istore (lv' := [(6, .int r_23), (0, .ref bb), (1, va_rf (some q_1)), (2, va_rf (some q_6)), (3, va_rf (some q_11)), (4, va_rf (some q_13)), (5, .int x5_15)]) hx hb dL_law_231 hl (by decide) rfl (fun ls hl => ?_)
            refine ga_aload_n hx hb dL_law_233 rfl (lv_at hl 3 rfl) ?_
            refine lv_aload_n hx hb dL_law_234 rfl (lv_at hl 1 rfl) ?_
            refine lv_iload hx hb dL_law_235 (lv_at hl 6 rfl) ?_
            refine lv_iconst (v := 1) hx hb dL_law_237 (by decide) ?_
            refine lv_iadd hx hb dL_law_238 ?_
            obtain ⟨hi, hw⟩ := hw
            refine va_sld hx hb hX hbl hbA hI.2.2 hi dL_law_239 ?_
            refine lv_topi (fun w_27 ew_27 => ?_)
            have hw := hw w_27 ew_27
            obtain ⟨za_28, zl_29, zt_30, zc_31, S_32, T_36, hw⟩ := hw
            refine ga_callTi (z := (q_6, za_28, zl_29, zt_30, zc_31)) (va_runV (As := [.int w_27]) (rest := []) ⟨hx, hb, hml, hown, hts⟩ (zm_ladder l (ga_gz g (q_6, za_28, zl_29, zt_30, zc_31)) w_27 S_32 _ hw) (cwV 1 hts (lw_V q3689 q3690 q3691 q113 q3692) rfl rfl rfl hdT_ladder ⟨Nat.le_of_ble_eq_true rfl, Nat.le_of_ble_eq_true rfl⟩) (ga_preT hI T_36 rfl) rfl rfl hl.1 rfl (ga_room (Nat.le_of_ble_eq_true rfl)) dL_law_240 ⟨Nat.le_trans (Nat.add_le_add_left (Nat.zero_le _) _) hbc, Nat.le_trans (Nat.add_le_add_left (Nat.zero_le _) _) hbs⟩) hI T_36 hbc hbs (fun r_33 S_34 H locs cells slots hw hI hbc hbs => ?_)
            obtain ⟨h_35, eh_35⟩ : ∃ z, z = ga_tws (q_6, za_28, zl_29, zt_30, zc_31) h_22 S_34 := ⟨_, rfl⟩
            rw [← eh_35] at hI
            have hw := hw h_35 eh_35
            refine lv_istore (lv' := [(7, .int r_33), (6, .int r_23), (0, .ref bb), (1, va_rf (some q_1)), (2, va_rf (some q_6)), (3, va_rf (some q_11)), (4, va_rf (some q_13)), (5, .int x5_15)]) hx hb dL_law_243 hl (by decide) rfl (fun ls hl => ?_)
            refine ga_aload_n hx hb dL_law_245 rfl (lv_at hl 4 rfl) ?_
            obtain ⟨za_37, zl_38, zt_39, zc_40, S_41, T_45, hw⟩ := hw
            refine ga_callTi (z := (q_6, za_37, zl_38, zt_39, zc_40)) (va_runV (As := []) (rest := []) ⟨hx, hb, hml, hown, hts⟩ (zm_thrown l (ga_gz g (q_6, za_37, zl_38, zt_39, zc_40))  S_41 _ hw) (cwV 0 hts (lw_V q3681 q3682 q3683 q113 q3684) rfl rfl rfl hdT_thrown ⟨Nat.le_of_ble_eq_true rfl, Nat.le_of_ble_eq_true rfl⟩) (ga_preT hI T_45 rfl) rfl rfl hl.1 rfl (ga_room (Nat.le_of_ble_eq_true rfl)) dL_law_246 ⟨Nat.le_trans (Nat.add_le_add_left (Nat.zero_le _) _) hbc, Nat.le_trans (Nat.add_le_add_left (Nat.zero_le _) _) hbs⟩) hI T_45 hbc hbs (fun r_42 S_43 H locs cells slots hw hI hbc hbs => ?_)
            obtain ⟨h_44, eh_44⟩ : ∃ z, z = ga_tws (q_6, za_37, zl_38, zt_39, zc_40) h_35 S_43 := ⟨_, rfl⟩
            rw [← eh_44] at hI
            have hw := hw h_44 eh_44
            refine lv_iload hx hb dL_law_249 (lv_at hl 1 rfl) ?_
            refine lv_icmp_eq (tgt := 256) hx hb dL_law_251 (by decide) (fun hc_46 => ?_) (fun hc_46 => ?_)
            · have hw := hw.1 hc_46
              refine lv_iload hx hb dL_law_256 (lv_at hl 1 rfl) ?_
              refine lv_if_ne (tgt := 273) hx hb dL_law_258 (by decide) (fun hc_47 => ?_) (fun hc_47 => ?_)
              · have hw := hw.1 hc_47
                refine lv_goto (tgt := 2604) hx hb dL_law_273 (by decide) ?_
                refine lv_iinc (v := x5_15 + (6 : Int32)) (lv' := [(5, .int (x5_15 + (6 : Int32))), (7, .int r_33), (6, .int r_23), (0, .ref bb), (1, va_rf (some q_1)), (2, va_rf (some q_6)), (3, va_rf (some q_11)), (4, va_rf (some q_13))]) hx hb dL_law_2604 hl (k := 7) rfl rfl (by decide) rfl (fun ls hl => ?_)
                refine lv_goto (tgt := 28) hx hb dL_law_2607 (by decide) ?_
                exact ih_15 _ _ _ _ H locs cells slots ls (Nat.lt_of_lt_of_le hw.2 (Nat.le_of_lt_succ hn_15)) hw.1 hI hbc hbs (lv_sub hl [3, 4, 5, 6, 7, 0] rfl)
              · have hw := hw.2 hc_47
                refine ga_aload_n hx hb dL_law_261 rfl (lv_at hl 5 rfl) ?_
                refine lv_iconst (v := 0) hx hb dL_law_262 (by decide) ?_
                obtain ⟨n_48, f_49, hq, hi, hw⟩ := hw
                refine ga_ldl hx hb hI (ga_at.h hq) hi dL_law_263 ?_
                refine lv_iload hx hb dL_law_264 (lv_at hl 0 rfl) ?_
                refine lv_i2l (v := r_33.toInt64) hx hb dL_law_266 rfl ?_
                refine W.lcmp hx hb dL_law_267 ?_
                refine lv_if_eq (tgt := 273) hx hb dL_law_268 (by decide) (fun hc_50 => ?_) (fun hc_50 => ?_)
                · have hw := hw.1 hc_50
                  refine lv_goto (tgt := 2604) hx hb dL_law_273 (by decide) ?_
                  refine lv_iinc (v := x5_15 + (6 : Int32)) (lv' := [(5, .int (x5_15 + (6 : Int32))), (7, .int r_33), (6, .int r_23), (0, .ref bb), (1, va_rf (some q_1)), (2, va_rf (some q_6)), (3, va_rf (some q_11)), (4, va_rf (some q_13))]) hx hb dL_law_2604 hl (k := 7) rfl rfl (by decide) rfl (fun ls hl => ?_)
                  refine lv_goto (tgt := 28) hx hb dL_law_2607 (by decide) ?_
                  exact ih_15 _ _ _ _ H locs cells slots ls (Nat.lt_of_lt_of_le hw.2 (Nat.le_of_lt_succ hn_15)) hw.1 hI hbc hbs (lv_sub hl [3, 4, 5, 6, 7, 0] rfl)
                · have hw := hw.2 hc_50
                  refine lv_iconst (v := 0) hx hb dL_law_271 (by decide) ?_
                  exact hw.elim
            · have hw := hw.2 hc_46
              refine lv_iconst (v := 0) hx hb dL_law_254 (by decide) ?_
              exact hw.elim
        have hw := hw.2 hc_18
        by_cases hc_51 : w_17 &&& (63 : Int32) = (1 : Int32)
        · have hw := hw.1 hc_51
          refine lv_tableIn (tgt := 276) hx hb dL_law_45 (by rw [hc_51]; decide) (by rw [hc_51]; decide) (off := 231) (by rw [hc_51]; rfl) (by decide) ?_
          refine ga_aload_n hx hb dL_law_276 rfl (lv_at hl 1 rfl) ?_
          refine lv_aload_n hx hb dL_law_277 rfl (lv_at hl 0 rfl) ?_
          refine lv_iload hx hb dL_law_278 (lv_at hl 5 rfl) ?_
          refine lv_iconst (v := 1) hx hb dL_law_280 (by decide) ?_
          refine lv_iadd hx hb dL_law_281 ?_
          obtain ⟨hi, hw⟩ := hw
          refine va_sld hx hb hX hbl hbA hI.2.2 hi dL_law_282 ?_
          refine lv_topi (fun w_52 ew_52 => ?_)
          have hw := hw w_52 ew_52
          refine lv_aload_n hx hb dL_law_283 rfl (lv_at hl 0 rfl) ?_
          refine lv_iload hx hb dL_law_284 (lv_at hl 5 rfl) ?_
          refine lv_iconst (v := 2) hx hb dL_law_286 (by decide) ?_
          refine lv_iadd hx hb dL_law_287 ?_
          obtain ⟨hi, hw⟩ := hw
          refine va_sld hx hb hX hbl hbA hI.2.2 hi dL_law_288 ?_
          refine lv_topi (fun w_53 ew_53 => ?_)
          have hw := hw w_53 ew_53
          refine ga_aload_n hx hb dL_law_289 rfl (lv_at hl 3 rfl) ?_
          obtain ⟨kc_54, ks_55, hk1, hk2, hw⟩ := hw
          refine ga_xcalli (vx_runSX (As := [va_rf (some q_1), .int w_52, .int w_53, va_rf (some q_11)]) (rest := []) ⟨hx, hb, hml, hown, hts⟩ (gm_X0_push l hst g (some q_1) w_52 w_53 (some q_11) h_15 kc_54 ks_55 _ _ hw) (vx_cwSW 4 hts (lw_SW q2102 q2103 q99 q2104) rfl rfl rfl hdG_X0_push ⟨Nat.le_of_ble_eq_true rfl, Nat.le_of_ble_eq_true rfl⟩) (ga_preS hI rfl) rfl rfl hl.1 rfl (ga_room (Nat.le_of_ble_eq_true rfl)) dL_law_290 ⟨Nat.le_trans (Nat.add_le_add_left hk1 _) hbc, Nat.le_trans (Nat.add_le_add_left hk2 _) hbs⟩) hI hbc hbs hk1 hk2 (fun E_58 q_59 h_60 ce H locs cells slots hw hI hce hbc hbs => ?_) (fun r_57 h_56 H locs cells slots hw hI hbc hbs => ?_)
          · exact hw.elim
          · skip
            refine lv_istore (lv' := [(6, .int r_57), (0, .ref bb), (1, va_rf (some q_1)), (2, va_rf (some q_6)), (3, va_rf (some q_11)), (4, va_rf (some q_13)), (5, .int x5_15)]) hx hb dL_law_293 hl (by decide) rfl (fun ls hl => ?_)
            refine ga_aload_n hx hb dL_law_295 rfl (lv_at hl 3 rfl) ?_
            refine lv_aload_n hx hb dL_law_296 rfl (lv_at hl 1 rfl) ?_
            refine lv_iload hx hb dL_law_297 (lv_at hl 6 rfl) ?_
            refine lv_iconst (v := 1) hx hb dL_law_299 (by decide) ?_
            refine lv_iadd hx hb dL_law_300 ?_
            obtain ⟨hi, hw⟩ := hw
            refine va_sld hx hb hX hbl hbA hI.2.2 hi dL_law_301 ?_
            refine lv_topi (fun w_61 ew_61 => ?_)
            have hw := hw w_61 ew_61
            refine lv_aload_n hx hb dL_law_302 rfl (lv_at hl 1 rfl) ?_
            refine lv_iload hx hb dL_law_303 (lv_at hl 6 rfl) ?_
            refine lv_iconst (v := 2) hx hb dL_law_305 (by decide) ?_
            refine lv_iadd hx hb dL_law_306 ?_
            obtain ⟨hi, hw⟩ := hw
            refine va_sld hx hb hX hbl hbA hI.2.2 hi dL_law_307 ?_
            refine lv_topi (fun w_62 ew_62 => ?_)
            have hw := hw w_62 ew_62
            obtain ⟨za_63, zl_64, zt_65, zc_66, S_67, T_71, hw⟩ := hw
            refine ga_callTi (z := (q_6, za_63, zl_64, zt_65, zc_66)) (va_runV (As := [.int w_61, .int w_62]) (rest := []) ⟨hx, hb, hml, hown, hts⟩ (zm_push l (ga_gz g (q_6, za_63, zl_64, zt_65, zc_66)) w_61 w_62 S_67 _ hw) (cwV 2 hts (lw_V q3720 q3721 q3722 q113 q3723) rfl rfl rfl hdT_push ⟨Nat.le_of_ble_eq_true rfl, Nat.le_of_ble_eq_true rfl⟩) (ga_preT hI T_71 rfl) rfl rfl hl.1 rfl (ga_room (Nat.le_of_ble_eq_true rfl)) dL_law_308 ⟨Nat.le_trans (Nat.add_le_add_left (Nat.zero_le _) _) hbc, Nat.le_trans (Nat.add_le_add_left (Nat.zero_le _) _) hbs⟩) hI T_71 hbc hbs (fun r_68 S_69 H locs cells slots hw hI hbc hbs => ?_)
            obtain ⟨h_70, eh_70⟩ : ∃ z, z = ga_tws (q_6, za_63, zl_64, zt_65, zc_66) h_56 S_69 := ⟨_, rfl⟩
            rw [← eh_70] at hI
            have hw := hw h_70 eh_70
            refine lv_istore (lv' := [(7, .int r_68), (6, .int r_57), (0, .ref bb), (1, va_rf (some q_1)), (2, va_rf (some q_6)), (3, va_rf (some q_11)), (4, va_rf (some q_13)), (5, .int x5_15)]) hx hb dL_law_311 hl (by decide) rfl (fun ls hl => ?_)
            refine ga_aload_n hx hb dL_law_313 rfl (lv_at hl 4 rfl) ?_
            obtain ⟨za_72, zl_73, zt_74, zc_75, S_76, T_80, hw⟩ := hw
            refine ga_callTi (z := (q_6, za_72, zl_73, zt_74, zc_75)) (va_runV (As := []) (rest := []) ⟨hx, hb, hml, hown, hts⟩ (zm_thrown l (ga_gz g (q_6, za_72, zl_73, zt_74, zc_75))  S_76 _ hw) (cwV 0 hts (lw_V q3681 q3682 q3683 q113 q3684) rfl rfl rfl hdT_thrown ⟨Nat.le_of_ble_eq_true rfl, Nat.le_of_ble_eq_true rfl⟩) (ga_preT hI T_80 rfl) rfl rfl hl.1 rfl (ga_room (Nat.le_of_ble_eq_true rfl)) dL_law_314 ⟨Nat.le_trans (Nat.add_le_add_left (Nat.zero_le _) _) hbc, Nat.le_trans (Nat.add_le_add_left (Nat.zero_le _) _) hbs⟩) hI T_80 hbc hbs (fun r_77 S_78 H locs cells slots hw hI hbc hbs => ?_)
            obtain ⟨h_79, eh_79⟩ : ∃ z, z = ga_tws (q_6, za_72, zl_73, zt_74, zc_75) h_70 S_78 := ⟨_, rfl⟩
            rw [← eh_79] at hI
            have hw := hw h_79 eh_79
            refine lv_iload hx hb dL_law_317 (lv_at hl 1 rfl) ?_
            refine lv_icmp_eq (tgt := 324) hx hb dL_law_319 (by decide) (fun hc_81 => ?_) (fun hc_81 => ?_)
            · have hw := hw.1 hc_81
              refine lv_iload hx hb dL_law_324 (lv_at hl 1 rfl) ?_
              refine lv_if_ne (tgt := 341) hx hb dL_law_326 (by decide) (fun hc_82 => ?_) (fun hc_82 => ?_)
              · have hw := hw.1 hc_82
                refine lv_goto (tgt := 2604) hx hb dL_law_341 (by decide) ?_
                refine lv_iinc (v := x5_15 + (6 : Int32)) (lv' := [(5, .int (x5_15 + (6 : Int32))), (7, .int r_68), (6, .int r_57), (0, .ref bb), (1, va_rf (some q_1)), (2, va_rf (some q_6)), (3, va_rf (some q_11)), (4, va_rf (some q_13))]) hx hb dL_law_2604 hl (k := 7) rfl rfl (by decide) rfl (fun ls hl => ?_)
                refine lv_goto (tgt := 28) hx hb dL_law_2607 (by decide) ?_
                exact ih_15 _ _ _ _ H locs cells slots ls (Nat.lt_of_lt_of_le hw.2 (Nat.le_of_lt_succ hn_15)) hw.1 hI hbc hbs (lv_sub hl [3, 4, 5, 6, 7, 0] rfl)
              · have hw := hw.2 hc_82
                refine ga_aload_n hx hb dL_law_329 rfl (lv_at hl 5 rfl) ?_
                refine lv_iconst (v := 0) hx hb dL_law_330 (by decide) ?_
                obtain ⟨n_83, f_84, hq, hi, hw⟩ := hw
                refine ga_ldl hx hb hI (ga_at.h hq) hi dL_law_331 ?_
                refine lv_iload hx hb dL_law_332 (lv_at hl 0 rfl) ?_
                refine lv_i2l (v := r_68.toInt64) hx hb dL_law_334 rfl ?_
                refine W.lcmp hx hb dL_law_335 ?_
                refine lv_if_eq (tgt := 341) hx hb dL_law_336 (by decide) (fun hc_85 => ?_) (fun hc_85 => ?_)
                · have hw := hw.1 hc_85
                  refine lv_goto (tgt := 2604) hx hb dL_law_341 (by decide) ?_
                  refine lv_iinc (v := x5_15 + (6 : Int32)) (lv' := [(5, .int (x5_15 + (6 : Int32))), (7, .int r_68), (6, .int r_57), (0, .ref bb), (1, va_rf (some q_1)), (2, va_rf (some q_6)), (3, va_rf (some q_11)), (4, va_rf (some q_13))]) hx hb dL_law_2604 hl (k := 7) rfl rfl (by decide) rfl (fun ls hl => ?_)
                  refine lv_goto (tgt := 28) hx hb dL_law_2607 (by decide) ?_
                  exact ih_15 _ _ _ _ H locs cells slots ls (Nat.lt_of_lt_of_le hw.2 (Nat.le_of_lt_succ hn_15)) hw.1 hI hbc hbs (lv_sub hl [3, 4, 5, 6, 7, 0] rfl)
                · have hw := hw.2 hc_85
                  refine lv_iconst (v := 0) hx hb dL_law_339 (by decide) ?_
                  exact hw.elim
            · have hw := hw.2 hc_81
              refine lv_iconst (v := 0) hx hb dL_law_322 (by decide) ?_
              exact hw.elim
        have hw := hw.2 hc_51
        by_cases hc_86 : w_17 &&& (63 : Int32) = (2 : Int32)
        · have hw := hw.1 hc_86
          refine lv_tableIn (tgt := 344) hx hb dL_law_45 (by rw [hc_86]; decide) (by rw [hc_86]; decide) (off := 299) (by rw [hc_86]; rfl) (by decide) ?_
          refine ga_aload_n hx hb dL_law_344 rfl (lv_at hl 1 rfl) ?_
          refine lv_aload_n hx hb dL_law_345 rfl (lv_at hl 0 rfl) ?_
          refine lv_iload hx hb dL_law_346 (lv_at hl 5 rfl) ?_
          refine lv_iconst (v := 1) hx hb dL_law_348 (by decide) ?_
          refine lv_iadd hx hb dL_law_349 ?_
          obtain ⟨hi, hw⟩ := hw
          refine va_sld hx hb hX hbl hbA hI.2.2 hi dL_law_350 ?_
          refine lv_topi (fun w_87 ew_87 => ?_)
          have hw := hw w_87 ew_87
          refine lv_aload_n hx hb dL_law_351 rfl (lv_at hl 0 rfl) ?_
          refine lv_iload hx hb dL_law_352 (lv_at hl 5 rfl) ?_
          refine lv_iconst (v := 2) hx hb dL_law_354 (by decide) ?_
          refine lv_iadd hx hb dL_law_355 ?_
          obtain ⟨hi, hw⟩ := hw
          refine va_sld hx hb hX hbl hbA hI.2.2 hi dL_law_356 ?_
          refine lv_topi (fun w_88 ew_88 => ?_)
          have hw := hw w_88 ew_88
          refine lv_aload_n hx hb dL_law_357 rfl (lv_at hl 0 rfl) ?_
          refine lv_iload hx hb dL_law_358 (lv_at hl 5 rfl) ?_
          refine lv_iconst (v := 3) hx hb dL_law_360 (by decide) ?_
          refine lv_iadd hx hb dL_law_361 ?_
          obtain ⟨hi, hw⟩ := hw
          refine va_sld hx hb hX hbl hbA hI.2.2 hi dL_law_362 ?_
          refine lv_topi (fun w_89 ew_89 => ?_)
          have hw := hw w_89 ew_89
          refine lv_aload_n hx hb dL_law_363 rfl (lv_at hl 0 rfl) ?_
          refine lv_iload hx hb dL_law_364 (lv_at hl 5 rfl) ?_
          refine lv_iconst (v := 4) hx hb dL_law_366 (by decide) ?_
          refine lv_iadd hx hb dL_law_367 ?_
          obtain ⟨hi, hw⟩ := hw
          refine va_sld hx hb hX hbl hbA hI.2.2 hi dL_law_368 ?_
          refine lv_topi (fun w_90 ew_90 => ?_)
          have hw := hw w_90 ew_90
          refine lv_aload_n hx hb dL_law_369 rfl (lv_at hl 0 rfl) ?_
          refine lv_iload hx hb dL_law_370 (lv_at hl 5 rfl) ?_
          refine lv_iconst (v := 5) hx hb dL_law_372 (by decide) ?_
          refine lv_iadd hx hb dL_law_373 ?_
          obtain ⟨hi, hw⟩ := hw
          refine va_sld hx hb hX hbl hbA hI.2.2 hi dL_law_374 ?_
          refine lv_topi (fun w_91 ew_91 => ?_)
          have hw := hw w_91 ew_91
          refine ga_aload_n hx hb dL_law_375 rfl (lv_at hl 3 rfl) ?_
          obtain ⟨kc_92, ks_93, hk1, hk2, hw⟩ := hw
          refine ga_xcalli (vx_runSX (As := [va_rf (some q_1), .int w_87, .int w_88, .int w_89, .int w_90, .int w_91, va_rf (some q_11)]) (rest := []) ⟨hx, hb, hml, hown, hts⟩ (gm_X0_store l hst g (some q_1) w_87 w_88 w_89 w_90 w_91 (some q_11) h_15 kc_92 ks_93 _ _ hw) (vx_cwSW 7 hts (lw_SW q2151 q2152 q99 q2153) rfl rfl rfl hdG_X0_store ⟨Nat.le_of_ble_eq_true rfl, Nat.le_of_ble_eq_true rfl⟩) (ga_preS hI rfl) rfl rfl hl.1 rfl (ga_room (Nat.le_of_ble_eq_true rfl)) dL_law_376 ⟨Nat.le_trans (Nat.add_le_add_left hk1 _) hbc, Nat.le_trans (Nat.add_le_add_left hk2 _) hbs⟩) hI hbc hbs hk1 hk2 (fun E_96 q_97 h_98 ce H locs cells slots hw hI hce hbc hbs => ?_) (fun r_95 h_94 H locs cells slots hw hI hbc hbs => ?_)
          · exact hw.elim
          · skip
            refine lv_istore (lv' := [(6, .int r_95), (0, .ref bb), (1, va_rf (some q_1)), (2, va_rf (some q_6)), (3, va_rf (some q_11)), (4, va_rf (some q_13)), (5, .int x5_15)]) hx hb dL_law_379 hl (by decide) rfl (fun ls hl => ?_)
            refine ga_aload_n hx hb dL_law_381 rfl (lv_at hl 3 rfl) ?_
            refine lv_aload_n hx hb dL_law_382 rfl (lv_at hl 1 rfl) ?_
            refine lv_iload hx hb dL_law_383 (lv_at hl 6 rfl) ?_
            refine lv_iconst (v := 1) hx hb dL_law_385 (by decide) ?_
            refine lv_iadd hx hb dL_law_386 ?_
            obtain ⟨hi, hw⟩ := hw
            refine va_sld hx hb hX hbl hbA hI.2.2 hi dL_law_387 ?_
            refine lv_topi (fun w_99 ew_99 => ?_)
            have hw := hw w_99 ew_99
            refine lv_aload_n hx hb dL_law_388 rfl (lv_at hl 1 rfl) ?_
            refine lv_iload hx hb dL_law_389 (lv_at hl 6 rfl) ?_
            refine lv_iconst (v := 2) hx hb dL_law_391 (by decide) ?_
            refine lv_iadd hx hb dL_law_392 ?_
            obtain ⟨hi, hw⟩ := hw
            refine va_sld hx hb hX hbl hbA hI.2.2 hi dL_law_393 ?_
            refine lv_topi (fun w_100 ew_100 => ?_)
            have hw := hw w_100 ew_100
            refine lv_aload_n hx hb dL_law_394 rfl (lv_at hl 1 rfl) ?_
            refine lv_iload hx hb dL_law_395 (lv_at hl 6 rfl) ?_
            refine lv_iconst (v := 3) hx hb dL_law_397 (by decide) ?_
            refine lv_iadd hx hb dL_law_398 ?_
            obtain ⟨hi, hw⟩ := hw
            refine va_sld hx hb hX hbl hbA hI.2.2 hi dL_law_399 ?_
            refine lv_topi (fun w_101 ew_101 => ?_)
            have hw := hw w_101 ew_101
            refine lv_aload_n hx hb dL_law_400 rfl (lv_at hl 1 rfl) ?_
            refine lv_iload hx hb dL_law_401 (lv_at hl 6 rfl) ?_
            refine lv_iconst (v := 4) hx hb dL_law_403 (by decide) ?_
            refine lv_iadd hx hb dL_law_404 ?_
            obtain ⟨hi, hw⟩ := hw
            refine va_sld hx hb hX hbl hbA hI.2.2 hi dL_law_405 ?_
            refine lv_topi (fun w_102 ew_102 => ?_)
            have hw := hw w_102 ew_102
            refine lv_aload_n hx hb dL_law_406 rfl (lv_at hl 1 rfl) ?_
            refine lv_iload hx hb dL_law_407 (lv_at hl 6 rfl) ?_
            refine lv_iconst (v := 5) hx hb dL_law_409 (by decide) ?_
            refine lv_iadd hx hb dL_law_410 ?_
            obtain ⟨hi, hw⟩ := hw
            refine va_sld hx hb hX hbl hbA hI.2.2 hi dL_law_411 ?_
            refine lv_topi (fun w_103 ew_103 => ?_)
            have hw := hw w_103 ew_103
            obtain ⟨za_104, zl_105, zt_106, zc_107, S_108, T_112, hw⟩ := hw
            refine ga_callTi (z := (q_6, za_104, zl_105, zt_106, zc_107)) (va_runV (As := [.int w_99, .int w_100, .int w_101, .int w_102, .int w_103]) (rest := []) ⟨hx, hb, hml, hown, hts⟩ (zm_store l (ga_gz g (q_6, za_104, zl_105, zt_106, zc_107)) w_99 w_100 w_101 w_102 w_103 S_108 _ hw) (cwV 5 hts (lw_V q3743 q3744 q3745 q113 q3746) rfl rfl rfl hdT_store ⟨Nat.le_of_ble_eq_true rfl, Nat.le_of_ble_eq_true rfl⟩) (ga_preT hI T_112 rfl) rfl rfl hl.1 rfl (ga_room (Nat.le_of_ble_eq_true rfl)) dL_law_412 ⟨Nat.le_trans (Nat.add_le_add_left (Nat.zero_le _) _) hbc, Nat.le_trans (Nat.add_le_add_left (Nat.zero_le _) _) hbs⟩) hI T_112 hbc hbs (fun r_109 S_110 H locs cells slots hw hI hbc hbs => ?_)
            obtain ⟨h_111, eh_111⟩ : ∃ z, z = ga_tws (q_6, za_104, zl_105, zt_106, zc_107) h_94 S_110 := ⟨_, rfl⟩
            rw [← eh_111] at hI
            have hw := hw h_111 eh_111
            refine lv_istore (lv' := [(7, .int r_109), (6, .int r_95), (0, .ref bb), (1, va_rf (some q_1)), (2, va_rf (some q_6)), (3, va_rf (some q_11)), (4, va_rf (some q_13)), (5, .int x5_15)]) hx hb dL_law_415 hl (by decide) rfl (fun ls hl => ?_)
            refine ga_aload_n hx hb dL_law_417 rfl (lv_at hl 4 rfl) ?_
            obtain ⟨za_113, zl_114, zt_115, zc_116, S_117, T_121, hw⟩ := hw
            refine ga_callTi (z := (q_6, za_113, zl_114, zt_115, zc_116)) (va_runV (As := []) (rest := []) ⟨hx, hb, hml, hown, hts⟩ (zm_thrown l (ga_gz g (q_6, za_113, zl_114, zt_115, zc_116))  S_117 _ hw) (cwV 0 hts (lw_V q3681 q3682 q3683 q113 q3684) rfl rfl rfl hdT_thrown ⟨Nat.le_of_ble_eq_true rfl, Nat.le_of_ble_eq_true rfl⟩) (ga_preT hI T_121 rfl) rfl rfl hl.1 rfl (ga_room (Nat.le_of_ble_eq_true rfl)) dL_law_418 ⟨Nat.le_trans (Nat.add_le_add_left (Nat.zero_le _) _) hbc, Nat.le_trans (Nat.add_le_add_left (Nat.zero_le _) _) hbs⟩) hI T_121 hbc hbs (fun r_118 S_119 H locs cells slots hw hI hbc hbs => ?_)
            obtain ⟨h_120, eh_120⟩ : ∃ z, z = ga_tws (q_6, za_113, zl_114, zt_115, zc_116) h_111 S_119 := ⟨_, rfl⟩
            rw [← eh_120] at hI
            have hw := hw h_120 eh_120
            refine lv_iload hx hb dL_law_421 (lv_at hl 1 rfl) ?_
            refine lv_icmp_eq (tgt := 428) hx hb dL_law_423 (by decide) (fun hc_122 => ?_) (fun hc_122 => ?_)
            · have hw := hw.1 hc_122
              refine lv_iload hx hb dL_law_428 (lv_at hl 1 rfl) ?_
              refine lv_if_ne (tgt := 445) hx hb dL_law_430 (by decide) (fun hc_123 => ?_) (fun hc_123 => ?_)
              · have hw := hw.1 hc_123
                refine lv_goto (tgt := 2604) hx hb dL_law_445 (by decide) ?_
                refine lv_iinc (v := x5_15 + (6 : Int32)) (lv' := [(5, .int (x5_15 + (6 : Int32))), (7, .int r_109), (6, .int r_95), (0, .ref bb), (1, va_rf (some q_1)), (2, va_rf (some q_6)), (3, va_rf (some q_11)), (4, va_rf (some q_13))]) hx hb dL_law_2604 hl (k := 7) rfl rfl (by decide) rfl (fun ls hl => ?_)
                refine lv_goto (tgt := 28) hx hb dL_law_2607 (by decide) ?_
                exact ih_15 _ _ _ _ H locs cells slots ls (Nat.lt_of_lt_of_le hw.2 (Nat.le_of_lt_succ hn_15)) hw.1 hI hbc hbs (lv_sub hl [3, 4, 5, 6, 7, 0] rfl)
              · have hw := hw.2 hc_123
                refine ga_aload_n hx hb dL_law_433 rfl (lv_at hl 5 rfl) ?_
                refine lv_iconst (v := 0) hx hb dL_law_434 (by decide) ?_
                obtain ⟨n_124, f_125, hq, hi, hw⟩ := hw
                refine ga_ldl hx hb hI (ga_at.h hq) hi dL_law_435 ?_
                refine lv_iload hx hb dL_law_436 (lv_at hl 0 rfl) ?_
                refine lv_i2l (v := r_109.toInt64) hx hb dL_law_438 rfl ?_
                refine W.lcmp hx hb dL_law_439 ?_
                refine lv_if_eq (tgt := 445) hx hb dL_law_440 (by decide) (fun hc_126 => ?_) (fun hc_126 => ?_)
                · have hw := hw.1 hc_126
                  refine lv_goto (tgt := 2604) hx hb dL_law_445 (by decide) ?_
                  refine lv_iinc (v := x5_15 + (6 : Int32)) (lv' := [(5, .int (x5_15 + (6 : Int32))), (7, .int r_109), (6, .int r_95), (0, .ref bb), (1, va_rf (some q_1)), (2, va_rf (some q_6)), (3, va_rf (some q_11)), (4, va_rf (some q_13))]) hx hb dL_law_2604 hl (k := 7) rfl rfl (by decide) rfl (fun ls hl => ?_)
                  refine lv_goto (tgt := 28) hx hb dL_law_2607 (by decide) ?_
                  exact ih_15 _ _ _ _ H locs cells slots ls (Nat.lt_of_lt_of_le hw.2 (Nat.le_of_lt_succ hn_15)) hw.1 hI hbc hbs (lv_sub hl [3, 4, 5, 6, 7, 0] rfl)
                · have hw := hw.2 hc_126
                  refine lv_iconst (v := 0) hx hb dL_law_443 (by decide) ?_
                  exact hw.elim
            · have hw := hw.2 hc_122
              refine lv_iconst (v := 0) hx hb dL_law_426 (by decide) ?_
              exact hw.elim
        have hw := hw.2 hc_86
        by_cases hc_127 : w_17 &&& (63 : Int32) = (3 : Int32)
        · have hw := hw.1 hc_127
          refine lv_tableIn (tgt := 448) hx hb dL_law_45 (by rw [hc_127]; decide) (by rw [hc_127]; decide) (off := 403) (by rw [hc_127]; rfl) (by decide) ?_
          refine ga_aload_n hx hb dL_law_448 rfl (lv_at hl 1 rfl) ?_
          refine lv_aload_n hx hb dL_law_449 rfl (lv_at hl 0 rfl) ?_
          refine lv_iload hx hb dL_law_450 (lv_at hl 5 rfl) ?_
          refine lv_iconst (v := 1) hx hb dL_law_452 (by decide) ?_
          refine lv_iadd hx hb dL_law_453 ?_
          obtain ⟨hi, hw⟩ := hw
          refine va_sld hx hb hX hbl hbA hI.2.2 hi dL_law_454 ?_
          refine lv_topi (fun w_128 ew_128 => ?_)
          have hw := hw w_128 ew_128
          refine lv_aload_n hx hb dL_law_455 rfl (lv_at hl 0 rfl) ?_
          refine lv_iload hx hb dL_law_456 (lv_at hl 5 rfl) ?_
          refine lv_iconst (v := 2) hx hb dL_law_458 (by decide) ?_
          refine lv_iadd hx hb dL_law_459 ?_
          obtain ⟨hi, hw⟩ := hw
          refine va_sld hx hb hX hbl hbA hI.2.2 hi dL_law_460 ?_
          refine lv_topi (fun w_129 ew_129 => ?_)
          have hw := hw w_129 ew_129
          refine lv_if_eq (tgt := 468) hx hb dL_law_461 (by decide) (fun hc_130 => ?_) (fun hc_130 => ?_)
          · have hw := hw.1 hc_130
            refine lv_iconst (v := 0) hx hb dL_law_468 (by decide) ?_
            exact gj_L_law_469 g bb L xs hst hfin hX hbl hbA (fun (y0 : Int32) (T : ga_H) (B1 : Nat) (B2 : Nat) => In_15 y0 T B1 B2 ∧ mu_15 y0 T B1 B2 < mu_15 x5_15 h_15 bc_15 bs_15) (0 : Int32) w_128 (some q_1) (some q_1) (some q_6) (some q_11) (some q_13) x5_15 h_15 bc_15 bs_15 ⟨hx, hb, hml, hown, hts, hr, hlk, hnm⟩ hw (fun _y0 _y1 _y2 _y3 H locs cells slots ls hw hI hbc hbs hl => ih_15 _ _ _ _ H locs cells slots ls (Nat.lt_of_lt_of_le hw.2 (Nat.le_of_lt_succ hn_15)) hw.1 hI hbc hbs hl) hI hbc hbs (lv_sub hl [0, 1, 2, 3, 4, 5] rfl)
          · have hw := hw.2 hc_130
            refine lv_iconst (v := 1) hx hb dL_law_464 (by decide) ?_
            refine lv_goto (tgt := 469) hx hb dL_law_465 (by decide) ?_
            exact gj_L_law_469 g bb L xs hst hfin hX hbl hbA (fun (y0 : Int32) (T : ga_H) (B1 : Nat) (B2 : Nat) => In_15 y0 T B1 B2 ∧ mu_15 y0 T B1 B2 < mu_15 x5_15 h_15 bc_15 bs_15) (1 : Int32) w_128 (some q_1) (some q_1) (some q_6) (some q_11) (some q_13) x5_15 h_15 bc_15 bs_15 ⟨hx, hb, hml, hown, hts, hr, hlk, hnm⟩ hw (fun _y0 _y1 _y2 _y3 H locs cells slots ls hw hI hbc hbs hl => ih_15 _ _ _ _ H locs cells slots ls (Nat.lt_of_lt_of_le hw.2 (Nat.le_of_lt_succ hn_15)) hw.1 hI hbc hbs hl) hI hbc hbs (lv_sub hl [0, 1, 2, 3, 4, 5] rfl)
        have hw := hw.2 hc_127
        by_cases hc_167 : w_17 &&& (63 : Int32) = (4 : Int32)
        · have hw := hw.1 hc_167
          refine lv_tableIn (tgt := 532) hx hb dL_law_45 (by rw [hc_167]; decide) (by rw [hc_167]; decide) (off := 487) (by rw [hc_167]; rfl) (by decide) ?_
          refine ga_aload_n hx hb dL_law_532 rfl (lv_at hl 1 rfl) ?_
          refine lv_aload_n hx hb dL_law_533 rfl (lv_at hl 0 rfl) ?_
          refine lv_iload hx hb dL_law_534 (lv_at hl 5 rfl) ?_
          refine lv_iconst (v := 1) hx hb dL_law_536 (by decide) ?_
          refine lv_iadd hx hb dL_law_537 ?_
          obtain ⟨hi, hw⟩ := hw
          refine va_sld hx hb hX hbl hbA hI.2.2 hi dL_law_538 ?_
          refine lv_topi (fun w_168 ew_168 => ?_)
          have hw := hw w_168 ew_168
          refine lv_aload_n hx hb dL_law_539 rfl (lv_at hl 0 rfl) ?_
          refine lv_iload hx hb dL_law_540 (lv_at hl 5 rfl) ?_
          refine lv_iconst (v := 2) hx hb dL_law_542 (by decide) ?_
          refine lv_iadd hx hb dL_law_543 ?_
          obtain ⟨hi, hw⟩ := hw
          refine va_sld hx hb hX hbl hbA hI.2.2 hi dL_law_544 ?_
          refine lv_topi (fun w_169 ew_169 => ?_)
          have hw := hw w_169 ew_169
          refine ga_aload_n hx hb dL_law_545 rfl (lv_at hl 3 rfl) ?_
          obtain ⟨kc_170, ks_171, hk1, hk2, hw⟩ := hw
          refine ga_xcalli (vx_runSX (As := [va_rf (some q_1), .int w_168, .int w_169, va_rf (some q_11)]) (rest := []) ⟨hx, hb, hml, hown, hts⟩ (gm_X0_reamOf l hst g (some q_1) w_168 w_169 (some q_11) h_15 kc_170 ks_171 _ _ hw) (vx_cwSW 4 hts (lw_SW q2192 q2193 q99 q2194) rfl rfl rfl hdG_X0_reamOf ⟨Nat.le_of_ble_eq_true rfl, Nat.le_of_ble_eq_true rfl⟩) (ga_preS hI rfl) rfl rfl hl.1 rfl (ga_room (Nat.le_of_ble_eq_true rfl)) dL_law_546 ⟨Nat.le_trans (Nat.add_le_add_left hk1 _) hbc, Nat.le_trans (Nat.add_le_add_left hk2 _) hbs⟩) hI hbc hbs hk1 hk2 (fun E_174 q_175 h_176 ce H locs cells slots hw hI hce hbc hbs => ?_) (fun r_173 h_172 H locs cells slots hw hI hbc hbs => ?_)
          · exact hw.elim
          · skip
            refine lv_istore (lv' := [(6, .int r_173), (0, .ref bb), (1, va_rf (some q_1)), (2, va_rf (some q_6)), (3, va_rf (some q_11)), (4, va_rf (some q_13)), (5, .int x5_15)]) hx hb dL_law_549 hl (by decide) rfl (fun ls hl => ?_)
            refine ga_aload_n hx hb dL_law_551 rfl (lv_at hl 3 rfl) ?_
            refine lv_aload_n hx hb dL_law_552 rfl (lv_at hl 1 rfl) ?_
            refine lv_iload hx hb dL_law_553 (lv_at hl 6 rfl) ?_
            refine lv_iconst (v := 1) hx hb dL_law_555 (by decide) ?_
            refine lv_iadd hx hb dL_law_556 ?_
            obtain ⟨hi, hw⟩ := hw
            refine va_sld hx hb hX hbl hbA hI.2.2 hi dL_law_557 ?_
            refine lv_topi (fun w_177 ew_177 => ?_)
            have hw := hw w_177 ew_177
            refine lv_aload_n hx hb dL_law_558 rfl (lv_at hl 1 rfl) ?_
            refine lv_iload hx hb dL_law_559 (lv_at hl 6 rfl) ?_
            refine lv_iconst (v := 2) hx hb dL_law_561 (by decide) ?_
            refine lv_iadd hx hb dL_law_562 ?_
            obtain ⟨hi, hw⟩ := hw
            refine va_sld hx hb hX hbl hbA hI.2.2 hi dL_law_563 ?_
            refine lv_topi (fun w_178 ew_178 => ?_)
            have hw := hw w_178 ew_178
            obtain ⟨za_179, zl_180, zt_181, zc_182, S_183, T_187, hw⟩ := hw
            refine ga_callTi (z := (q_6, za_179, zl_180, zt_181, zc_182)) (va_runV (As := [.int w_177, .int w_178]) (rest := []) ⟨hx, hb, hml, hown, hts⟩ (zm_reamOf l (ga_gz g (q_6, za_179, zl_180, zt_181, zc_182)) w_177 w_178 S_183 _ hw) (cwV 2 hts (lw_V q3769 q3770 q3771 q113 q3772) rfl rfl rfl hdT_reamOf ⟨Nat.le_of_ble_eq_true rfl, Nat.le_of_ble_eq_true rfl⟩) (ga_preT hI T_187 rfl) rfl rfl hl.1 rfl (ga_room (Nat.le_of_ble_eq_true rfl)) dL_law_564 ⟨Nat.le_trans (Nat.add_le_add_left (Nat.zero_le _) _) hbc, Nat.le_trans (Nat.add_le_add_left (Nat.zero_le _) _) hbs⟩) hI T_187 hbc hbs (fun r_184 S_185 H locs cells slots hw hI hbc hbs => ?_)
            obtain ⟨h_186, eh_186⟩ : ∃ z, z = ga_tws (q_6, za_179, zl_180, zt_181, zc_182) h_172 S_185 := ⟨_, rfl⟩
            rw [← eh_186] at hI
            have hw := hw h_186 eh_186
            refine lv_istore (lv' := [(7, .int r_184), (6, .int r_173), (0, .ref bb), (1, va_rf (some q_1)), (2, va_rf (some q_6)), (3, va_rf (some q_11)), (4, va_rf (some q_13)), (5, .int x5_15)]) hx hb dL_law_567 hl (by decide) rfl (fun ls hl => ?_)
            refine ga_aload_n hx hb dL_law_569 rfl (lv_at hl 4 rfl) ?_
            obtain ⟨za_188, zl_189, zt_190, zc_191, S_192, T_196, hw⟩ := hw
            refine ga_callTi (z := (q_6, za_188, zl_189, zt_190, zc_191)) (va_runV (As := []) (rest := []) ⟨hx, hb, hml, hown, hts⟩ (zm_thrown l (ga_gz g (q_6, za_188, zl_189, zt_190, zc_191))  S_192 _ hw) (cwV 0 hts (lw_V q3681 q3682 q3683 q113 q3684) rfl rfl rfl hdT_thrown ⟨Nat.le_of_ble_eq_true rfl, Nat.le_of_ble_eq_true rfl⟩) (ga_preT hI T_196 rfl) rfl rfl hl.1 rfl (ga_room (Nat.le_of_ble_eq_true rfl)) dL_law_570 ⟨Nat.le_trans (Nat.add_le_add_left (Nat.zero_le _) _) hbc, Nat.le_trans (Nat.add_le_add_left (Nat.zero_le _) _) hbs⟩) hI T_196 hbc hbs (fun r_193 S_194 H locs cells slots hw hI hbc hbs => ?_)
            obtain ⟨h_195, eh_195⟩ : ∃ z, z = ga_tws (q_6, za_188, zl_189, zt_190, zc_191) h_186 S_194 := ⟨_, rfl⟩
            rw [← eh_195] at hI
            have hw := hw h_195 eh_195
            refine lv_iload hx hb dL_law_573 (lv_at hl 1 rfl) ?_
            refine lv_icmp_eq (tgt := 580) hx hb dL_law_575 (by decide) (fun hc_197 => ?_) (fun hc_197 => ?_)
            · have hw := hw.1 hc_197
              refine lv_iload hx hb dL_law_580 (lv_at hl 1 rfl) ?_
              refine lv_if_ne (tgt := 597) hx hb dL_law_582 (by decide) (fun hc_198 => ?_) (fun hc_198 => ?_)
              · have hw := hw.1 hc_198
                refine lv_goto (tgt := 2604) hx hb dL_law_597 (by decide) ?_
                refine lv_iinc (v := x5_15 + (6 : Int32)) (lv' := [(5, .int (x5_15 + (6 : Int32))), (7, .int r_184), (6, .int r_173), (0, .ref bb), (1, va_rf (some q_1)), (2, va_rf (some q_6)), (3, va_rf (some q_11)), (4, va_rf (some q_13))]) hx hb dL_law_2604 hl (k := 7) rfl rfl (by decide) rfl (fun ls hl => ?_)
                refine lv_goto (tgt := 28) hx hb dL_law_2607 (by decide) ?_
                exact ih_15 _ _ _ _ H locs cells slots ls (Nat.lt_of_lt_of_le hw.2 (Nat.le_of_lt_succ hn_15)) hw.1 hI hbc hbs (lv_sub hl [3, 4, 5, 6, 7, 0] rfl)
              · have hw := hw.2 hc_198
                refine ga_aload_n hx hb dL_law_585 rfl (lv_at hl 5 rfl) ?_
                refine lv_iconst (v := 0) hx hb dL_law_586 (by decide) ?_
                obtain ⟨n_199, f_200, hq, hi, hw⟩ := hw
                refine ga_ldl hx hb hI (ga_at.h hq) hi dL_law_587 ?_
                refine lv_iload hx hb dL_law_588 (lv_at hl 0 rfl) ?_
                refine lv_i2l (v := r_184.toInt64) hx hb dL_law_590 rfl ?_
                refine W.lcmp hx hb dL_law_591 ?_
                refine lv_if_eq (tgt := 597) hx hb dL_law_592 (by decide) (fun hc_201 => ?_) (fun hc_201 => ?_)
                · have hw := hw.1 hc_201
                  refine lv_goto (tgt := 2604) hx hb dL_law_597 (by decide) ?_
                  refine lv_iinc (v := x5_15 + (6 : Int32)) (lv' := [(5, .int (x5_15 + (6 : Int32))), (7, .int r_184), (6, .int r_173), (0, .ref bb), (1, va_rf (some q_1)), (2, va_rf (some q_6)), (3, va_rf (some q_11)), (4, va_rf (some q_13))]) hx hb dL_law_2604 hl (k := 7) rfl rfl (by decide) rfl (fun ls hl => ?_)
                  refine lv_goto (tgt := 28) hx hb dL_law_2607 (by decide) ?_
                  exact ih_15 _ _ _ _ H locs cells slots ls (Nat.lt_of_lt_of_le hw.2 (Nat.le_of_lt_succ hn_15)) hw.1 hI hbc hbs (lv_sub hl [3, 4, 5, 6, 7, 0] rfl)
                · have hw := hw.2 hc_201
                  refine lv_iconst (v := 0) hx hb dL_law_595 (by decide) ?_
                  exact hw.elim
            · have hw := hw.2 hc_197
              refine lv_iconst (v := 0) hx hb dL_law_578 (by decide) ?_
              exact hw.elim
        have hw := hw.2 hc_167
        by_cases hc_202 : w_17 &&& (63 : Int32) = (5 : Int32)
        · have hw := hw.1 hc_202
          refine lv_tableIn (tgt := 600) hx hb dL_law_45 (by rw [hc_202]; decide) (by rw [hc_202]; decide) (off := 555) (by rw [hc_202]; rfl) (by decide) ?_
          refine ga_aload_n hx hb dL_law_600 rfl (lv_at hl 1 rfl) ?_
          refine lv_aload_n hx hb dL_law_601 rfl (lv_at hl 0 rfl) ?_
          refine lv_iload hx hb dL_law_602 (lv_at hl 5 rfl) ?_
          refine lv_iconst (v := 1) hx hb dL_law_604 (by decide) ?_
          refine lv_iadd hx hb dL_law_605 ?_
          obtain ⟨hi, hw⟩ := hw
          refine va_sld hx hb hX hbl hbA hI.2.2 hi dL_law_606 ?_
          refine lv_topi (fun w_203 ew_203 => ?_)
          have hw := hw w_203 ew_203
          refine lv_aload_n hx hb dL_law_607 rfl (lv_at hl 0 rfl) ?_
          refine lv_iload hx hb dL_law_608 (lv_at hl 5 rfl) ?_
          refine lv_iconst (v := 2) hx hb dL_law_610 (by decide) ?_
          refine lv_iadd hx hb dL_law_611 ?_
          obtain ⟨hi, hw⟩ := hw
          refine va_sld hx hb hX hbl hbA hI.2.2 hi dL_law_612 ?_
          refine lv_topi (fun w_204 ew_204 => ?_)
          have hw := hw w_204 ew_204
          refine ga_aload_n hx hb dL_law_613 rfl (lv_at hl 3 rfl) ?_
          obtain ⟨kc_205, ks_206, hk1, hk2, hw⟩ := hw
          refine ga_xcalli (vx_runSX (As := [va_rf (some q_1), .int w_203, .int w_204, va_rf (some q_11)]) (rest := []) ⟨hx, hb, hml, hown, hts⟩ (gm_X0_top l hst g (some q_1) w_203 w_204 (some q_11) h_15 kc_205 ks_206 _ _ hw) (vx_cwSW 4 hts (lw_SW q2253 q2254 q99 q2255) rfl rfl rfl hdG_X0_top ⟨Nat.le_of_ble_eq_true rfl, Nat.le_of_ble_eq_true rfl⟩) (ga_preS hI rfl) rfl rfl hl.1 rfl (ga_room (Nat.le_of_ble_eq_true rfl)) dL_law_614 ⟨Nat.le_trans (Nat.add_le_add_left hk1 _) hbc, Nat.le_trans (Nat.add_le_add_left hk2 _) hbs⟩) hI hbc hbs hk1 hk2 (fun E_209 q_210 h_211 ce H locs cells slots hw hI hce hbc hbs => ?_) (fun r_208 h_207 H locs cells slots hw hI hbc hbs => ?_)
          · exact hw.elim
          · skip
            refine lv_istore (lv' := [(6, .int r_208), (0, .ref bb), (1, va_rf (some q_1)), (2, va_rf (some q_6)), (3, va_rf (some q_11)), (4, va_rf (some q_13)), (5, .int x5_15)]) hx hb dL_law_617 hl (by decide) rfl (fun ls hl => ?_)
            refine ga_aload_n hx hb dL_law_619 rfl (lv_at hl 3 rfl) ?_
            refine lv_aload_n hx hb dL_law_620 rfl (lv_at hl 1 rfl) ?_
            refine lv_iload hx hb dL_law_621 (lv_at hl 6 rfl) ?_
            refine lv_iconst (v := 1) hx hb dL_law_623 (by decide) ?_
            refine lv_iadd hx hb dL_law_624 ?_
            obtain ⟨hi, hw⟩ := hw
            refine va_sld hx hb hX hbl hbA hI.2.2 hi dL_law_625 ?_
            refine lv_topi (fun w_212 ew_212 => ?_)
            have hw := hw w_212 ew_212
            refine lv_aload_n hx hb dL_law_626 rfl (lv_at hl 1 rfl) ?_
            refine lv_iload hx hb dL_law_627 (lv_at hl 6 rfl) ?_
            refine lv_iconst (v := 2) hx hb dL_law_629 (by decide) ?_
            refine lv_iadd hx hb dL_law_630 ?_
            obtain ⟨hi, hw⟩ := hw
            refine va_sld hx hb hX hbl hbA hI.2.2 hi dL_law_631 ?_
            refine lv_topi (fun w_213 ew_213 => ?_)
            have hw := hw w_213 ew_213
            obtain ⟨za_214, zl_215, zt_216, zc_217, S_218, T_222, hw⟩ := hw
            refine ga_callTi (z := (q_6, za_214, zl_215, zt_216, zc_217)) (va_runV (As := [.int w_212, .int w_213]) (rest := []) ⟨hx, hb, hml, hown, hts⟩ (zm_top l (ga_gz g (q_6, za_214, zl_215, zt_216, zc_217)) w_212 w_213 S_218 _ hw) (cwV 2 hts (lw_V q3777 q3778 q3779 q113 q3780) rfl rfl rfl hdT_top ⟨Nat.le_of_ble_eq_true rfl, Nat.le_of_ble_eq_true rfl⟩) (ga_preT hI T_222 rfl) rfl rfl hl.1 rfl (ga_room (Nat.le_of_ble_eq_true rfl)) dL_law_632 ⟨Nat.le_trans (Nat.add_le_add_left (Nat.zero_le _) _) hbc, Nat.le_trans (Nat.add_le_add_left (Nat.zero_le _) _) hbs⟩) hI T_222 hbc hbs (fun r_219 S_220 H locs cells slots hw hI hbc hbs => ?_)
            obtain ⟨h_221, eh_221⟩ : ∃ z, z = ga_tws (q_6, za_214, zl_215, zt_216, zc_217) h_207 S_220 := ⟨_, rfl⟩
            rw [← eh_221] at hI
            have hw := hw h_221 eh_221
            refine lv_istore (lv' := [(7, .int r_219), (6, .int r_208), (0, .ref bb), (1, va_rf (some q_1)), (2, va_rf (some q_6)), (3, va_rf (some q_11)), (4, va_rf (some q_13)), (5, .int x5_15)]) hx hb dL_law_635 hl (by decide) rfl (fun ls hl => ?_)
            refine ga_aload_n hx hb dL_law_637 rfl (lv_at hl 4 rfl) ?_
            obtain ⟨za_223, zl_224, zt_225, zc_226, S_227, T_231, hw⟩ := hw
            refine ga_callTi (z := (q_6, za_223, zl_224, zt_225, zc_226)) (va_runV (As := []) (rest := []) ⟨hx, hb, hml, hown, hts⟩ (zm_thrown l (ga_gz g (q_6, za_223, zl_224, zt_225, zc_226))  S_227 _ hw) (cwV 0 hts (lw_V q3681 q3682 q3683 q113 q3684) rfl rfl rfl hdT_thrown ⟨Nat.le_of_ble_eq_true rfl, Nat.le_of_ble_eq_true rfl⟩) (ga_preT hI T_231 rfl) rfl rfl hl.1 rfl (ga_room (Nat.le_of_ble_eq_true rfl)) dL_law_638 ⟨Nat.le_trans (Nat.add_le_add_left (Nat.zero_le _) _) hbc, Nat.le_trans (Nat.add_le_add_left (Nat.zero_le _) _) hbs⟩) hI T_231 hbc hbs (fun r_228 S_229 H locs cells slots hw hI hbc hbs => ?_)
            obtain ⟨h_230, eh_230⟩ : ∃ z, z = ga_tws (q_6, za_223, zl_224, zt_225, zc_226) h_221 S_229 := ⟨_, rfl⟩
            rw [← eh_230] at hI
            have hw := hw h_230 eh_230
            refine lv_iload hx hb dL_law_641 (lv_at hl 1 rfl) ?_
            refine lv_icmp_eq (tgt := 648) hx hb dL_law_643 (by decide) (fun hc_232 => ?_) (fun hc_232 => ?_)
            · have hw := hw.1 hc_232
              refine lv_iload hx hb dL_law_648 (lv_at hl 1 rfl) ?_
              refine lv_if_ne (tgt := 665) hx hb dL_law_650 (by decide) (fun hc_233 => ?_) (fun hc_233 => ?_)
              · have hw := hw.1 hc_233
                refine lv_goto (tgt := 2604) hx hb dL_law_665 (by decide) ?_
                refine lv_iinc (v := x5_15 + (6 : Int32)) (lv' := [(5, .int (x5_15 + (6 : Int32))), (7, .int r_219), (6, .int r_208), (0, .ref bb), (1, va_rf (some q_1)), (2, va_rf (some q_6)), (3, va_rf (some q_11)), (4, va_rf (some q_13))]) hx hb dL_law_2604 hl (k := 7) rfl rfl (by decide) rfl (fun ls hl => ?_)
                refine lv_goto (tgt := 28) hx hb dL_law_2607 (by decide) ?_
                exact ih_15 _ _ _ _ H locs cells slots ls (Nat.lt_of_lt_of_le hw.2 (Nat.le_of_lt_succ hn_15)) hw.1 hI hbc hbs (lv_sub hl [3, 4, 5, 6, 7, 0] rfl)
              · have hw := hw.2 hc_233
                refine ga_aload_n hx hb dL_law_653 rfl (lv_at hl 5 rfl) ?_
                refine lv_iconst (v := 0) hx hb dL_law_654 (by decide) ?_
                obtain ⟨n_234, f_235, hq, hi, hw⟩ := hw
                refine ga_ldl hx hb hI (ga_at.h hq) hi dL_law_655 ?_
                refine lv_iload hx hb dL_law_656 (lv_at hl 0 rfl) ?_
                refine lv_i2l (v := r_219.toInt64) hx hb dL_law_658 rfl ?_
                refine W.lcmp hx hb dL_law_659 ?_
                refine lv_if_eq (tgt := 665) hx hb dL_law_660 (by decide) (fun hc_236 => ?_) (fun hc_236 => ?_)
                · have hw := hw.1 hc_236
                  refine lv_goto (tgt := 2604) hx hb dL_law_665 (by decide) ?_
                  refine lv_iinc (v := x5_15 + (6 : Int32)) (lv' := [(5, .int (x5_15 + (6 : Int32))), (7, .int r_219), (6, .int r_208), (0, .ref bb), (1, va_rf (some q_1)), (2, va_rf (some q_6)), (3, va_rf (some q_11)), (4, va_rf (some q_13))]) hx hb dL_law_2604 hl (k := 7) rfl rfl (by decide) rfl (fun ls hl => ?_)
                  refine lv_goto (tgt := 28) hx hb dL_law_2607 (by decide) ?_
                  exact ih_15 _ _ _ _ H locs cells slots ls (Nat.lt_of_lt_of_le hw.2 (Nat.le_of_lt_succ hn_15)) hw.1 hI hbc hbs (lv_sub hl [3, 4, 5, 6, 7, 0] rfl)
                · have hw := hw.2 hc_236
                  refine lv_iconst (v := 0) hx hb dL_law_663 (by decide) ?_
                  exact hw.elim
            · have hw := hw.2 hc_232
              refine lv_iconst (v := 0) hx hb dL_law_646 (by decide) ?_
              exact hw.elim
        have hw := hw.2 hc_202
        by_cases hc_237 : w_17 &&& (63 : Int32) = (6 : Int32)
        · have hw := hw.1 hc_237
          refine lv_tableIn (tgt := 668) hx hb dL_law_45 (by rw [hc_237]; decide) (by rw [hc_237]; decide) (off := 623) (by rw [hc_237]; rfl) (by decide) ?_
          refine ga_aload_n hx hb dL_law_668 rfl (lv_at hl 1 rfl) ?_
          refine lv_aload_n hx hb dL_law_669 rfl (lv_at hl 0 rfl) ?_
          refine lv_iload hx hb dL_law_670 (lv_at hl 5 rfl) ?_
          refine lv_iconst (v := 1) hx hb dL_law_672 (by decide) ?_
          refine lv_iadd hx hb dL_law_673 ?_
          obtain ⟨hi, hw⟩ := hw
          refine va_sld hx hb hX hbl hbA hI.2.2 hi dL_law_674 ?_
          refine lv_topi (fun w_238 ew_238 => ?_)
          have hw := hw w_238 ew_238
          refine ga_aload_n hx hb dL_law_675 rfl (lv_at hl 3 rfl) ?_
          obtain ⟨kc_239, ks_240, hk1, hk2, hw⟩ := hw
          refine ga_xcalli (vx_runSX (As := [va_rf (some q_1), .int w_238, va_rf (some q_11)]) (rest := []) ⟨hx, hb, hml, hown, hts⟩ (gm_X0_wavyIn l hst g (some q_1) w_238 (some q_11) h_15 kc_239 ks_240 _ _ hw) (vx_cwSW 3 hts (lw_SW q2276 q2277 q99 q2278) rfl rfl rfl hdG_X0_wavyIn ⟨Nat.le_of_ble_eq_true rfl, Nat.le_of_ble_eq_true rfl⟩) (ga_preS hI rfl) rfl rfl hl.1 rfl (ga_room (Nat.le_of_ble_eq_true rfl)) dL_law_676 ⟨Nat.le_trans (Nat.add_le_add_left hk1 _) hbc, Nat.le_trans (Nat.add_le_add_left hk2 _) hbs⟩) hI hbc hbs hk1 hk2 (fun E_243 q_244 h_245 ce H locs cells slots hw hI hce hbc hbs => ?_) (fun r_242 h_241 H locs cells slots hw hI hbc hbs => ?_)
          · exact hw.elim
          · skip
            refine lv_istore (lv' := [(6, .int r_242), (0, .ref bb), (1, va_rf (some q_1)), (2, va_rf (some q_6)), (3, va_rf (some q_11)), (4, va_rf (some q_13)), (5, .int x5_15)]) hx hb dL_law_679 hl (by decide) rfl (fun ls hl => ?_)
            refine ga_aload_n hx hb dL_law_681 rfl (lv_at hl 3 rfl) ?_
            refine lv_aload_n hx hb dL_law_682 rfl (lv_at hl 1 rfl) ?_
            refine lv_iload hx hb dL_law_683 (lv_at hl 6 rfl) ?_
            refine lv_iconst (v := 1) hx hb dL_law_685 (by decide) ?_
            refine lv_iadd hx hb dL_law_686 ?_
            obtain ⟨hi, hw⟩ := hw
            refine va_sld hx hb hX hbl hbA hI.2.2 hi dL_law_687 ?_
            refine lv_topi (fun w_246 ew_246 => ?_)
            have hw := hw w_246 ew_246
            obtain ⟨za_247, zl_248, zt_249, zc_250, S_251, T_255, hw⟩ := hw
            refine ga_callTi (z := (q_6, za_247, zl_248, zt_249, zc_250)) (va_runV (As := [.int w_246]) (rest := []) ⟨hx, hb, hml, hown, hts⟩ (zm_wavyIn l (ga_gz g (q_6, za_247, zl_248, zt_249, zc_250)) w_246 S_251 _ hw) (cwV 1 hts (lw_V q3789 q3790 q3791 q113 q3792) rfl rfl rfl hdT_wavyIn ⟨Nat.le_of_ble_eq_true rfl, Nat.le_of_ble_eq_true rfl⟩) (ga_preT hI T_255 rfl) rfl rfl hl.1 rfl (ga_room (Nat.le_of_ble_eq_true rfl)) dL_law_688 ⟨Nat.le_trans (Nat.add_le_add_left (Nat.zero_le _) _) hbc, Nat.le_trans (Nat.add_le_add_left (Nat.zero_le _) _) hbs⟩) hI T_255 hbc hbs (fun r_252 S_253 H locs cells slots hw hI hbc hbs => ?_)
            obtain ⟨h_254, eh_254⟩ : ∃ z, z = ga_tws (q_6, za_247, zl_248, zt_249, zc_250) h_241 S_253 := ⟨_, rfl⟩
            rw [← eh_254] at hI
            have hw := hw h_254 eh_254
            refine lv_istore (lv' := [(7, .int r_252), (6, .int r_242), (0, .ref bb), (1, va_rf (some q_1)), (2, va_rf (some q_6)), (3, va_rf (some q_11)), (4, va_rf (some q_13)), (5, .int x5_15)]) hx hb dL_law_691 hl (by decide) rfl (fun ls hl => ?_)
            refine ga_aload_n hx hb dL_law_693 rfl (lv_at hl 4 rfl) ?_
            obtain ⟨za_256, zl_257, zt_258, zc_259, S_260, T_264, hw⟩ := hw
            refine ga_callTi (z := (q_6, za_256, zl_257, zt_258, zc_259)) (va_runV (As := []) (rest := []) ⟨hx, hb, hml, hown, hts⟩ (zm_thrown l (ga_gz g (q_6, za_256, zl_257, zt_258, zc_259))  S_260 _ hw) (cwV 0 hts (lw_V q3681 q3682 q3683 q113 q3684) rfl rfl rfl hdT_thrown ⟨Nat.le_of_ble_eq_true rfl, Nat.le_of_ble_eq_true rfl⟩) (ga_preT hI T_264 rfl) rfl rfl hl.1 rfl (ga_room (Nat.le_of_ble_eq_true rfl)) dL_law_694 ⟨Nat.le_trans (Nat.add_le_add_left (Nat.zero_le _) _) hbc, Nat.le_trans (Nat.add_le_add_left (Nat.zero_le _) _) hbs⟩) hI T_264 hbc hbs (fun r_261 S_262 H locs cells slots hw hI hbc hbs => ?_)
            obtain ⟨h_263, eh_263⟩ : ∃ z, z = ga_tws (q_6, za_256, zl_257, zt_258, zc_259) h_254 S_262 := ⟨_, rfl⟩
            rw [← eh_263] at hI
            have hw := hw h_263 eh_263
            refine lv_iload hx hb dL_law_697 (lv_at hl 1 rfl) ?_
            refine lv_icmp_eq (tgt := 704) hx hb dL_law_699 (by decide) (fun hc_265 => ?_) (fun hc_265 => ?_)
            · have hw := hw.1 hc_265
              refine lv_iload hx hb dL_law_704 (lv_at hl 1 rfl) ?_
              refine lv_if_ne (tgt := 721) hx hb dL_law_706 (by decide) (fun hc_266 => ?_) (fun hc_266 => ?_)
              · have hw := hw.1 hc_266
                refine lv_goto (tgt := 2604) hx hb dL_law_721 (by decide) ?_
                refine lv_iinc (v := x5_15 + (6 : Int32)) (lv' := [(5, .int (x5_15 + (6 : Int32))), (7, .int r_252), (6, .int r_242), (0, .ref bb), (1, va_rf (some q_1)), (2, va_rf (some q_6)), (3, va_rf (some q_11)), (4, va_rf (some q_13))]) hx hb dL_law_2604 hl (k := 7) rfl rfl (by decide) rfl (fun ls hl => ?_)
                refine lv_goto (tgt := 28) hx hb dL_law_2607 (by decide) ?_
                exact ih_15 _ _ _ _ H locs cells slots ls (Nat.lt_of_lt_of_le hw.2 (Nat.le_of_lt_succ hn_15)) hw.1 hI hbc hbs (lv_sub hl [3, 4, 5, 6, 7, 0] rfl)
              · have hw := hw.2 hc_266
                refine ga_aload_n hx hb dL_law_709 rfl (lv_at hl 5 rfl) ?_
                refine lv_iconst (v := 0) hx hb dL_law_710 (by decide) ?_
                obtain ⟨n_267, f_268, hq, hi, hw⟩ := hw
                refine ga_ldl hx hb hI (ga_at.h hq) hi dL_law_711 ?_
                refine lv_iload hx hb dL_law_712 (lv_at hl 0 rfl) ?_
                refine lv_i2l (v := r_252.toInt64) hx hb dL_law_714 rfl ?_
                refine W.lcmp hx hb dL_law_715 ?_
                refine lv_if_eq (tgt := 721) hx hb dL_law_716 (by decide) (fun hc_269 => ?_) (fun hc_269 => ?_)
                · have hw := hw.1 hc_269
                  refine lv_goto (tgt := 2604) hx hb dL_law_721 (by decide) ?_
                  refine lv_iinc (v := x5_15 + (6 : Int32)) (lv' := [(5, .int (x5_15 + (6 : Int32))), (7, .int r_252), (6, .int r_242), (0, .ref bb), (1, va_rf (some q_1)), (2, va_rf (some q_6)), (3, va_rf (some q_11)), (4, va_rf (some q_13))]) hx hb dL_law_2604 hl (k := 7) rfl rfl (by decide) rfl (fun ls hl => ?_)
                  refine lv_goto (tgt := 28) hx hb dL_law_2607 (by decide) ?_
                  exact ih_15 _ _ _ _ H locs cells slots ls (Nat.lt_of_lt_of_le hw.2 (Nat.le_of_lt_succ hn_15)) hw.1 hI hbc hbs (lv_sub hl [3, 4, 5, 6, 7, 0] rfl)
                · have hw := hw.2 hc_269
                  refine lv_iconst (v := 0) hx hb dL_law_719 (by decide) ?_
                  exact hw.elim
            · have hw := hw.2 hc_265
              refine lv_iconst (v := 0) hx hb dL_law_702 (by decide) ?_
              exact hw.elim
        have hw := hw.2 hc_237
        by_cases hc_270 : w_17 &&& (63 : Int32) = (7 : Int32)
        · have hw := hw.1 hc_270
          refine lv_tableIn (tgt := 724) hx hb dL_law_45 (by rw [hc_270]; decide) (by rw [hc_270]; decide) (off := 679) (by rw [hc_270]; rfl) (by decide) ?_
          refine ga_aload_n hx hb dL_law_724 rfl (lv_at hl 1 rfl) ?_
          refine lv_aload_n hx hb dL_law_725 rfl (lv_at hl 0 rfl) ?_
          refine lv_iload hx hb dL_law_726 (lv_at hl 5 rfl) ?_
          refine lv_iconst (v := 1) hx hb dL_law_728 (by decide) ?_
          refine lv_iadd hx hb dL_law_729 ?_
          obtain ⟨hi, hw⟩ := hw
          refine va_sld hx hb hX hbl hbA hI.2.2 hi dL_law_730 ?_
          refine lv_topi (fun w_271 ew_271 => ?_)
          have hw := hw w_271 ew_271
          refine lv_aload_n hx hb dL_law_731 rfl (lv_at hl 0 rfl) ?_
          refine lv_iload hx hb dL_law_732 (lv_at hl 5 rfl) ?_
          refine lv_iconst (v := 2) hx hb dL_law_734 (by decide) ?_
          refine lv_iadd hx hb dL_law_735 ?_
          obtain ⟨hi, hw⟩ := hw
          refine va_sld hx hb hX hbl hbA hI.2.2 hi dL_law_736 ?_
          refine lv_topi (fun w_272 ew_272 => ?_)
          have hw := hw w_272 ew_272
          refine ga_aload_n hx hb dL_law_737 rfl (lv_at hl 3 rfl) ?_
          obtain ⟨kc_273, ks_274, hk1, hk2, hw⟩ := hw
          refine ga_xcalli (vx_runSX (As := [va_rf (some q_1), .int w_271, .int w_272, va_rf (some q_11)]) (rest := []) ⟨hx, hb, hml, hown, hts⟩ (gm_X0_air l hst g (some q_1) w_271 w_272 (some q_11) h_15 kc_273 ks_274 _ _ hw) (vx_cwSW 4 hts (lw_SW q2292 q2293 q99 q2294) rfl rfl rfl hdG_X0_air ⟨Nat.le_of_ble_eq_true rfl, Nat.le_of_ble_eq_true rfl⟩) (ga_preS hI rfl) rfl rfl hl.1 rfl (ga_room (Nat.le_of_ble_eq_true rfl)) dL_law_738 ⟨Nat.le_trans (Nat.add_le_add_left hk1 _) hbc, Nat.le_trans (Nat.add_le_add_left hk2 _) hbs⟩) hI hbc hbs hk1 hk2 (fun E_277 q_278 h_279 ce H locs cells slots hw hI hce hbc hbs => ?_) (fun r_276 h_275 H locs cells slots hw hI hbc hbs => ?_)
          · exact hw.elim
          · skip
            refine lv_istore (lv' := [(6, .int r_276), (0, .ref bb), (1, va_rf (some q_1)), (2, va_rf (some q_6)), (3, va_rf (some q_11)), (4, va_rf (some q_13)), (5, .int x5_15)]) hx hb dL_law_741 hl (by decide) rfl (fun ls hl => ?_)
            refine ga_aload_n hx hb dL_law_743 rfl (lv_at hl 3 rfl) ?_
            refine lv_aload_n hx hb dL_law_744 rfl (lv_at hl 1 rfl) ?_
            refine lv_iload hx hb dL_law_745 (lv_at hl 6 rfl) ?_
            refine lv_iconst (v := 1) hx hb dL_law_747 (by decide) ?_
            refine lv_iadd hx hb dL_law_748 ?_
            obtain ⟨hi, hw⟩ := hw
            refine va_sld hx hb hX hbl hbA hI.2.2 hi dL_law_749 ?_
            refine lv_topi (fun w_280 ew_280 => ?_)
            have hw := hw w_280 ew_280
            refine lv_aload_n hx hb dL_law_750 rfl (lv_at hl 1 rfl) ?_
            refine lv_iload hx hb dL_law_751 (lv_at hl 6 rfl) ?_
            refine lv_iconst (v := 2) hx hb dL_law_753 (by decide) ?_
            refine lv_iadd hx hb dL_law_754 ?_
            obtain ⟨hi, hw⟩ := hw
            refine va_sld hx hb hX hbl hbA hI.2.2 hi dL_law_755 ?_
            refine lv_topi (fun w_281 ew_281 => ?_)
            have hw := hw w_281 ew_281
            obtain ⟨za_282, zl_283, zt_284, zc_285, S_286, T_290, hw⟩ := hw
            refine ga_callTi (z := (q_6, za_282, zl_283, zt_284, zc_285)) (va_runV (As := [.int w_280, .int w_281]) (rest := []) ⟨hx, hb, hml, hown, hts⟩ (zm_air l (ga_gz g (q_6, za_282, zl_283, zt_284, zc_285)) w_280 w_281 S_286 _ hw) (cwV 2 hts (lw_V q3804 q3805 q3806 q113 q3807) rfl rfl rfl hdT_air ⟨Nat.le_of_ble_eq_true rfl, Nat.le_of_ble_eq_true rfl⟩) (ga_preT hI T_290 rfl) rfl rfl hl.1 rfl (ga_room (Nat.le_of_ble_eq_true rfl)) dL_law_756 ⟨Nat.le_trans (Nat.add_le_add_left (Nat.zero_le _) _) hbc, Nat.le_trans (Nat.add_le_add_left (Nat.zero_le _) _) hbs⟩) hI T_290 hbc hbs (fun r_287 S_288 H locs cells slots hw hI hbc hbs => ?_)
            obtain ⟨h_289, eh_289⟩ : ∃ z, z = ga_tws (q_6, za_282, zl_283, zt_284, zc_285) h_275 S_288 := ⟨_, rfl⟩
            rw [← eh_289] at hI
            have hw := hw h_289 eh_289
            refine lv_istore (lv' := [(7, .int r_287), (6, .int r_276), (0, .ref bb), (1, va_rf (some q_1)), (2, va_rf (some q_6)), (3, va_rf (some q_11)), (4, va_rf (some q_13)), (5, .int x5_15)]) hx hb dL_law_759 hl (by decide) rfl (fun ls hl => ?_)
            refine ga_aload_n hx hb dL_law_761 rfl (lv_at hl 4 rfl) ?_
            obtain ⟨za_291, zl_292, zt_293, zc_294, S_295, T_299, hw⟩ := hw
            refine ga_callTi (z := (q_6, za_291, zl_292, zt_293, zc_294)) (va_runV (As := []) (rest := []) ⟨hx, hb, hml, hown, hts⟩ (zm_thrown l (ga_gz g (q_6, za_291, zl_292, zt_293, zc_294))  S_295 _ hw) (cwV 0 hts (lw_V q3681 q3682 q3683 q113 q3684) rfl rfl rfl hdT_thrown ⟨Nat.le_of_ble_eq_true rfl, Nat.le_of_ble_eq_true rfl⟩) (ga_preT hI T_299 rfl) rfl rfl hl.1 rfl (ga_room (Nat.le_of_ble_eq_true rfl)) dL_law_762 ⟨Nat.le_trans (Nat.add_le_add_left (Nat.zero_le _) _) hbc, Nat.le_trans (Nat.add_le_add_left (Nat.zero_le _) _) hbs⟩) hI T_299 hbc hbs (fun r_296 S_297 H locs cells slots hw hI hbc hbs => ?_)
            obtain ⟨h_298, eh_298⟩ : ∃ z, z = ga_tws (q_6, za_291, zl_292, zt_293, zc_294) h_289 S_297 := ⟨_, rfl⟩
            rw [← eh_298] at hI
            have hw := hw h_298 eh_298
            refine lv_iload hx hb dL_law_765 (lv_at hl 1 rfl) ?_
            refine lv_icmp_eq (tgt := 772) hx hb dL_law_767 (by decide) (fun hc_300 => ?_) (fun hc_300 => ?_)
            · have hw := hw.1 hc_300
              refine lv_iload hx hb dL_law_772 (lv_at hl 1 rfl) ?_
              refine lv_if_ne (tgt := 789) hx hb dL_law_774 (by decide) (fun hc_301 => ?_) (fun hc_301 => ?_)
              · have hw := hw.1 hc_301
                refine lv_goto (tgt := 2604) hx hb dL_law_789 (by decide) ?_
                refine lv_iinc (v := x5_15 + (6 : Int32)) (lv' := [(5, .int (x5_15 + (6 : Int32))), (7, .int r_287), (6, .int r_276), (0, .ref bb), (1, va_rf (some q_1)), (2, va_rf (some q_6)), (3, va_rf (some q_11)), (4, va_rf (some q_13))]) hx hb dL_law_2604 hl (k := 7) rfl rfl (by decide) rfl (fun ls hl => ?_)
                refine lv_goto (tgt := 28) hx hb dL_law_2607 (by decide) ?_
                exact ih_15 _ _ _ _ H locs cells slots ls (Nat.lt_of_lt_of_le hw.2 (Nat.le_of_lt_succ hn_15)) hw.1 hI hbc hbs (lv_sub hl [3, 4, 5, 6, 7, 0] rfl)
              · have hw := hw.2 hc_301
                refine ga_aload_n hx hb dL_law_777 rfl (lv_at hl 5 rfl) ?_
                refine lv_iconst (v := 0) hx hb dL_law_778 (by decide) ?_
                obtain ⟨n_302, f_303, hq, hi, hw⟩ := hw
                refine ga_ldl hx hb hI (ga_at.h hq) hi dL_law_779 ?_
                refine lv_iload hx hb dL_law_780 (lv_at hl 0 rfl) ?_
                refine lv_i2l (v := r_287.toInt64) hx hb dL_law_782 rfl ?_
                refine W.lcmp hx hb dL_law_783 ?_
                refine lv_if_eq (tgt := 789) hx hb dL_law_784 (by decide) (fun hc_304 => ?_) (fun hc_304 => ?_)
                · have hw := hw.1 hc_304
                  refine lv_goto (tgt := 2604) hx hb dL_law_789 (by decide) ?_
                  refine lv_iinc (v := x5_15 + (6 : Int32)) (lv' := [(5, .int (x5_15 + (6 : Int32))), (7, .int r_287), (6, .int r_276), (0, .ref bb), (1, va_rf (some q_1)), (2, va_rf (some q_6)), (3, va_rf (some q_11)), (4, va_rf (some q_13))]) hx hb dL_law_2604 hl (k := 7) rfl rfl (by decide) rfl (fun ls hl => ?_)
                  refine lv_goto (tgt := 28) hx hb dL_law_2607 (by decide) ?_
                  exact ih_15 _ _ _ _ H locs cells slots ls (Nat.lt_of_lt_of_le hw.2 (Nat.le_of_lt_succ hn_15)) hw.1 hI hbc hbs (lv_sub hl [3, 4, 5, 6, 7, 0] rfl)
                · have hw := hw.2 hc_304
                  refine lv_iconst (v := 0) hx hb dL_law_787 (by decide) ?_
                  exact hw.elim
            · have hw := hw.2 hc_300
              refine lv_iconst (v := 0) hx hb dL_law_770 (by decide) ?_
              exact hw.elim
        have hw := hw.2 hc_270
        by_cases hc_305 : w_17 &&& (63 : Int32) = (8 : Int32)
        · have hw := hw.1 hc_305
          refine lv_tableIn (tgt := 792) hx hb dL_law_45 (by rw [hc_305]; decide) (by rw [hc_305]; decide) (off := 747) (by rw [hc_305]; rfl) (by decide) ?_
          refine ga_aload_n hx hb dL_law_792 rfl (lv_at hl 1 rfl) ?_
          refine lv_aload_n hx hb dL_law_793 rfl (lv_at hl 0 rfl) ?_
          refine lv_iload hx hb dL_law_794 (lv_at hl 5 rfl) ?_
          refine lv_iconst (v := 1) hx hb dL_law_796 (by decide) ?_
          refine lv_iadd hx hb dL_law_797 ?_
          obtain ⟨hi, hw⟩ := hw
          refine va_sld hx hb hX hbl hbA hI.2.2 hi dL_law_798 ?_
          refine lv_topi (fun w_306 ew_306 => ?_)
          have hw := hw w_306 ew_306
          refine lv_aload_n hx hb dL_law_799 rfl (lv_at hl 0 rfl) ?_
          refine lv_iload hx hb dL_law_800 (lv_at hl 5 rfl) ?_
          refine lv_iconst (v := 2) hx hb dL_law_802 (by decide) ?_
          refine lv_iadd hx hb dL_law_803 ?_
          obtain ⟨hi, hw⟩ := hw
          refine va_sld hx hb hX hbl hbA hI.2.2 hi dL_law_804 ?_
          refine lv_topi (fun w_307 ew_307 => ?_)
          have hw := hw w_307 ew_307
          refine ga_aload_n hx hb dL_law_805 rfl (lv_at hl 3 rfl) ?_
          obtain ⟨kc_308, ks_309, hk1, hk2, hw⟩ := hw
          refine ga_xcalli (vx_runSX (As := [va_rf (some q_1), .int w_306, .int w_307, va_rf (some q_11)]) (rest := []) ⟨hx, hb, hml, hown, hts⟩ (gm_X0_mice l hst g (some q_1) w_306 w_307 (some q_11) h_15 kc_308 ks_309 _ _ hw) (vx_cwSW 4 hts (lw_SW q2303 q2304 q99 q2305) rfl rfl rfl hdG_X0_mice ⟨Nat.le_of_ble_eq_true rfl, Nat.le_of_ble_eq_true rfl⟩) (ga_preS hI rfl) rfl rfl hl.1 rfl (ga_room (Nat.le_of_ble_eq_true rfl)) dL_law_806 ⟨Nat.le_trans (Nat.add_le_add_left hk1 _) hbc, Nat.le_trans (Nat.add_le_add_left hk2 _) hbs⟩) hI hbc hbs hk1 hk2 (fun E_312 q_313 h_314 ce H locs cells slots hw hI hce hbc hbs => ?_) (fun r_311 h_310 H locs cells slots hw hI hbc hbs => ?_)
          · exact hw.elim
          · skip
            refine lv_istore (lv' := [(6, .int r_311), (0, .ref bb), (1, va_rf (some q_1)), (2, va_rf (some q_6)), (3, va_rf (some q_11)), (4, va_rf (some q_13)), (5, .int x5_15)]) hx hb dL_law_809 hl (by decide) rfl (fun ls hl => ?_)
            refine ga_aload_n hx hb dL_law_811 rfl (lv_at hl 3 rfl) ?_
            refine lv_aload_n hx hb dL_law_812 rfl (lv_at hl 1 rfl) ?_
            refine lv_iload hx hb dL_law_813 (lv_at hl 6 rfl) ?_
            refine lv_iconst (v := 1) hx hb dL_law_815 (by decide) ?_
            refine lv_iadd hx hb dL_law_816 ?_
            obtain ⟨hi, hw⟩ := hw
            refine va_sld hx hb hX hbl hbA hI.2.2 hi dL_law_817 ?_
            refine lv_topi (fun w_315 ew_315 => ?_)
            have hw := hw w_315 ew_315
            refine lv_aload_n hx hb dL_law_818 rfl (lv_at hl 1 rfl) ?_
            refine lv_iload hx hb dL_law_819 (lv_at hl 6 rfl) ?_
            refine lv_iconst (v := 2) hx hb dL_law_821 (by decide) ?_
            refine lv_iadd hx hb dL_law_822 ?_
            obtain ⟨hi, hw⟩ := hw
            refine va_sld hx hb hX hbl hbA hI.2.2 hi dL_law_823 ?_
            refine lv_topi (fun w_316 ew_316 => ?_)
            have hw := hw w_316 ew_316
            obtain ⟨za_317, zl_318, zt_319, zc_320, S_321, T_325, hw⟩ := hw
            refine ga_callTi (z := (q_6, za_317, zl_318, zt_319, zc_320)) (va_runV (As := [.int w_315, .int w_316]) (rest := []) ⟨hx, hb, hml, hown, hts⟩ (zm_mice l (ga_gz g (q_6, za_317, zl_318, zt_319, zc_320)) w_315 w_316 S_321 _ hw) (cwV 2 hts (lw_V q3820 q3821 q3822 q113 q3823) rfl rfl rfl hdT_mice ⟨Nat.le_of_ble_eq_true rfl, Nat.le_of_ble_eq_true rfl⟩) (ga_preT hI T_325 rfl) rfl rfl hl.1 rfl (ga_room (Nat.le_of_ble_eq_true rfl)) dL_law_824 ⟨Nat.le_trans (Nat.add_le_add_left (Nat.zero_le _) _) hbc, Nat.le_trans (Nat.add_le_add_left (Nat.zero_le _) _) hbs⟩) hI T_325 hbc hbs (fun r_322 S_323 H locs cells slots hw hI hbc hbs => ?_)
            obtain ⟨h_324, eh_324⟩ : ∃ z, z = ga_tws (q_6, za_317, zl_318, zt_319, zc_320) h_310 S_323 := ⟨_, rfl⟩
            rw [← eh_324] at hI
            have hw := hw h_324 eh_324
            refine lv_istore (lv' := [(7, .int r_322), (6, .int r_311), (0, .ref bb), (1, va_rf (some q_1)), (2, va_rf (some q_6)), (3, va_rf (some q_11)), (4, va_rf (some q_13)), (5, .int x5_15)]) hx hb dL_law_827 hl (by decide) rfl (fun ls hl => ?_)
            refine ga_aload_n hx hb dL_law_829 rfl (lv_at hl 4 rfl) ?_
            obtain ⟨za_326, zl_327, zt_328, zc_329, S_330, T_334, hw⟩ := hw
            refine ga_callTi (z := (q_6, za_326, zl_327, zt_328, zc_329)) (va_runV (As := []) (rest := []) ⟨hx, hb, hml, hown, hts⟩ (zm_thrown l (ga_gz g (q_6, za_326, zl_327, zt_328, zc_329))  S_330 _ hw) (cwV 0 hts (lw_V q3681 q3682 q3683 q113 q3684) rfl rfl rfl hdT_thrown ⟨Nat.le_of_ble_eq_true rfl, Nat.le_of_ble_eq_true rfl⟩) (ga_preT hI T_334 rfl) rfl rfl hl.1 rfl (ga_room (Nat.le_of_ble_eq_true rfl)) dL_law_830 ⟨Nat.le_trans (Nat.add_le_add_left (Nat.zero_le _) _) hbc, Nat.le_trans (Nat.add_le_add_left (Nat.zero_le _) _) hbs⟩) hI T_334 hbc hbs (fun r_331 S_332 H locs cells slots hw hI hbc hbs => ?_)
            obtain ⟨h_333, eh_333⟩ : ∃ z, z = ga_tws (q_6, za_326, zl_327, zt_328, zc_329) h_324 S_332 := ⟨_, rfl⟩
            rw [← eh_333] at hI
            have hw := hw h_333 eh_333
            refine lv_iload hx hb dL_law_833 (lv_at hl 1 rfl) ?_
            refine lv_icmp_eq (tgt := 840) hx hb dL_law_835 (by decide) (fun hc_335 => ?_) (fun hc_335 => ?_)
            · have hw := hw.1 hc_335
              refine lv_iload hx hb dL_law_840 (lv_at hl 1 rfl) ?_
              refine lv_if_ne (tgt := 857) hx hb dL_law_842 (by decide) (fun hc_336 => ?_) (fun hc_336 => ?_)
              · have hw := hw.1 hc_336
                refine lv_goto (tgt := 2604) hx hb dL_law_857 (by decide) ?_
                refine lv_iinc (v := x5_15 + (6 : Int32)) (lv' := [(5, .int (x5_15 + (6 : Int32))), (7, .int r_322), (6, .int r_311), (0, .ref bb), (1, va_rf (some q_1)), (2, va_rf (some q_6)), (3, va_rf (some q_11)), (4, va_rf (some q_13))]) hx hb dL_law_2604 hl (k := 7) rfl rfl (by decide) rfl (fun ls hl => ?_)
                refine lv_goto (tgt := 28) hx hb dL_law_2607 (by decide) ?_
                exact ih_15 _ _ _ _ H locs cells slots ls (Nat.lt_of_lt_of_le hw.2 (Nat.le_of_lt_succ hn_15)) hw.1 hI hbc hbs (lv_sub hl [3, 4, 5, 6, 7, 0] rfl)
              · have hw := hw.2 hc_336
                refine ga_aload_n hx hb dL_law_845 rfl (lv_at hl 5 rfl) ?_
                refine lv_iconst (v := 0) hx hb dL_law_846 (by decide) ?_
                obtain ⟨n_337, f_338, hq, hi, hw⟩ := hw
                refine ga_ldl hx hb hI (ga_at.h hq) hi dL_law_847 ?_
                refine lv_iload hx hb dL_law_848 (lv_at hl 0 rfl) ?_
                refine lv_i2l (v := r_322.toInt64) hx hb dL_law_850 rfl ?_
                refine W.lcmp hx hb dL_law_851 ?_
                refine lv_if_eq (tgt := 857) hx hb dL_law_852 (by decide) (fun hc_339 => ?_) (fun hc_339 => ?_)
                · have hw := hw.1 hc_339
                  refine lv_goto (tgt := 2604) hx hb dL_law_857 (by decide) ?_
                  refine lv_iinc (v := x5_15 + (6 : Int32)) (lv' := [(5, .int (x5_15 + (6 : Int32))), (7, .int r_322), (6, .int r_311), (0, .ref bb), (1, va_rf (some q_1)), (2, va_rf (some q_6)), (3, va_rf (some q_11)), (4, va_rf (some q_13))]) hx hb dL_law_2604 hl (k := 7) rfl rfl (by decide) rfl (fun ls hl => ?_)
                  refine lv_goto (tgt := 28) hx hb dL_law_2607 (by decide) ?_
                  exact ih_15 _ _ _ _ H locs cells slots ls (Nat.lt_of_lt_of_le hw.2 (Nat.le_of_lt_succ hn_15)) hw.1 hI hbc hbs (lv_sub hl [3, 4, 5, 6, 7, 0] rfl)
                · have hw := hw.2 hc_339
                  refine lv_iconst (v := 0) hx hb dL_law_855 (by decide) ?_
                  exact hw.elim
            · have hw := hw.2 hc_335
              refine lv_iconst (v := 0) hx hb dL_law_838 (by decide) ?_
              exact hw.elim
        have hw := hw.2 hc_305
        by_cases hc_340 : w_17 &&& (63 : Int32) = (9 : Int32)
        · have hw := hw.1 hc_340
          refine lv_tableIn (tgt := 860) hx hb dL_law_45 (by rw [hc_340]; decide) (by rw [hc_340]; decide) (off := 815) (by rw [hc_340]; rfl) (by decide) ?_
          refine ga_aload_n hx hb dL_law_860 rfl (lv_at hl 1 rfl) ?_
          refine lv_aload_n hx hb dL_law_861 rfl (lv_at hl 0 rfl) ?_
          refine lv_iload hx hb dL_law_862 (lv_at hl 5 rfl) ?_
          refine lv_iconst (v := 1) hx hb dL_law_864 (by decide) ?_
          refine lv_iadd hx hb dL_law_865 ?_
          obtain ⟨hi, hw⟩ := hw
          refine va_sld hx hb hX hbl hbA hI.2.2 hi dL_law_866 ?_
          refine lv_topi (fun w_341 ew_341 => ?_)
          have hw := hw w_341 ew_341
          refine lv_aload_n hx hb dL_law_867 rfl (lv_at hl 0 rfl) ?_
          refine lv_iload hx hb dL_law_868 (lv_at hl 5 rfl) ?_
          refine lv_iconst (v := 2) hx hb dL_law_870 (by decide) ?_
          refine lv_iadd hx hb dL_law_871 ?_
          obtain ⟨hi, hw⟩ := hw
          refine va_sld hx hb hX hbl hbA hI.2.2 hi dL_law_872 ?_
          refine lv_topi (fun w_342 ew_342 => ?_)
          have hw := hw w_342 ew_342
          refine ga_aload_n hx hb dL_law_873 rfl (lv_at hl 3 rfl) ?_
          obtain ⟨kc_343, ks_344, hk1, hk2, hw⟩ := hw
          refine ga_xcalli (vx_runSX (As := [va_rf (some q_1), .int w_341, .int w_342, va_rf (some q_11)]) (rest := []) ⟨hx, hb, hml, hown, hts⟩ (gm_X0_trap l hst g (some q_1) w_341 w_342 (some q_11) h_15 kc_343 ks_344 _ _ hw) (vx_cwSW 4 hts (lw_SW q2315 q2316 q99 q2317) rfl rfl rfl hdG_X0_trap ⟨Nat.le_of_ble_eq_true rfl, Nat.le_of_ble_eq_true rfl⟩) (ga_preS hI rfl) rfl rfl hl.1 rfl (ga_room (Nat.le_of_ble_eq_true rfl)) dL_law_874 ⟨Nat.le_trans (Nat.add_le_add_left hk1 _) hbc, Nat.le_trans (Nat.add_le_add_left hk2 _) hbs⟩) hI hbc hbs hk1 hk2 (fun E_347 q_348 h_349 ce H locs cells slots hw hI hce hbc hbs => ?_) (fun r_346 h_345 H locs cells slots hw hI hbc hbs => ?_)
          · exact hw.elim
          · skip
            refine lv_istore (lv' := [(6, .int r_346), (0, .ref bb), (1, va_rf (some q_1)), (2, va_rf (some q_6)), (3, va_rf (some q_11)), (4, va_rf (some q_13)), (5, .int x5_15)]) hx hb dL_law_877 hl (by decide) rfl (fun ls hl => ?_)
            refine ga_aload_n hx hb dL_law_879 rfl (lv_at hl 3 rfl) ?_
            refine lv_aload_n hx hb dL_law_880 rfl (lv_at hl 1 rfl) ?_
            refine lv_iload hx hb dL_law_881 (lv_at hl 6 rfl) ?_
            refine lv_iconst (v := 1) hx hb dL_law_883 (by decide) ?_
            refine lv_iadd hx hb dL_law_884 ?_
            obtain ⟨hi, hw⟩ := hw
            refine va_sld hx hb hX hbl hbA hI.2.2 hi dL_law_885 ?_
            refine lv_topi (fun w_350 ew_350 => ?_)
            have hw := hw w_350 ew_350
            refine lv_aload_n hx hb dL_law_886 rfl (lv_at hl 1 rfl) ?_
            refine lv_iload hx hb dL_law_887 (lv_at hl 6 rfl) ?_
            refine lv_iconst (v := 2) hx hb dL_law_889 (by decide) ?_
            refine lv_iadd hx hb dL_law_890 ?_
            obtain ⟨hi, hw⟩ := hw
            refine va_sld hx hb hX hbl hbA hI.2.2 hi dL_law_891 ?_
            refine lv_topi (fun w_351 ew_351 => ?_)
            have hw := hw w_351 ew_351
            obtain ⟨za_352, zl_353, zt_354, zc_355, S_356, T_360, hw⟩ := hw
            refine ga_callTi (z := (q_6, za_352, zl_353, zt_354, zc_355)) (va_runV (As := [.int w_350, .int w_351]) (rest := []) ⟨hx, hb, hml, hown, hts⟩ (zm_trap l (ga_gz g (q_6, za_352, zl_353, zt_354, zc_355)) w_350 w_351 S_356 _ hw) (cwV 2 hts (lw_V q3831 q3832 q3833 q113 q3834) rfl rfl rfl hdT_trap ⟨Nat.le_of_ble_eq_true rfl, Nat.le_of_ble_eq_true rfl⟩) (ga_preT hI T_360 rfl) rfl rfl hl.1 rfl (ga_room (Nat.le_of_ble_eq_true rfl)) dL_law_892 ⟨Nat.le_trans (Nat.add_le_add_left (Nat.zero_le _) _) hbc, Nat.le_trans (Nat.add_le_add_left (Nat.zero_le _) _) hbs⟩) hI T_360 hbc hbs (fun r_357 S_358 H locs cells slots hw hI hbc hbs => ?_)
            obtain ⟨h_359, eh_359⟩ : ∃ z, z = ga_tws (q_6, za_352, zl_353, zt_354, zc_355) h_345 S_358 := ⟨_, rfl⟩
            rw [← eh_359] at hI
            have hw := hw h_359 eh_359
            refine lv_istore (lv' := [(7, .int r_357), (6, .int r_346), (0, .ref bb), (1, va_rf (some q_1)), (2, va_rf (some q_6)), (3, va_rf (some q_11)), (4, va_rf (some q_13)), (5, .int x5_15)]) hx hb dL_law_895 hl (by decide) rfl (fun ls hl => ?_)
            refine ga_aload_n hx hb dL_law_897 rfl (lv_at hl 4 rfl) ?_
            obtain ⟨za_361, zl_362, zt_363, zc_364, S_365, T_369, hw⟩ := hw
            refine ga_callTi (z := (q_6, za_361, zl_362, zt_363, zc_364)) (va_runV (As := []) (rest := []) ⟨hx, hb, hml, hown, hts⟩ (zm_thrown l (ga_gz g (q_6, za_361, zl_362, zt_363, zc_364))  S_365 _ hw) (cwV 0 hts (lw_V q3681 q3682 q3683 q113 q3684) rfl rfl rfl hdT_thrown ⟨Nat.le_of_ble_eq_true rfl, Nat.le_of_ble_eq_true rfl⟩) (ga_preT hI T_369 rfl) rfl rfl hl.1 rfl (ga_room (Nat.le_of_ble_eq_true rfl)) dL_law_898 ⟨Nat.le_trans (Nat.add_le_add_left (Nat.zero_le _) _) hbc, Nat.le_trans (Nat.add_le_add_left (Nat.zero_le _) _) hbs⟩) hI T_369 hbc hbs (fun r_366 S_367 H locs cells slots hw hI hbc hbs => ?_)
            obtain ⟨h_368, eh_368⟩ : ∃ z, z = ga_tws (q_6, za_361, zl_362, zt_363, zc_364) h_359 S_367 := ⟨_, rfl⟩
            rw [← eh_368] at hI
            have hw := hw h_368 eh_368
            refine lv_iload hx hb dL_law_901 (lv_at hl 1 rfl) ?_
            refine lv_icmp_eq (tgt := 908) hx hb dL_law_903 (by decide) (fun hc_370 => ?_) (fun hc_370 => ?_)
            · have hw := hw.1 hc_370
              refine lv_iload hx hb dL_law_908 (lv_at hl 1 rfl) ?_
              refine lv_if_ne (tgt := 925) hx hb dL_law_910 (by decide) (fun hc_371 => ?_) (fun hc_371 => ?_)
              · have hw := hw.1 hc_371
                refine lv_goto (tgt := 2604) hx hb dL_law_925 (by decide) ?_
                refine lv_iinc (v := x5_15 + (6 : Int32)) (lv' := [(5, .int (x5_15 + (6 : Int32))), (7, .int r_357), (6, .int r_346), (0, .ref bb), (1, va_rf (some q_1)), (2, va_rf (some q_6)), (3, va_rf (some q_11)), (4, va_rf (some q_13))]) hx hb dL_law_2604 hl (k := 7) rfl rfl (by decide) rfl (fun ls hl => ?_)
                refine lv_goto (tgt := 28) hx hb dL_law_2607 (by decide) ?_
                exact ih_15 _ _ _ _ H locs cells slots ls (Nat.lt_of_lt_of_le hw.2 (Nat.le_of_lt_succ hn_15)) hw.1 hI hbc hbs (lv_sub hl [3, 4, 5, 6, 7, 0] rfl)
              · have hw := hw.2 hc_371
                refine ga_aload_n hx hb dL_law_913 rfl (lv_at hl 5 rfl) ?_
                refine lv_iconst (v := 0) hx hb dL_law_914 (by decide) ?_
                obtain ⟨n_372, f_373, hq, hi, hw⟩ := hw
                refine ga_ldl hx hb hI (ga_at.h hq) hi dL_law_915 ?_
                refine lv_iload hx hb dL_law_916 (lv_at hl 0 rfl) ?_
                refine lv_i2l (v := r_357.toInt64) hx hb dL_law_918 rfl ?_
                refine W.lcmp hx hb dL_law_919 ?_
                refine lv_if_eq (tgt := 925) hx hb dL_law_920 (by decide) (fun hc_374 => ?_) (fun hc_374 => ?_)
                · have hw := hw.1 hc_374
                  refine lv_goto (tgt := 2604) hx hb dL_law_925 (by decide) ?_
                  refine lv_iinc (v := x5_15 + (6 : Int32)) (lv' := [(5, .int (x5_15 + (6 : Int32))), (7, .int r_357), (6, .int r_346), (0, .ref bb), (1, va_rf (some q_1)), (2, va_rf (some q_6)), (3, va_rf (some q_11)), (4, va_rf (some q_13))]) hx hb dL_law_2604 hl (k := 7) rfl rfl (by decide) rfl (fun ls hl => ?_)
                  refine lv_goto (tgt := 28) hx hb dL_law_2607 (by decide) ?_
                  exact ih_15 _ _ _ _ H locs cells slots ls (Nat.lt_of_lt_of_le hw.2 (Nat.le_of_lt_succ hn_15)) hw.1 hI hbc hbs (lv_sub hl [3, 4, 5, 6, 7, 0] rfl)
                · have hw := hw.2 hc_374
                  refine lv_iconst (v := 0) hx hb dL_law_923 (by decide) ?_
                  exact hw.elim
            · have hw := hw.2 hc_370
              refine lv_iconst (v := 0) hx hb dL_law_906 (by decide) ?_
              exact hw.elim
        have hw := hw.2 hc_340
        by_cases hc_375 : w_17 &&& (63 : Int32) = (10 : Int32)
        · have hw := hw.1 hc_375
          refine lv_tableIn (tgt := 928) hx hb dL_law_45 (by rw [hc_375]; decide) (by rw [hc_375]; decide) (off := 883) (by rw [hc_375]; rfl) (by decide) ?_
          refine ga_aload_n hx hb dL_law_928 rfl (lv_at hl 1 rfl) ?_
          refine lv_aload_n hx hb dL_law_929 rfl (lv_at hl 0 rfl) ?_
          refine lv_iload hx hb dL_law_930 (lv_at hl 5 rfl) ?_
          refine lv_iconst (v := 1) hx hb dL_law_932 (by decide) ?_
          refine lv_iadd hx hb dL_law_933 ?_
          obtain ⟨hi, hw⟩ := hw
          refine va_sld hx hb hX hbl hbA hI.2.2 hi dL_law_934 ?_
          refine lv_topi (fun w_376 ew_376 => ?_)
          have hw := hw w_376 ew_376
          refine lv_aload_n hx hb dL_law_935 rfl (lv_at hl 0 rfl) ?_
          refine lv_iload hx hb dL_law_936 (lv_at hl 5 rfl) ?_
          refine lv_iconst (v := 2) hx hb dL_law_938 (by decide) ?_
          refine lv_iadd hx hb dL_law_939 ?_
          obtain ⟨hi, hw⟩ := hw
          refine va_sld hx hb hX hbl hbA hI.2.2 hi dL_law_940 ?_
          refine lv_topi (fun w_377 ew_377 => ?_)
          have hw := hw w_377 ew_377
          refine ga_aload_n hx hb dL_law_941 rfl (lv_at hl 3 rfl) ?_
          obtain ⟨kc_378, ks_379, hk1, hk2, hw⟩ := hw
          refine ga_xcalli (vx_runSX (As := [va_rf (some q_1), .int w_376, .int w_377, va_rf (some q_11)]) (rest := []) ⟨hx, hb, hml, hown, hts⟩ (gm_X0_aisleOf l hst g (some q_1) w_376 w_377 (some q_11) h_15 kc_378 ks_379 _ _ hw) (vx_cwSW 4 hts (lw_SW q2326 q2327 q99 q2328) rfl rfl rfl hdG_X0_aisleOf ⟨Nat.le_of_ble_eq_true rfl, Nat.le_of_ble_eq_true rfl⟩) (ga_preS hI rfl) rfl rfl hl.1 rfl (ga_room (Nat.le_of_ble_eq_true rfl)) dL_law_942 ⟨Nat.le_trans (Nat.add_le_add_left hk1 _) hbc, Nat.le_trans (Nat.add_le_add_left hk2 _) hbs⟩) hI hbc hbs hk1 hk2 (fun E_382 q_383 h_384 ce H locs cells slots hw hI hce hbc hbs => ?_) (fun r_381 h_380 H locs cells slots hw hI hbc hbs => ?_)
          · exact hw.elim
          · skip
            refine lv_istore (lv' := [(6, .int r_381), (0, .ref bb), (1, va_rf (some q_1)), (2, va_rf (some q_6)), (3, va_rf (some q_11)), (4, va_rf (some q_13)), (5, .int x5_15)]) hx hb dL_law_945 hl (by decide) rfl (fun ls hl => ?_)
            refine ga_aload_n hx hb dL_law_947 rfl (lv_at hl 3 rfl) ?_
            refine lv_aload_n hx hb dL_law_948 rfl (lv_at hl 1 rfl) ?_
            refine lv_iload hx hb dL_law_949 (lv_at hl 6 rfl) ?_
            refine lv_iconst (v := 1) hx hb dL_law_951 (by decide) ?_
            refine lv_iadd hx hb dL_law_952 ?_
            obtain ⟨hi, hw⟩ := hw
            refine va_sld hx hb hX hbl hbA hI.2.2 hi dL_law_953 ?_
            refine lv_topi (fun w_385 ew_385 => ?_)
            have hw := hw w_385 ew_385
            refine lv_aload_n hx hb dL_law_954 rfl (lv_at hl 1 rfl) ?_
            refine lv_iload hx hb dL_law_955 (lv_at hl 6 rfl) ?_
            refine lv_iconst (v := 2) hx hb dL_law_957 (by decide) ?_
            refine lv_iadd hx hb dL_law_958 ?_
            obtain ⟨hi, hw⟩ := hw
            refine va_sld hx hb hX hbl hbA hI.2.2 hi dL_law_959 ?_
            refine lv_topi (fun w_386 ew_386 => ?_)
            have hw := hw w_386 ew_386
            obtain ⟨za_387, zl_388, zt_389, zc_390, S_391, T_395, hw⟩ := hw
            refine ga_callTi (z := (q_6, za_387, zl_388, zt_389, zc_390)) (va_runV (As := [.int w_385, .int w_386]) (rest := []) ⟨hx, hb, hml, hown, hts⟩ (zm_aisleOf l (ga_gz g (q_6, za_387, zl_388, zt_389, zc_390)) w_385 w_386 S_391 _ hw) (cwV 2 hts (lw_V q3839 q3840 q3841 q113 q3842) rfl rfl rfl hdT_aisleOf ⟨Nat.le_of_ble_eq_true rfl, Nat.le_of_ble_eq_true rfl⟩) (ga_preT hI T_395 rfl) rfl rfl hl.1 rfl (ga_room (Nat.le_of_ble_eq_true rfl)) dL_law_960 ⟨Nat.le_trans (Nat.add_le_add_left (Nat.zero_le _) _) hbc, Nat.le_trans (Nat.add_le_add_left (Nat.zero_le _) _) hbs⟩) hI T_395 hbc hbs (fun r_392 S_393 H locs cells slots hw hI hbc hbs => ?_)
            obtain ⟨h_394, eh_394⟩ : ∃ z, z = ga_tws (q_6, za_387, zl_388, zt_389, zc_390) h_380 S_393 := ⟨_, rfl⟩
            rw [← eh_394] at hI
            have hw := hw h_394 eh_394
            refine lv_istore (lv' := [(7, .int r_392), (6, .int r_381), (0, .ref bb), (1, va_rf (some q_1)), (2, va_rf (some q_6)), (3, va_rf (some q_11)), (4, va_rf (some q_13)), (5, .int x5_15)]) hx hb dL_law_963 hl (by decide) rfl (fun ls hl => ?_)
            refine ga_aload_n hx hb dL_law_965 rfl (lv_at hl 4 rfl) ?_
            obtain ⟨za_396, zl_397, zt_398, zc_399, S_400, T_404, hw⟩ := hw
            refine ga_callTi (z := (q_6, za_396, zl_397, zt_398, zc_399)) (va_runV (As := []) (rest := []) ⟨hx, hb, hml, hown, hts⟩ (zm_thrown l (ga_gz g (q_6, za_396, zl_397, zt_398, zc_399))  S_400 _ hw) (cwV 0 hts (lw_V q3681 q3682 q3683 q113 q3684) rfl rfl rfl hdT_thrown ⟨Nat.le_of_ble_eq_true rfl, Nat.le_of_ble_eq_true rfl⟩) (ga_preT hI T_404 rfl) rfl rfl hl.1 rfl (ga_room (Nat.le_of_ble_eq_true rfl)) dL_law_966 ⟨Nat.le_trans (Nat.add_le_add_left (Nat.zero_le _) _) hbc, Nat.le_trans (Nat.add_le_add_left (Nat.zero_le _) _) hbs⟩) hI T_404 hbc hbs (fun r_401 S_402 H locs cells slots hw hI hbc hbs => ?_)
            obtain ⟨h_403, eh_403⟩ : ∃ z, z = ga_tws (q_6, za_396, zl_397, zt_398, zc_399) h_394 S_402 := ⟨_, rfl⟩
            rw [← eh_403] at hI
            have hw := hw h_403 eh_403
            refine lv_iload hx hb dL_law_969 (lv_at hl 1 rfl) ?_
            refine lv_icmp_eq (tgt := 976) hx hb dL_law_971 (by decide) (fun hc_405 => ?_) (fun hc_405 => ?_)
            · have hw := hw.1 hc_405
              refine lv_iload hx hb dL_law_976 (lv_at hl 1 rfl) ?_
              refine lv_if_ne (tgt := 993) hx hb dL_law_978 (by decide) (fun hc_406 => ?_) (fun hc_406 => ?_)
              · have hw := hw.1 hc_406
                refine lv_goto (tgt := 2604) hx hb dL_law_993 (by decide) ?_
                refine lv_iinc (v := x5_15 + (6 : Int32)) (lv' := [(5, .int (x5_15 + (6 : Int32))), (7, .int r_392), (6, .int r_381), (0, .ref bb), (1, va_rf (some q_1)), (2, va_rf (some q_6)), (3, va_rf (some q_11)), (4, va_rf (some q_13))]) hx hb dL_law_2604 hl (k := 7) rfl rfl (by decide) rfl (fun ls hl => ?_)
                refine lv_goto (tgt := 28) hx hb dL_law_2607 (by decide) ?_
                exact ih_15 _ _ _ _ H locs cells slots ls (Nat.lt_of_lt_of_le hw.2 (Nat.le_of_lt_succ hn_15)) hw.1 hI hbc hbs (lv_sub hl [3, 4, 5, 6, 7, 0] rfl)
              · have hw := hw.2 hc_406
                refine ga_aload_n hx hb dL_law_981 rfl (lv_at hl 5 rfl) ?_
                refine lv_iconst (v := 0) hx hb dL_law_982 (by decide) ?_
                obtain ⟨n_407, f_408, hq, hi, hw⟩ := hw
                refine ga_ldl hx hb hI (ga_at.h hq) hi dL_law_983 ?_
                refine lv_iload hx hb dL_law_984 (lv_at hl 0 rfl) ?_
                refine lv_i2l (v := r_392.toInt64) hx hb dL_law_986 rfl ?_
                refine W.lcmp hx hb dL_law_987 ?_
                refine lv_if_eq (tgt := 993) hx hb dL_law_988 (by decide) (fun hc_409 => ?_) (fun hc_409 => ?_)
                · have hw := hw.1 hc_409
                  refine lv_goto (tgt := 2604) hx hb dL_law_993 (by decide) ?_
                  refine lv_iinc (v := x5_15 + (6 : Int32)) (lv' := [(5, .int (x5_15 + (6 : Int32))), (7, .int r_392), (6, .int r_381), (0, .ref bb), (1, va_rf (some q_1)), (2, va_rf (some q_6)), (3, va_rf (some q_11)), (4, va_rf (some q_13))]) hx hb dL_law_2604 hl (k := 7) rfl rfl (by decide) rfl (fun ls hl => ?_)
                  refine lv_goto (tgt := 28) hx hb dL_law_2607 (by decide) ?_
                  exact ih_15 _ _ _ _ H locs cells slots ls (Nat.lt_of_lt_of_le hw.2 (Nat.le_of_lt_succ hn_15)) hw.1 hI hbc hbs (lv_sub hl [3, 4, 5, 6, 7, 0] rfl)
                · have hw := hw.2 hc_409
                  refine lv_iconst (v := 0) hx hb dL_law_991 (by decide) ?_
                  exact hw.elim
            · have hw := hw.2 hc_405
              refine lv_iconst (v := 0) hx hb dL_law_974 (by decide) ?_
              exact hw.elim
        have hw := hw.2 hc_375
        by_cases hc_410 : w_17 &&& (63 : Int32) = (11 : Int32)
        · have hw := hw.1 hc_410
          refine lv_tableIn (tgt := 996) hx hb dL_law_45 (by rw [hc_410]; decide) (by rw [hc_410]; decide) (off := 951) (by rw [hc_410]; rfl) (by decide) ?_
          refine ga_aload_n hx hb dL_law_996 rfl (lv_at hl 1 rfl) ?_
          refine lv_aload_n hx hb dL_law_997 rfl (lv_at hl 0 rfl) ?_
          refine lv_iload hx hb dL_law_998 (lv_at hl 5 rfl) ?_
          refine lv_iconst (v := 1) hx hb dL_law_1000 (by decide) ?_
          refine lv_iadd hx hb dL_law_1001 ?_
          obtain ⟨hi, hw⟩ := hw
          refine va_sld hx hb hX hbl hbA hI.2.2 hi dL_law_1002 ?_
          refine lv_topi (fun w_411 ew_411 => ?_)
          have hw := hw w_411 ew_411
          refine lv_aload_n hx hb dL_law_1003 rfl (lv_at hl 0 rfl) ?_
          refine lv_iload hx hb dL_law_1004 (lv_at hl 5 rfl) ?_
          refine lv_iconst (v := 2) hx hb dL_law_1006 (by decide) ?_
          refine lv_iadd hx hb dL_law_1007 ?_
          obtain ⟨hi, hw⟩ := hw
          refine va_sld hx hb hX hbl hbA hI.2.2 hi dL_law_1008 ?_
          refine lv_topi (fun w_412 ew_412 => ?_)
          have hw := hw w_412 ew_412
          refine ga_aload_n hx hb dL_law_1009 rfl (lv_at hl 3 rfl) ?_
          obtain ⟨kc_413, ks_414, hk1, hk2, hw⟩ := hw
          refine ga_xcalli (vx_runSX (As := [va_rf (some q_1), .int w_411, .int w_412, va_rf (some q_11)]) (rest := []) ⟨hx, hb, hml, hown, hts⟩ (gm_X0_eatenIn l hst g (some q_1) w_411 w_412 (some q_11) h_15 kc_413 ks_414 _ _ hw) (vx_cwSW 4 hts (lw_SW q2360 q2361 q99 q2362) rfl rfl rfl hdG_X0_eatenIn ⟨Nat.le_of_ble_eq_true rfl, Nat.le_of_ble_eq_true rfl⟩) (ga_preS hI rfl) rfl rfl hl.1 rfl (ga_room (Nat.le_of_ble_eq_true rfl)) dL_law_1010 ⟨Nat.le_trans (Nat.add_le_add_left hk1 _) hbc, Nat.le_trans (Nat.add_le_add_left hk2 _) hbs⟩) hI hbc hbs hk1 hk2 (fun E_417 q_418 h_419 ce H locs cells slots hw hI hce hbc hbs => ?_) (fun r_416 h_415 H locs cells slots hw hI hbc hbs => ?_)
          · exact hw.elim
          · skip
            refine lv_istore (lv' := [(6, .int r_416), (0, .ref bb), (1, va_rf (some q_1)), (2, va_rf (some q_6)), (3, va_rf (some q_11)), (4, va_rf (some q_13)), (5, .int x5_15)]) hx hb dL_law_1013 hl (by decide) rfl (fun ls hl => ?_)
            refine ga_aload_n hx hb dL_law_1015 rfl (lv_at hl 3 rfl) ?_
            refine lv_aload_n hx hb dL_law_1016 rfl (lv_at hl 1 rfl) ?_
            refine lv_iload hx hb dL_law_1017 (lv_at hl 6 rfl) ?_
            refine lv_iconst (v := 1) hx hb dL_law_1019 (by decide) ?_
            refine lv_iadd hx hb dL_law_1020 ?_
            obtain ⟨hi, hw⟩ := hw
            refine va_sld hx hb hX hbl hbA hI.2.2 hi dL_law_1021 ?_
            refine lv_topi (fun w_420 ew_420 => ?_)
            have hw := hw w_420 ew_420
            refine lv_aload_n hx hb dL_law_1022 rfl (lv_at hl 1 rfl) ?_
            refine lv_iload hx hb dL_law_1023 (lv_at hl 6 rfl) ?_
            refine lv_iconst (v := 2) hx hb dL_law_1025 (by decide) ?_
            refine lv_iadd hx hb dL_law_1026 ?_
            obtain ⟨hi, hw⟩ := hw
            refine va_sld hx hb hX hbl hbA hI.2.2 hi dL_law_1027 ?_
            refine lv_topi (fun w_421 ew_421 => ?_)
            have hw := hw w_421 ew_421
            obtain ⟨za_422, zl_423, zt_424, zc_425, S_426, T_430, hw⟩ := hw
            refine ga_callTi (z := (q_6, za_422, zl_423, zt_424, zc_425)) (va_runV (As := [.int w_420, .int w_421]) (rest := []) ⟨hx, hb, hml, hown, hts⟩ (zm_eatenIn l (ga_gz g (q_6, za_422, zl_423, zt_424, zc_425)) w_420 w_421 S_426 _ hw) (cwV 2 hts (lw_V q3847 q3848 q3849 q113 q3850) rfl rfl rfl hdT_eatenIn ⟨Nat.le_of_ble_eq_true rfl, Nat.le_of_ble_eq_true rfl⟩) (ga_preT hI T_430 rfl) rfl rfl hl.1 rfl (ga_room (Nat.le_of_ble_eq_true rfl)) dL_law_1028 ⟨Nat.le_trans (Nat.add_le_add_left (Nat.zero_le _) _) hbc, Nat.le_trans (Nat.add_le_add_left (Nat.zero_le _) _) hbs⟩) hI T_430 hbc hbs (fun r_427 S_428 H locs cells slots hw hI hbc hbs => ?_)
            obtain ⟨h_429, eh_429⟩ : ∃ z, z = ga_tws (q_6, za_422, zl_423, zt_424, zc_425) h_415 S_428 := ⟨_, rfl⟩
            rw [← eh_429] at hI
            have hw := hw h_429 eh_429
            refine lv_istore (lv' := [(7, .int r_427), (6, .int r_416), (0, .ref bb), (1, va_rf (some q_1)), (2, va_rf (some q_6)), (3, va_rf (some q_11)), (4, va_rf (some q_13)), (5, .int x5_15)]) hx hb dL_law_1031 hl (by decide) rfl (fun ls hl => ?_)
            refine ga_aload_n hx hb dL_law_1033 rfl (lv_at hl 4 rfl) ?_
            obtain ⟨za_431, zl_432, zt_433, zc_434, S_435, T_439, hw⟩ := hw
            refine ga_callTi (z := (q_6, za_431, zl_432, zt_433, zc_434)) (va_runV (As := []) (rest := []) ⟨hx, hb, hml, hown, hts⟩ (zm_thrown l (ga_gz g (q_6, za_431, zl_432, zt_433, zc_434))  S_435 _ hw) (cwV 0 hts (lw_V q3681 q3682 q3683 q113 q3684) rfl rfl rfl hdT_thrown ⟨Nat.le_of_ble_eq_true rfl, Nat.le_of_ble_eq_true rfl⟩) (ga_preT hI T_439 rfl) rfl rfl hl.1 rfl (ga_room (Nat.le_of_ble_eq_true rfl)) dL_law_1034 ⟨Nat.le_trans (Nat.add_le_add_left (Nat.zero_le _) _) hbc, Nat.le_trans (Nat.add_le_add_left (Nat.zero_le _) _) hbs⟩) hI T_439 hbc hbs (fun r_436 S_437 H locs cells slots hw hI hbc hbs => ?_)
            obtain ⟨h_438, eh_438⟩ : ∃ z, z = ga_tws (q_6, za_431, zl_432, zt_433, zc_434) h_429 S_437 := ⟨_, rfl⟩
            rw [← eh_438] at hI
            have hw := hw h_438 eh_438
            refine lv_iload hx hb dL_law_1037 (lv_at hl 1 rfl) ?_
            refine lv_icmp_eq (tgt := 1044) hx hb dL_law_1039 (by decide) (fun hc_440 => ?_) (fun hc_440 => ?_)
            · have hw := hw.1 hc_440
              refine lv_iload hx hb dL_law_1044 (lv_at hl 1 rfl) ?_
              refine lv_if_ne (tgt := 1061) hx hb dL_law_1046 (by decide) (fun hc_441 => ?_) (fun hc_441 => ?_)
              · have hw := hw.1 hc_441
                refine lv_goto (tgt := 2604) hx hb dL_law_1061 (by decide) ?_
                refine lv_iinc (v := x5_15 + (6 : Int32)) (lv' := [(5, .int (x5_15 + (6 : Int32))), (7, .int r_427), (6, .int r_416), (0, .ref bb), (1, va_rf (some q_1)), (2, va_rf (some q_6)), (3, va_rf (some q_11)), (4, va_rf (some q_13))]) hx hb dL_law_2604 hl (k := 7) rfl rfl (by decide) rfl (fun ls hl => ?_)
                refine lv_goto (tgt := 28) hx hb dL_law_2607 (by decide) ?_
                exact ih_15 _ _ _ _ H locs cells slots ls (Nat.lt_of_lt_of_le hw.2 (Nat.le_of_lt_succ hn_15)) hw.1 hI hbc hbs (lv_sub hl [3, 4, 5, 6, 7, 0] rfl)
              · have hw := hw.2 hc_441
                refine ga_aload_n hx hb dL_law_1049 rfl (lv_at hl 5 rfl) ?_
                refine lv_iconst (v := 0) hx hb dL_law_1050 (by decide) ?_
                obtain ⟨n_442, f_443, hq, hi, hw⟩ := hw
                refine ga_ldl hx hb hI (ga_at.h hq) hi dL_law_1051 ?_
                refine lv_iload hx hb dL_law_1052 (lv_at hl 0 rfl) ?_
                refine lv_i2l (v := r_427.toInt64) hx hb dL_law_1054 rfl ?_
                refine W.lcmp hx hb dL_law_1055 ?_
                refine lv_if_eq (tgt := 1061) hx hb dL_law_1056 (by decide) (fun hc_444 => ?_) (fun hc_444 => ?_)
                · have hw := hw.1 hc_444
                  refine lv_goto (tgt := 2604) hx hb dL_law_1061 (by decide) ?_
                  refine lv_iinc (v := x5_15 + (6 : Int32)) (lv' := [(5, .int (x5_15 + (6 : Int32))), (7, .int r_427), (6, .int r_416), (0, .ref bb), (1, va_rf (some q_1)), (2, va_rf (some q_6)), (3, va_rf (some q_11)), (4, va_rf (some q_13))]) hx hb dL_law_2604 hl (k := 7) rfl rfl (by decide) rfl (fun ls hl => ?_)
                  refine lv_goto (tgt := 28) hx hb dL_law_2607 (by decide) ?_
                  exact ih_15 _ _ _ _ H locs cells slots ls (Nat.lt_of_lt_of_le hw.2 (Nat.le_of_lt_succ hn_15)) hw.1 hI hbc hbs (lv_sub hl [3, 4, 5, 6, 7, 0] rfl)
                · have hw := hw.2 hc_444
                  refine lv_iconst (v := 0) hx hb dL_law_1059 (by decide) ?_
                  exact hw.elim
            · have hw := hw.2 hc_440
              refine lv_iconst (v := 0) hx hb dL_law_1042 (by decide) ?_
              exact hw.elim
        have hw := hw.2 hc_410
        by_cases hc_445 : w_17 &&& (63 : Int32) = (12 : Int32)
        · have hw := hw.1 hc_445
          refine lv_tableIn (tgt := 1064) hx hb dL_law_45 (by rw [hc_445]; decide) (by rw [hc_445]; decide) (off := 1019) (by rw [hc_445]; rfl) (by decide) ?_
          refine ga_aload_n hx hb dL_law_1064 rfl (lv_at hl 1 rfl) ?_
          refine lv_aload_n hx hb dL_law_1065 rfl (lv_at hl 0 rfl) ?_
          refine lv_iload hx hb dL_law_1066 (lv_at hl 5 rfl) ?_
          refine lv_iconst (v := 1) hx hb dL_law_1068 (by decide) ?_
          refine lv_iadd hx hb dL_law_1069 ?_
          obtain ⟨hi, hw⟩ := hw
          refine va_sld hx hb hX hbl hbA hI.2.2 hi dL_law_1070 ?_
          refine lv_topi (fun w_446 ew_446 => ?_)
          have hw := hw w_446 ew_446
          refine ga_aload_n hx hb dL_law_1071 rfl (lv_at hl 3 rfl) ?_
          obtain ⟨kc_447, ks_448, hk1, hk2, hw⟩ := hw
          refine ga_xcalli (vx_runSX (As := [va_rf (some q_1), .int w_446, va_rf (some q_11)]) (rest := []) ⟨hx, hb, hml, hown, hts⟩ (gm_X0_ranked l hst g (some q_1) w_446 (some q_11) h_15 kc_447 ks_448 _ _ hw) (vx_cwSW 3 hts (lw_SW q2389 q2390 q99 q2391) rfl rfl rfl hdG_X0_ranked ⟨Nat.le_of_ble_eq_true rfl, Nat.le_of_ble_eq_true rfl⟩) (ga_preS hI rfl) rfl rfl hl.1 rfl (ga_room (Nat.le_of_ble_eq_true rfl)) dL_law_1072 ⟨Nat.le_trans (Nat.add_le_add_left hk1 _) hbc, Nat.le_trans (Nat.add_le_add_left hk2 _) hbs⟩) hI hbc hbs hk1 hk2 (fun E_451 q_452 h_453 ce H locs cells slots hw hI hce hbc hbs => ?_) (fun r_450 h_449 H locs cells slots hw hI hbc hbs => ?_)
          · exact hw.elim
          · skip
            refine lv_istore (lv' := [(6, .int r_450), (0, .ref bb), (1, va_rf (some q_1)), (2, va_rf (some q_6)), (3, va_rf (some q_11)), (4, va_rf (some q_13)), (5, .int x5_15)]) hx hb dL_law_1075 hl (by decide) rfl (fun ls hl => ?_)
            refine ga_aload_n hx hb dL_law_1077 rfl (lv_at hl 3 rfl) ?_
            refine lv_aload_n hx hb dL_law_1078 rfl (lv_at hl 1 rfl) ?_
            refine lv_iload hx hb dL_law_1079 (lv_at hl 6 rfl) ?_
            refine lv_iconst (v := 1) hx hb dL_law_1081 (by decide) ?_
            refine lv_iadd hx hb dL_law_1082 ?_
            obtain ⟨hi, hw⟩ := hw
            refine va_sld hx hb hX hbl hbA hI.2.2 hi dL_law_1083 ?_
            refine lv_topi (fun w_454 ew_454 => ?_)
            have hw := hw w_454 ew_454
            obtain ⟨za_455, zl_456, zt_457, zc_458, S_459, T_463, hw⟩ := hw
            refine ga_callTi (z := (q_6, za_455, zl_456, zt_457, zc_458)) (va_runV (As := [.int w_454]) (rest := []) ⟨hx, hb, hml, hown, hts⟩ (zm_ranked l (ga_gz g (q_6, za_455, zl_456, zt_457, zc_458)) w_454 S_459 _ hw) (cwV 1 hts (lw_V q3867 q3868 q3869 q113 q3870) rfl rfl rfl hdT_ranked ⟨Nat.le_of_ble_eq_true rfl, Nat.le_of_ble_eq_true rfl⟩) (ga_preT hI T_463 rfl) rfl rfl hl.1 rfl (ga_room (Nat.le_of_ble_eq_true rfl)) dL_law_1084 ⟨Nat.le_trans (Nat.add_le_add_left (Nat.zero_le _) _) hbc, Nat.le_trans (Nat.add_le_add_left (Nat.zero_le _) _) hbs⟩) hI T_463 hbc hbs (fun r_460 S_461 H locs cells slots hw hI hbc hbs => ?_)
            obtain ⟨h_462, eh_462⟩ : ∃ z, z = ga_tws (q_6, za_455, zl_456, zt_457, zc_458) h_449 S_461 := ⟨_, rfl⟩
            rw [← eh_462] at hI
            have hw := hw h_462 eh_462
            refine lv_istore (lv' := [(7, .int r_460), (6, .int r_450), (0, .ref bb), (1, va_rf (some q_1)), (2, va_rf (some q_6)), (3, va_rf (some q_11)), (4, va_rf (some q_13)), (5, .int x5_15)]) hx hb dL_law_1087 hl (by decide) rfl (fun ls hl => ?_)
            refine ga_aload_n hx hb dL_law_1089 rfl (lv_at hl 4 rfl) ?_
            obtain ⟨za_464, zl_465, zt_466, zc_467, S_468, T_472, hw⟩ := hw
            refine ga_callTi (z := (q_6, za_464, zl_465, zt_466, zc_467)) (va_runV (As := []) (rest := []) ⟨hx, hb, hml, hown, hts⟩ (zm_thrown l (ga_gz g (q_6, za_464, zl_465, zt_466, zc_467))  S_468 _ hw) (cwV 0 hts (lw_V q3681 q3682 q3683 q113 q3684) rfl rfl rfl hdT_thrown ⟨Nat.le_of_ble_eq_true rfl, Nat.le_of_ble_eq_true rfl⟩) (ga_preT hI T_472 rfl) rfl rfl hl.1 rfl (ga_room (Nat.le_of_ble_eq_true rfl)) dL_law_1090 ⟨Nat.le_trans (Nat.add_le_add_left (Nat.zero_le _) _) hbc, Nat.le_trans (Nat.add_le_add_left (Nat.zero_le _) _) hbs⟩) hI T_472 hbc hbs (fun r_469 S_470 H locs cells slots hw hI hbc hbs => ?_)
            obtain ⟨h_471, eh_471⟩ : ∃ z, z = ga_tws (q_6, za_464, zl_465, zt_466, zc_467) h_462 S_470 := ⟨_, rfl⟩
            rw [← eh_471] at hI
            have hw := hw h_471 eh_471
            refine lv_iload hx hb dL_law_1093 (lv_at hl 1 rfl) ?_
            refine lv_icmp_eq (tgt := 1100) hx hb dL_law_1095 (by decide) (fun hc_473 => ?_) (fun hc_473 => ?_)
            · have hw := hw.1 hc_473
              refine lv_iload hx hb dL_law_1100 (lv_at hl 1 rfl) ?_
              refine lv_if_ne (tgt := 1117) hx hb dL_law_1102 (by decide) (fun hc_474 => ?_) (fun hc_474 => ?_)
              · have hw := hw.1 hc_474
                refine lv_goto (tgt := 2604) hx hb dL_law_1117 (by decide) ?_
                refine lv_iinc (v := x5_15 + (6 : Int32)) (lv' := [(5, .int (x5_15 + (6 : Int32))), (7, .int r_460), (6, .int r_450), (0, .ref bb), (1, va_rf (some q_1)), (2, va_rf (some q_6)), (3, va_rf (some q_11)), (4, va_rf (some q_13))]) hx hb dL_law_2604 hl (k := 7) rfl rfl (by decide) rfl (fun ls hl => ?_)
                refine lv_goto (tgt := 28) hx hb dL_law_2607 (by decide) ?_
                exact ih_15 _ _ _ _ H locs cells slots ls (Nat.lt_of_lt_of_le hw.2 (Nat.le_of_lt_succ hn_15)) hw.1 hI hbc hbs (lv_sub hl [3, 4, 5, 6, 7, 0] rfl)
              · have hw := hw.2 hc_474
                refine ga_aload_n hx hb dL_law_1105 rfl (lv_at hl 5 rfl) ?_
                refine lv_iconst (v := 0) hx hb dL_law_1106 (by decide) ?_
                obtain ⟨n_475, f_476, hq, hi, hw⟩ := hw
                refine ga_ldl hx hb hI (ga_at.h hq) hi dL_law_1107 ?_
                refine lv_iload hx hb dL_law_1108 (lv_at hl 0 rfl) ?_
                refine lv_i2l (v := r_460.toInt64) hx hb dL_law_1110 rfl ?_
                refine W.lcmp hx hb dL_law_1111 ?_
                refine lv_if_eq (tgt := 1117) hx hb dL_law_1112 (by decide) (fun hc_477 => ?_) (fun hc_477 => ?_)
                · have hw := hw.1 hc_477
                  refine lv_goto (tgt := 2604) hx hb dL_law_1117 (by decide) ?_
                  refine lv_iinc (v := x5_15 + (6 : Int32)) (lv' := [(5, .int (x5_15 + (6 : Int32))), (7, .int r_460), (6, .int r_450), (0, .ref bb), (1, va_rf (some q_1)), (2, va_rf (some q_6)), (3, va_rf (some q_11)), (4, va_rf (some q_13))]) hx hb dL_law_2604 hl (k := 7) rfl rfl (by decide) rfl (fun ls hl => ?_)
                  refine lv_goto (tgt := 28) hx hb dL_law_2607 (by decide) ?_
                  exact ih_15 _ _ _ _ H locs cells slots ls (Nat.lt_of_lt_of_le hw.2 (Nat.le_of_lt_succ hn_15)) hw.1 hI hbc hbs (lv_sub hl [3, 4, 5, 6, 7, 0] rfl)
                · have hw := hw.2 hc_477
                  refine lv_iconst (v := 0) hx hb dL_law_1115 (by decide) ?_
                  exact hw.elim
            · have hw := hw.2 hc_473
              refine lv_iconst (v := 0) hx hb dL_law_1098 (by decide) ?_
              exact hw.elim
        have hw := hw.2 hc_445
        by_cases hc_478 : w_17 &&& (63 : Int32) = (13 : Int32)
        · have hw := hw.1 hc_478
          refine lv_tableIn (tgt := 1120) hx hb dL_law_45 (by rw [hc_478]; decide) (by rw [hc_478]; decide) (off := 1075) (by rw [hc_478]; rfl) (by decide) ?_
          refine ga_aload_n hx hb dL_law_1120 rfl (lv_at hl 1 rfl) ?_
          refine lv_aload_n hx hb dL_law_1121 rfl (lv_at hl 0 rfl) ?_
          refine lv_iload hx hb dL_law_1122 (lv_at hl 5 rfl) ?_
          refine lv_iconst (v := 1) hx hb dL_law_1124 (by decide) ?_
          refine lv_iadd hx hb dL_law_1125 ?_
          obtain ⟨hi, hw⟩ := hw
          refine va_sld hx hb hX hbl hbA hI.2.2 hi dL_law_1126 ?_
          refine lv_topi (fun w_479 ew_479 => ?_)
          have hw := hw w_479 ew_479
          refine lv_aload_n hx hb dL_law_1127 rfl (lv_at hl 0 rfl) ?_
          refine lv_iload hx hb dL_law_1128 (lv_at hl 5 rfl) ?_
          refine lv_iconst (v := 2) hx hb dL_law_1130 (by decide) ?_
          refine lv_iadd hx hb dL_law_1131 ?_
          obtain ⟨hi, hw⟩ := hw
          refine va_sld hx hb hX hbl hbA hI.2.2 hi dL_law_1132 ?_
          refine lv_topi (fun w_480 ew_480 => ?_)
          have hw := hw w_480 ew_480
          refine lv_aload_n hx hb dL_law_1133 rfl (lv_at hl 0 rfl) ?_
          refine lv_iload hx hb dL_law_1134 (lv_at hl 5 rfl) ?_
          refine lv_iconst (v := 3) hx hb dL_law_1136 (by decide) ?_
          refine lv_iadd hx hb dL_law_1137 ?_
          obtain ⟨hi, hw⟩ := hw
          refine va_sld hx hb hX hbl hbA hI.2.2 hi dL_law_1138 ?_
          refine lv_topi (fun w_481 ew_481 => ?_)
          have hw := hw w_481 ew_481
          refine ga_aload_n hx hb dL_law_1139 rfl (lv_at hl 3 rfl) ?_
          obtain ⟨kc_482, ks_483, hk1, hk2, hw⟩ := hw
          refine ga_xcalli (vx_runSX (As := [va_rf (some q_1), .int w_479, .int w_480, .int w_481, va_rf (some q_11)]) (rest := []) ⟨hx, hb, hml, hown, hts⟩ (gm_X0_order l hst g (some q_1) w_479 w_480 w_481 (some q_11) h_15 kc_482 ks_483 _ _ hw) (vx_cwSW 5 hts (lw_SW q2401 q2402 q99 q2403) rfl rfl rfl hdG_X0_order ⟨Nat.le_of_ble_eq_true rfl, Nat.le_of_ble_eq_true rfl⟩) (ga_preS hI rfl) rfl rfl hl.1 rfl (ga_room (Nat.le_of_ble_eq_true rfl)) dL_law_1140 ⟨Nat.le_trans (Nat.add_le_add_left hk1 _) hbc, Nat.le_trans (Nat.add_le_add_left hk2 _) hbs⟩) hI hbc hbs hk1 hk2 (fun E_486 q_487 h_488 ce H locs cells slots hw hI hce hbc hbs => ?_) (fun r_485 h_484 H locs cells slots hw hI hbc hbs => ?_)
          · exact hw.elim
          · skip
            refine lv_istore (lv' := [(6, .int r_485), (0, .ref bb), (1, va_rf (some q_1)), (2, va_rf (some q_6)), (3, va_rf (some q_11)), (4, va_rf (some q_13)), (5, .int x5_15)]) hx hb dL_law_1143 hl (by decide) rfl (fun ls hl => ?_)
            refine ga_aload_n hx hb dL_law_1145 rfl (lv_at hl 3 rfl) ?_
            refine lv_aload_n hx hb dL_law_1146 rfl (lv_at hl 1 rfl) ?_
            refine lv_iload hx hb dL_law_1147 (lv_at hl 6 rfl) ?_
            refine lv_iconst (v := 1) hx hb dL_law_1149 (by decide) ?_
            refine lv_iadd hx hb dL_law_1150 ?_
            obtain ⟨hi, hw⟩ := hw
            refine va_sld hx hb hX hbl hbA hI.2.2 hi dL_law_1151 ?_
            refine lv_topi (fun w_489 ew_489 => ?_)
            have hw := hw w_489 ew_489
            refine lv_aload_n hx hb dL_law_1152 rfl (lv_at hl 1 rfl) ?_
            refine lv_iload hx hb dL_law_1153 (lv_at hl 6 rfl) ?_
            refine lv_iconst (v := 2) hx hb dL_law_1155 (by decide) ?_
            refine lv_iadd hx hb dL_law_1156 ?_
            obtain ⟨hi, hw⟩ := hw
            refine va_sld hx hb hX hbl hbA hI.2.2 hi dL_law_1157 ?_
            refine lv_topi (fun w_490 ew_490 => ?_)
            have hw := hw w_490 ew_490
            refine lv_aload_n hx hb dL_law_1158 rfl (lv_at hl 1 rfl) ?_
            refine lv_iload hx hb dL_law_1159 (lv_at hl 6 rfl) ?_
            refine lv_iconst (v := 3) hx hb dL_law_1161 (by decide) ?_
            refine lv_iadd hx hb dL_law_1162 ?_
            obtain ⟨hi, hw⟩ := hw
            refine va_sld hx hb hX hbl hbA hI.2.2 hi dL_law_1163 ?_
            refine lv_topi (fun w_491 ew_491 => ?_)
            have hw := hw w_491 ew_491
            obtain ⟨za_492, zl_493, zt_494, zc_495, S_496, T_500, hw⟩ := hw
            refine ga_callTi (z := (q_6, za_492, zl_493, zt_494, zc_495)) (va_runV (As := [.int w_489, .int w_490, .int w_491]) (rest := []) ⟨hx, hb, hml, hown, hts⟩ (zm_order l (ga_gz g (q_6, za_492, zl_493, zt_494, zc_495)) w_489 w_490 w_491 S_496 _ hw) (cwV 3 hts (lw_V q3875 q3876 q3877 q113 q3878) rfl rfl rfl hdT_order ⟨Nat.le_of_ble_eq_true rfl, Nat.le_of_ble_eq_true rfl⟩) (ga_preT hI T_500 rfl) rfl rfl hl.1 rfl (ga_room (Nat.le_of_ble_eq_true rfl)) dL_law_1164 ⟨Nat.le_trans (Nat.add_le_add_left (Nat.zero_le _) _) hbc, Nat.le_trans (Nat.add_le_add_left (Nat.zero_le _) _) hbs⟩) hI T_500 hbc hbs (fun r_497 S_498 H locs cells slots hw hI hbc hbs => ?_)
            obtain ⟨h_499, eh_499⟩ : ∃ z, z = ga_tws (q_6, za_492, zl_493, zt_494, zc_495) h_484 S_498 := ⟨_, rfl⟩
            rw [← eh_499] at hI
            have hw := hw h_499 eh_499
            refine lv_istore (lv' := [(7, .int r_497), (6, .int r_485), (0, .ref bb), (1, va_rf (some q_1)), (2, va_rf (some q_6)), (3, va_rf (some q_11)), (4, va_rf (some q_13)), (5, .int x5_15)]) hx hb dL_law_1167 hl (by decide) rfl (fun ls hl => ?_)
            refine ga_aload_n hx hb dL_law_1169 rfl (lv_at hl 4 rfl) ?_
            obtain ⟨za_501, zl_502, zt_503, zc_504, S_505, T_509, hw⟩ := hw
            refine ga_callTi (z := (q_6, za_501, zl_502, zt_503, zc_504)) (va_runV (As := []) (rest := []) ⟨hx, hb, hml, hown, hts⟩ (zm_thrown l (ga_gz g (q_6, za_501, zl_502, zt_503, zc_504))  S_505 _ hw) (cwV 0 hts (lw_V q3681 q3682 q3683 q113 q3684) rfl rfl rfl hdT_thrown ⟨Nat.le_of_ble_eq_true rfl, Nat.le_of_ble_eq_true rfl⟩) (ga_preT hI T_509 rfl) rfl rfl hl.1 rfl (ga_room (Nat.le_of_ble_eq_true rfl)) dL_law_1170 ⟨Nat.le_trans (Nat.add_le_add_left (Nat.zero_le _) _) hbc, Nat.le_trans (Nat.add_le_add_left (Nat.zero_le _) _) hbs⟩) hI T_509 hbc hbs (fun r_506 S_507 H locs cells slots hw hI hbc hbs => ?_)
            obtain ⟨h_508, eh_508⟩ : ∃ z, z = ga_tws (q_6, za_501, zl_502, zt_503, zc_504) h_499 S_507 := ⟨_, rfl⟩
            rw [← eh_508] at hI
            have hw := hw h_508 eh_508
            refine lv_iload hx hb dL_law_1173 (lv_at hl 1 rfl) ?_
            refine lv_icmp_eq (tgt := 1180) hx hb dL_law_1175 (by decide) (fun hc_510 => ?_) (fun hc_510 => ?_)
            · have hw := hw.1 hc_510
              refine lv_iload hx hb dL_law_1180 (lv_at hl 1 rfl) ?_
              refine lv_if_ne (tgt := 1197) hx hb dL_law_1182 (by decide) (fun hc_511 => ?_) (fun hc_511 => ?_)
              · have hw := hw.1 hc_511
                refine lv_goto (tgt := 2604) hx hb dL_law_1197 (by decide) ?_
                refine lv_iinc (v := x5_15 + (6 : Int32)) (lv' := [(5, .int (x5_15 + (6 : Int32))), (7, .int r_497), (6, .int r_485), (0, .ref bb), (1, va_rf (some q_1)), (2, va_rf (some q_6)), (3, va_rf (some q_11)), (4, va_rf (some q_13))]) hx hb dL_law_2604 hl (k := 7) rfl rfl (by decide) rfl (fun ls hl => ?_)
                refine lv_goto (tgt := 28) hx hb dL_law_2607 (by decide) ?_
                exact ih_15 _ _ _ _ H locs cells slots ls (Nat.lt_of_lt_of_le hw.2 (Nat.le_of_lt_succ hn_15)) hw.1 hI hbc hbs (lv_sub hl [3, 4, 5, 6, 7, 0] rfl)
              · have hw := hw.2 hc_511
                refine ga_aload_n hx hb dL_law_1185 rfl (lv_at hl 5 rfl) ?_
                refine lv_iconst (v := 0) hx hb dL_law_1186 (by decide) ?_
                obtain ⟨n_512, f_513, hq, hi, hw⟩ := hw
                refine ga_ldl hx hb hI (ga_at.h hq) hi dL_law_1187 ?_
                refine lv_iload hx hb dL_law_1188 (lv_at hl 0 rfl) ?_
                refine lv_i2l (v := r_497.toInt64) hx hb dL_law_1190 rfl ?_
                refine W.lcmp hx hb dL_law_1191 ?_
                refine lv_if_eq (tgt := 1197) hx hb dL_law_1192 (by decide) (fun hc_514 => ?_) (fun hc_514 => ?_)
                · have hw := hw.1 hc_514
                  refine lv_goto (tgt := 2604) hx hb dL_law_1197 (by decide) ?_
                  refine lv_iinc (v := x5_15 + (6 : Int32)) (lv' := [(5, .int (x5_15 + (6 : Int32))), (7, .int r_497), (6, .int r_485), (0, .ref bb), (1, va_rf (some q_1)), (2, va_rf (some q_6)), (3, va_rf (some q_11)), (4, va_rf (some q_13))]) hx hb dL_law_2604 hl (k := 7) rfl rfl (by decide) rfl (fun ls hl => ?_)
                  refine lv_goto (tgt := 28) hx hb dL_law_2607 (by decide) ?_
                  exact ih_15 _ _ _ _ H locs cells slots ls (Nat.lt_of_lt_of_le hw.2 (Nat.le_of_lt_succ hn_15)) hw.1 hI hbc hbs (lv_sub hl [3, 4, 5, 6, 7, 0] rfl)
                · have hw := hw.2 hc_514
                  refine lv_iconst (v := 0) hx hb dL_law_1195 (by decide) ?_
                  exact hw.elim
            · have hw := hw.2 hc_510
              refine lv_iconst (v := 0) hx hb dL_law_1178 (by decide) ?_
              exact hw.elim
        have hw := hw.2 hc_478
        by_cases hc_515 : w_17 &&& (63 : Int32) = (14 : Int32)
        · have hw := hw.1 hc_515
          refine lv_tableIn (tgt := 1200) hx hb dL_law_45 (by rw [hc_515]; decide) (by rw [hc_515]; decide) (off := 1155) (by rw [hc_515]; rfl) (by decide) ?_
          refine ga_aload_n hx hb dL_law_1200 rfl (lv_at hl 1 rfl) ?_
          refine lv_aload_n hx hb dL_law_1201 rfl (lv_at hl 0 rfl) ?_
          refine lv_iload hx hb dL_law_1202 (lv_at hl 5 rfl) ?_
          refine lv_iconst (v := 1) hx hb dL_law_1204 (by decide) ?_
          refine lv_iadd hx hb dL_law_1205 ?_
          obtain ⟨hi, hw⟩ := hw
          refine va_sld hx hb hX hbl hbA hI.2.2 hi dL_law_1206 ?_
          refine lv_topi (fun w_516 ew_516 => ?_)
          have hw := hw w_516 ew_516
          refine ga_aload_n hx hb dL_law_1207 rfl (lv_at hl 3 rfl) ?_
          obtain ⟨kc_517, ks_518, hk1, hk2, hw⟩ := hw
          refine ga_xcalli (vx_runSX (As := [va_rf (some q_1), .int w_516, va_rf (some q_11)]) (rest := []) ⟨hx, hb, hml, hown, hts⟩ (gm_X0_cancel l hst g (some q_1) w_516 (some q_11) h_15 kc_517 ks_518 _ _ hw) (vx_cwSW 3 hts (lw_SW q2413 q2414 q99 q2415) rfl rfl rfl hdG_X0_cancel ⟨Nat.le_of_ble_eq_true rfl, Nat.le_of_ble_eq_true rfl⟩) (ga_preS hI rfl) rfl rfl hl.1 rfl (ga_room (Nat.le_of_ble_eq_true rfl)) dL_law_1208 ⟨Nat.le_trans (Nat.add_le_add_left hk1 _) hbc, Nat.le_trans (Nat.add_le_add_left hk2 _) hbs⟩) hI hbc hbs hk1 hk2 (fun E_521 q_522 h_523 ce H locs cells slots hw hI hce hbc hbs => ?_) (fun r_520 h_519 H locs cells slots hw hI hbc hbs => ?_)
          · exact hw.elim
          · skip
            refine lv_istore (lv' := [(6, .int r_520), (0, .ref bb), (1, va_rf (some q_1)), (2, va_rf (some q_6)), (3, va_rf (some q_11)), (4, va_rf (some q_13)), (5, .int x5_15)]) hx hb dL_law_1211 hl (by decide) rfl (fun ls hl => ?_)
            refine ga_aload_n hx hb dL_law_1213 rfl (lv_at hl 3 rfl) ?_
            refine lv_aload_n hx hb dL_law_1214 rfl (lv_at hl 1 rfl) ?_
            refine lv_iload hx hb dL_law_1215 (lv_at hl 6 rfl) ?_
            refine lv_iconst (v := 1) hx hb dL_law_1217 (by decide) ?_
            refine lv_iadd hx hb dL_law_1218 ?_
            obtain ⟨hi, hw⟩ := hw
            refine va_sld hx hb hX hbl hbA hI.2.2 hi dL_law_1219 ?_
            refine lv_topi (fun w_524 ew_524 => ?_)
            have hw := hw w_524 ew_524
            obtain ⟨za_525, zl_526, zt_527, zc_528, S_529, T_533, hw⟩ := hw
            refine ga_callTi (z := (q_6, za_525, zl_526, zt_527, zc_528)) (va_runV (As := [.int w_524]) (rest := []) ⟨hx, hb, hml, hown, hts⟩ (zm_cancel l (ga_gz g (q_6, za_525, zl_526, zt_527, zc_528)) w_524 S_529 _ hw) (cwV 1 hts (lw_V q3879 q3880 q3881 q113 q3882) rfl rfl rfl hdT_cancel ⟨Nat.le_of_ble_eq_true rfl, Nat.le_of_ble_eq_true rfl⟩) (ga_preT hI T_533 rfl) rfl rfl hl.1 rfl (ga_room (Nat.le_of_ble_eq_true rfl)) dL_law_1220 ⟨Nat.le_trans (Nat.add_le_add_left (Nat.zero_le _) _) hbc, Nat.le_trans (Nat.add_le_add_left (Nat.zero_le _) _) hbs⟩) hI T_533 hbc hbs (fun r_530 S_531 H locs cells slots hw hI hbc hbs => ?_)
            obtain ⟨h_532, eh_532⟩ : ∃ z, z = ga_tws (q_6, za_525, zl_526, zt_527, zc_528) h_519 S_531 := ⟨_, rfl⟩
            rw [← eh_532] at hI
            have hw := hw h_532 eh_532
            refine lv_istore (lv' := [(7, .int r_530), (6, .int r_520), (0, .ref bb), (1, va_rf (some q_1)), (2, va_rf (some q_6)), (3, va_rf (some q_11)), (4, va_rf (some q_13)), (5, .int x5_15)]) hx hb dL_law_1223 hl (by decide) rfl (fun ls hl => ?_)
            refine ga_aload_n hx hb dL_law_1225 rfl (lv_at hl 4 rfl) ?_
            obtain ⟨za_534, zl_535, zt_536, zc_537, S_538, T_542, hw⟩ := hw
            refine ga_callTi (z := (q_6, za_534, zl_535, zt_536, zc_537)) (va_runV (As := []) (rest := []) ⟨hx, hb, hml, hown, hts⟩ (zm_thrown l (ga_gz g (q_6, za_534, zl_535, zt_536, zc_537))  S_538 _ hw) (cwV 0 hts (lw_V q3681 q3682 q3683 q113 q3684) rfl rfl rfl hdT_thrown ⟨Nat.le_of_ble_eq_true rfl, Nat.le_of_ble_eq_true rfl⟩) (ga_preT hI T_542 rfl) rfl rfl hl.1 rfl (ga_room (Nat.le_of_ble_eq_true rfl)) dL_law_1226 ⟨Nat.le_trans (Nat.add_le_add_left (Nat.zero_le _) _) hbc, Nat.le_trans (Nat.add_le_add_left (Nat.zero_le _) _) hbs⟩) hI T_542 hbc hbs (fun r_539 S_540 H locs cells slots hw hI hbc hbs => ?_)
            obtain ⟨h_541, eh_541⟩ : ∃ z, z = ga_tws (q_6, za_534, zl_535, zt_536, zc_537) h_532 S_540 := ⟨_, rfl⟩
            rw [← eh_541] at hI
            have hw := hw h_541 eh_541
            refine lv_iload hx hb dL_law_1229 (lv_at hl 1 rfl) ?_
            refine lv_icmp_eq (tgt := 1236) hx hb dL_law_1231 (by decide) (fun hc_543 => ?_) (fun hc_543 => ?_)
            · have hw := hw.1 hc_543
              refine lv_iload hx hb dL_law_1236 (lv_at hl 1 rfl) ?_
              refine lv_if_ne (tgt := 1253) hx hb dL_law_1238 (by decide) (fun hc_544 => ?_) (fun hc_544 => ?_)
              · have hw := hw.1 hc_544
                refine lv_goto (tgt := 2604) hx hb dL_law_1253 (by decide) ?_
                refine lv_iinc (v := x5_15 + (6 : Int32)) (lv' := [(5, .int (x5_15 + (6 : Int32))), (7, .int r_530), (6, .int r_520), (0, .ref bb), (1, va_rf (some q_1)), (2, va_rf (some q_6)), (3, va_rf (some q_11)), (4, va_rf (some q_13))]) hx hb dL_law_2604 hl (k := 7) rfl rfl (by decide) rfl (fun ls hl => ?_)
                refine lv_goto (tgt := 28) hx hb dL_law_2607 (by decide) ?_
                exact ih_15 _ _ _ _ H locs cells slots ls (Nat.lt_of_lt_of_le hw.2 (Nat.le_of_lt_succ hn_15)) hw.1 hI hbc hbs (lv_sub hl [3, 4, 5, 6, 7, 0] rfl)
              · have hw := hw.2 hc_544
                refine ga_aload_n hx hb dL_law_1241 rfl (lv_at hl 5 rfl) ?_
                refine lv_iconst (v := 0) hx hb dL_law_1242 (by decide) ?_
                obtain ⟨n_545, f_546, hq, hi, hw⟩ := hw
                refine ga_ldl hx hb hI (ga_at.h hq) hi dL_law_1243 ?_
                refine lv_iload hx hb dL_law_1244 (lv_at hl 0 rfl) ?_
                refine lv_i2l (v := r_530.toInt64) hx hb dL_law_1246 rfl ?_
                refine W.lcmp hx hb dL_law_1247 ?_
                refine lv_if_eq (tgt := 1253) hx hb dL_law_1248 (by decide) (fun hc_547 => ?_) (fun hc_547 => ?_)
                · have hw := hw.1 hc_547
                  refine lv_goto (tgt := 2604) hx hb dL_law_1253 (by decide) ?_
                  refine lv_iinc (v := x5_15 + (6 : Int32)) (lv' := [(5, .int (x5_15 + (6 : Int32))), (7, .int r_530), (6, .int r_520), (0, .ref bb), (1, va_rf (some q_1)), (2, va_rf (some q_6)), (3, va_rf (some q_11)), (4, va_rf (some q_13))]) hx hb dL_law_2604 hl (k := 7) rfl rfl (by decide) rfl (fun ls hl => ?_)
                  refine lv_goto (tgt := 28) hx hb dL_law_2607 (by decide) ?_
                  exact ih_15 _ _ _ _ H locs cells slots ls (Nat.lt_of_lt_of_le hw.2 (Nat.le_of_lt_succ hn_15)) hw.1 hI hbc hbs (lv_sub hl [3, 4, 5, 6, 7, 0] rfl)
                · have hw := hw.2 hc_547
                  refine lv_iconst (v := 0) hx hb dL_law_1251 (by decide) ?_
                  exact hw.elim
            · have hw := hw.2 hc_543
              refine lv_iconst (v := 0) hx hb dL_law_1234 (by decide) ?_
              exact hw.elim
        have hw := hw.2 hc_515
        by_cases hc_548 : w_17 &&& (63 : Int32) = (15 : Int32)
        · have hw := hw.1 hc_548
          refine lv_tableIn (tgt := 1256) hx hb dL_law_45 (by rw [hc_548]; decide) (by rw [hc_548]; decide) (off := 1211) (by rw [hc_548]; rfl) (by decide) ?_
          refine ga_aload_n hx hb dL_law_1256 rfl (lv_at hl 1 rfl) ?_
          refine lv_aload_n hx hb dL_law_1257 rfl (lv_at hl 0 rfl) ?_
          refine lv_iload hx hb dL_law_1258 (lv_at hl 5 rfl) ?_
          refine lv_iconst (v := 1) hx hb dL_law_1260 (by decide) ?_
          refine lv_iadd hx hb dL_law_1261 ?_
          obtain ⟨hi, hw⟩ := hw
          refine va_sld hx hb hX hbl hbA hI.2.2 hi dL_law_1262 ?_
          refine lv_topi (fun w_549 ew_549 => ?_)
          have hw := hw w_549 ew_549
          refine ga_aload_n hx hb dL_law_1263 rfl (lv_at hl 3 rfl) ?_
          obtain ⟨kc_550, ks_551, hk1, hk2, hw⟩ := hw
          refine ga_xcalli (vx_runSX (As := [va_rf (some q_1), .int w_549, va_rf (some q_11)]) (rest := []) ⟨hx, hb, hml, hown, hts⟩ (gm_X0_cart l hst g (some q_1) w_549 (some q_11) h_15 kc_550 ks_551 _ _ hw) (vx_cwSW 3 hts (lw_SW q2449 q2450 q99 q2451) rfl rfl rfl hdG_X0_cart ⟨Nat.le_of_ble_eq_true rfl, Nat.le_of_ble_eq_true rfl⟩) (ga_preS hI rfl) rfl rfl hl.1 rfl (ga_room (Nat.le_of_ble_eq_true rfl)) dL_law_1264 ⟨Nat.le_trans (Nat.add_le_add_left hk1 _) hbc, Nat.le_trans (Nat.add_le_add_left hk2 _) hbs⟩) hI hbc hbs hk1 hk2 (fun E_554 q_555 h_556 ce H locs cells slots hw hI hce hbc hbs => ?_) (fun r_553 h_552 H locs cells slots hw hI hbc hbs => ?_)
          · exact hw.elim
          · skip
            refine lv_istore (lv' := [(6, .int r_553), (0, .ref bb), (1, va_rf (some q_1)), (2, va_rf (some q_6)), (3, va_rf (some q_11)), (4, va_rf (some q_13)), (5, .int x5_15)]) hx hb dL_law_1267 hl (by decide) rfl (fun ls hl => ?_)
            refine ga_aload_n hx hb dL_law_1269 rfl (lv_at hl 3 rfl) ?_
            refine lv_aload_n hx hb dL_law_1270 rfl (lv_at hl 1 rfl) ?_
            refine lv_iload hx hb dL_law_1271 (lv_at hl 6 rfl) ?_
            refine lv_iconst (v := 1) hx hb dL_law_1273 (by decide) ?_
            refine lv_iadd hx hb dL_law_1274 ?_
            obtain ⟨hi, hw⟩ := hw
            refine va_sld hx hb hX hbl hbA hI.2.2 hi dL_law_1275 ?_
            refine lv_topi (fun w_557 ew_557 => ?_)
            have hw := hw w_557 ew_557
            obtain ⟨za_558, zl_559, zt_560, zc_561, S_562, T_566, hw⟩ := hw
            refine ga_callTi (z := (q_6, za_558, zl_559, zt_560, zc_561)) (va_runV (As := [.int w_557]) (rest := []) ⟨hx, hb, hml, hown, hts⟩ (zm_cart l (ga_gz g (q_6, za_558, zl_559, zt_560, zc_561)) w_557 S_562 _ hw) (cwV 1 hts (lw_V q3915 q3916 q3917 q113 q3918) rfl rfl rfl hdT_cart ⟨Nat.le_of_ble_eq_true rfl, Nat.le_of_ble_eq_true rfl⟩) (ga_preT hI T_566 rfl) rfl rfl hl.1 rfl (ga_room (Nat.le_of_ble_eq_true rfl)) dL_law_1276 ⟨Nat.le_trans (Nat.add_le_add_left (Nat.zero_le _) _) hbc, Nat.le_trans (Nat.add_le_add_left (Nat.zero_le _) _) hbs⟩) hI T_566 hbc hbs (fun r_563 S_564 H locs cells slots hw hI hbc hbs => ?_)
            obtain ⟨h_565, eh_565⟩ : ∃ z, z = ga_tws (q_6, za_558, zl_559, zt_560, zc_561) h_552 S_564 := ⟨_, rfl⟩
            rw [← eh_565] at hI
            have hw := hw h_565 eh_565
            refine lv_istore (lv' := [(7, .int r_563), (6, .int r_553), (0, .ref bb), (1, va_rf (some q_1)), (2, va_rf (some q_6)), (3, va_rf (some q_11)), (4, va_rf (some q_13)), (5, .int x5_15)]) hx hb dL_law_1279 hl (by decide) rfl (fun ls hl => ?_)
            refine ga_aload_n hx hb dL_law_1281 rfl (lv_at hl 4 rfl) ?_
            obtain ⟨za_567, zl_568, zt_569, zc_570, S_571, T_575, hw⟩ := hw
            refine ga_callTi (z := (q_6, za_567, zl_568, zt_569, zc_570)) (va_runV (As := []) (rest := []) ⟨hx, hb, hml, hown, hts⟩ (zm_thrown l (ga_gz g (q_6, za_567, zl_568, zt_569, zc_570))  S_571 _ hw) (cwV 0 hts (lw_V q3681 q3682 q3683 q113 q3684) rfl rfl rfl hdT_thrown ⟨Nat.le_of_ble_eq_true rfl, Nat.le_of_ble_eq_true rfl⟩) (ga_preT hI T_575 rfl) rfl rfl hl.1 rfl (ga_room (Nat.le_of_ble_eq_true rfl)) dL_law_1282 ⟨Nat.le_trans (Nat.add_le_add_left (Nat.zero_le _) _) hbc, Nat.le_trans (Nat.add_le_add_left (Nat.zero_le _) _) hbs⟩) hI T_575 hbc hbs (fun r_572 S_573 H locs cells slots hw hI hbc hbs => ?_)
            obtain ⟨h_574, eh_574⟩ : ∃ z, z = ga_tws (q_6, za_567, zl_568, zt_569, zc_570) h_565 S_573 := ⟨_, rfl⟩
            rw [← eh_574] at hI
            have hw := hw h_574 eh_574
            refine lv_iload hx hb dL_law_1285 (lv_at hl 1 rfl) ?_
            refine lv_icmp_eq (tgt := 1292) hx hb dL_law_1287 (by decide) (fun hc_576 => ?_) (fun hc_576 => ?_)
            · have hw := hw.1 hc_576
              refine lv_iload hx hb dL_law_1292 (lv_at hl 1 rfl) ?_
              refine lv_if_ne (tgt := 1309) hx hb dL_law_1294 (by decide) (fun hc_577 => ?_) (fun hc_577 => ?_)
              · have hw := hw.1 hc_577
                refine lv_goto (tgt := 2604) hx hb dL_law_1309 (by decide) ?_
                refine lv_iinc (v := x5_15 + (6 : Int32)) (lv' := [(5, .int (x5_15 + (6 : Int32))), (7, .int r_563), (6, .int r_553), (0, .ref bb), (1, va_rf (some q_1)), (2, va_rf (some q_6)), (3, va_rf (some q_11)), (4, va_rf (some q_13))]) hx hb dL_law_2604 hl (k := 7) rfl rfl (by decide) rfl (fun ls hl => ?_)
                refine lv_goto (tgt := 28) hx hb dL_law_2607 (by decide) ?_
                exact ih_15 _ _ _ _ H locs cells slots ls (Nat.lt_of_lt_of_le hw.2 (Nat.le_of_lt_succ hn_15)) hw.1 hI hbc hbs (lv_sub hl [3, 4, 5, 6, 7, 0] rfl)
              · have hw := hw.2 hc_577
                refine ga_aload_n hx hb dL_law_1297 rfl (lv_at hl 5 rfl) ?_
                refine lv_iconst (v := 0) hx hb dL_law_1298 (by decide) ?_
                obtain ⟨n_578, f_579, hq, hi, hw⟩ := hw
                refine ga_ldl hx hb hI (ga_at.h hq) hi dL_law_1299 ?_
                refine lv_iload hx hb dL_law_1300 (lv_at hl 0 rfl) ?_
                refine lv_i2l (v := r_563.toInt64) hx hb dL_law_1302 rfl ?_
                refine W.lcmp hx hb dL_law_1303 ?_
                refine lv_if_eq (tgt := 1309) hx hb dL_law_1304 (by decide) (fun hc_580 => ?_) (fun hc_580 => ?_)
                · have hw := hw.1 hc_580
                  refine lv_goto (tgt := 2604) hx hb dL_law_1309 (by decide) ?_
                  refine lv_iinc (v := x5_15 + (6 : Int32)) (lv' := [(5, .int (x5_15 + (6 : Int32))), (7, .int r_563), (6, .int r_553), (0, .ref bb), (1, va_rf (some q_1)), (2, va_rf (some q_6)), (3, va_rf (some q_11)), (4, va_rf (some q_13))]) hx hb dL_law_2604 hl (k := 7) rfl rfl (by decide) rfl (fun ls hl => ?_)
                  refine lv_goto (tgt := 28) hx hb dL_law_2607 (by decide) ?_
                  exact ih_15 _ _ _ _ H locs cells slots ls (Nat.lt_of_lt_of_le hw.2 (Nat.le_of_lt_succ hn_15)) hw.1 hI hbc hbs (lv_sub hl [3, 4, 5, 6, 7, 0] rfl)
                · have hw := hw.2 hc_580
                  refine lv_iconst (v := 0) hx hb dL_law_1307 (by decide) ?_
                  exact hw.elim
            · have hw := hw.2 hc_576
              refine lv_iconst (v := 0) hx hb dL_law_1290 (by decide) ?_
              exact hw.elim
        have hw := hw.2 hc_548
        by_cases hc_581 : w_17 &&& (63 : Int32) = (16 : Int32)
        · have hw := hw.1 hc_581
          refine lv_tableIn (tgt := 1312) hx hb dL_law_45 (by rw [hc_581]; decide) (by rw [hc_581]; decide) (off := 1267) (by rw [hc_581]; rfl) (by decide) ?_
          refine ga_aload_n hx hb dL_law_1312 rfl (lv_at hl 1 rfl) ?_
          refine lv_aload_n hx hb dL_law_1313 rfl (lv_at hl 0 rfl) ?_
          refine lv_iload hx hb dL_law_1314 (lv_at hl 5 rfl) ?_
          refine lv_iconst (v := 1) hx hb dL_law_1316 (by decide) ?_
          refine lv_iadd hx hb dL_law_1317 ?_
          obtain ⟨hi, hw⟩ := hw
          refine va_sld hx hb hX hbl hbA hI.2.2 hi dL_law_1318 ?_
          refine lv_topi (fun w_582 ew_582 => ?_)
          have hw := hw w_582 ew_582
          refine lv_aload_n hx hb dL_law_1319 rfl (lv_at hl 0 rfl) ?_
          refine lv_iload hx hb dL_law_1320 (lv_at hl 5 rfl) ?_
          refine lv_iconst (v := 2) hx hb dL_law_1322 (by decide) ?_
          refine lv_iadd hx hb dL_law_1323 ?_
          obtain ⟨hi, hw⟩ := hw
          refine va_sld hx hb hX hbl hbA hI.2.2 hi dL_law_1324 ?_
          refine lv_topi (fun w_583 ew_583 => ?_)
          have hw := hw w_583 ew_583
          refine lv_aload_n hx hb dL_law_1325 rfl (lv_at hl 0 rfl) ?_
          refine lv_iload hx hb dL_law_1326 (lv_at hl 5 rfl) ?_
          refine lv_iconst (v := 3) hx hb dL_law_1328 (by decide) ?_
          refine lv_iadd hx hb dL_law_1329 ?_
          obtain ⟨hi, hw⟩ := hw
          refine va_sld hx hb hX hbl hbA hI.2.2 hi dL_law_1330 ?_
          refine lv_topi (fun w_584 ew_584 => ?_)
          have hw := hw w_584 ew_584
          refine ga_aload_n hx hb dL_law_1331 rfl (lv_at hl 3 rfl) ?_
          obtain ⟨kc_585, ks_586, hk1, hk2, hw⟩ := hw
          refine ga_xcalli (vx_runSX (As := [va_rf (some q_1), .int w_582, .int w_583, .int w_584, va_rf (some q_11)]) (rest := []) ⟨hx, hb, hml, hown, hts⟩ (gm_X0_gather l hst g (some q_1) w_582 w_583 w_584 (some q_11) h_15 kc_585 ks_586 _ _ hw) (vx_cwSW 5 hts (lw_SW q2461 q2462 q99 q2463) rfl rfl rfl hdG_X0_gather ⟨Nat.le_of_ble_eq_true rfl, Nat.le_of_ble_eq_true rfl⟩) (ga_preS hI rfl) rfl rfl hl.1 rfl (ga_room (Nat.le_of_ble_eq_true rfl)) dL_law_1332 ⟨Nat.le_trans (Nat.add_le_add_left hk1 _) hbc, Nat.le_trans (Nat.add_le_add_left hk2 _) hbs⟩) hI hbc hbs hk1 hk2 (fun E_589 q_590 h_591 ce H locs cells slots hw hI hce hbc hbs => ?_) (fun r_588 h_587 H locs cells slots hw hI hbc hbs => ?_)
          · exact hw.elim
          · skip
            refine lv_istore (lv' := [(6, .int r_588), (0, .ref bb), (1, va_rf (some q_1)), (2, va_rf (some q_6)), (3, va_rf (some q_11)), (4, va_rf (some q_13)), (5, .int x5_15)]) hx hb dL_law_1335 hl (by decide) rfl (fun ls hl => ?_)
            refine ga_aload_n hx hb dL_law_1337 rfl (lv_at hl 3 rfl) ?_
            refine lv_aload_n hx hb dL_law_1338 rfl (lv_at hl 1 rfl) ?_
            refine lv_iload hx hb dL_law_1339 (lv_at hl 6 rfl) ?_
            refine lv_iconst (v := 1) hx hb dL_law_1341 (by decide) ?_
            refine lv_iadd hx hb dL_law_1342 ?_
            obtain ⟨hi, hw⟩ := hw
            refine va_sld hx hb hX hbl hbA hI.2.2 hi dL_law_1343 ?_
            refine lv_topi (fun w_592 ew_592 => ?_)
            have hw := hw w_592 ew_592
            refine lv_aload_n hx hb dL_law_1344 rfl (lv_at hl 1 rfl) ?_
            refine lv_iload hx hb dL_law_1345 (lv_at hl 6 rfl) ?_
            refine lv_iconst (v := 2) hx hb dL_law_1347 (by decide) ?_
            refine lv_iadd hx hb dL_law_1348 ?_
            obtain ⟨hi, hw⟩ := hw
            refine va_sld hx hb hX hbl hbA hI.2.2 hi dL_law_1349 ?_
            refine lv_topi (fun w_593 ew_593 => ?_)
            have hw := hw w_593 ew_593
            refine lv_aload_n hx hb dL_law_1350 rfl (lv_at hl 1 rfl) ?_
            refine lv_iload hx hb dL_law_1351 (lv_at hl 6 rfl) ?_
            refine lv_iconst (v := 3) hx hb dL_law_1353 (by decide) ?_
            refine lv_iadd hx hb dL_law_1354 ?_
            obtain ⟨hi, hw⟩ := hw
            refine va_sld hx hb hX hbl hbA hI.2.2 hi dL_law_1355 ?_
            refine lv_topi (fun w_594 ew_594 => ?_)
            have hw := hw w_594 ew_594
            obtain ⟨za_595, zl_596, zt_597, zc_598, S_599, T_603, hw⟩ := hw
            refine ga_callTi (z := (q_6, za_595, zl_596, zt_597, zc_598)) (va_runV (As := [.int w_592, .int w_593, .int w_594]) (rest := []) ⟨hx, hb, hml, hown, hts⟩ (zm_gather l (ga_gz g (q_6, za_595, zl_596, zt_597, zc_598)) w_592 w_593 w_594 S_599 _ hw) (cwV 3 hts (lw_V q3919 q3920 q3921 q113 q3922) rfl rfl rfl hdT_gather ⟨Nat.le_of_ble_eq_true rfl, Nat.le_of_ble_eq_true rfl⟩) (ga_preT hI T_603 rfl) rfl rfl hl.1 rfl (ga_room (Nat.le_of_ble_eq_true rfl)) dL_law_1356 ⟨Nat.le_trans (Nat.add_le_add_left (Nat.zero_le _) _) hbc, Nat.le_trans (Nat.add_le_add_left (Nat.zero_le _) _) hbs⟩) hI T_603 hbc hbs (fun r_600 S_601 H locs cells slots hw hI hbc hbs => ?_)
            obtain ⟨h_602, eh_602⟩ : ∃ z, z = ga_tws (q_6, za_595, zl_596, zt_597, zc_598) h_587 S_601 := ⟨_, rfl⟩
            rw [← eh_602] at hI
            have hw := hw h_602 eh_602
            refine lv_istore (lv' := [(7, .int r_600), (6, .int r_588), (0, .ref bb), (1, va_rf (some q_1)), (2, va_rf (some q_6)), (3, va_rf (some q_11)), (4, va_rf (some q_13)), (5, .int x5_15)]) hx hb dL_law_1359 hl (by decide) rfl (fun ls hl => ?_)
            refine ga_aload_n hx hb dL_law_1361 rfl (lv_at hl 4 rfl) ?_
            obtain ⟨za_604, zl_605, zt_606, zc_607, S_608, T_612, hw⟩ := hw
            refine ga_callTi (z := (q_6, za_604, zl_605, zt_606, zc_607)) (va_runV (As := []) (rest := []) ⟨hx, hb, hml, hown, hts⟩ (zm_thrown l (ga_gz g (q_6, za_604, zl_605, zt_606, zc_607))  S_608 _ hw) (cwV 0 hts (lw_V q3681 q3682 q3683 q113 q3684) rfl rfl rfl hdT_thrown ⟨Nat.le_of_ble_eq_true rfl, Nat.le_of_ble_eq_true rfl⟩) (ga_preT hI T_612 rfl) rfl rfl hl.1 rfl (ga_room (Nat.le_of_ble_eq_true rfl)) dL_law_1362 ⟨Nat.le_trans (Nat.add_le_add_left (Nat.zero_le _) _) hbc, Nat.le_trans (Nat.add_le_add_left (Nat.zero_le _) _) hbs⟩) hI T_612 hbc hbs (fun r_609 S_610 H locs cells slots hw hI hbc hbs => ?_)
            obtain ⟨h_611, eh_611⟩ : ∃ z, z = ga_tws (q_6, za_604, zl_605, zt_606, zc_607) h_602 S_610 := ⟨_, rfl⟩
            rw [← eh_611] at hI
            have hw := hw h_611 eh_611
            refine lv_iload hx hb dL_law_1365 (lv_at hl 1 rfl) ?_
            refine lv_icmp_eq (tgt := 1372) hx hb dL_law_1367 (by decide) (fun hc_613 => ?_) (fun hc_613 => ?_)
            · have hw := hw.1 hc_613
              refine lv_iload hx hb dL_law_1372 (lv_at hl 1 rfl) ?_
              refine lv_if_ne (tgt := 1389) hx hb dL_law_1374 (by decide) (fun hc_614 => ?_) (fun hc_614 => ?_)
              · have hw := hw.1 hc_614
                refine lv_goto (tgt := 2604) hx hb dL_law_1389 (by decide) ?_
                refine lv_iinc (v := x5_15 + (6 : Int32)) (lv' := [(5, .int (x5_15 + (6 : Int32))), (7, .int r_600), (6, .int r_588), (0, .ref bb), (1, va_rf (some q_1)), (2, va_rf (some q_6)), (3, va_rf (some q_11)), (4, va_rf (some q_13))]) hx hb dL_law_2604 hl (k := 7) rfl rfl (by decide) rfl (fun ls hl => ?_)
                refine lv_goto (tgt := 28) hx hb dL_law_2607 (by decide) ?_
                exact ih_15 _ _ _ _ H locs cells slots ls (Nat.lt_of_lt_of_le hw.2 (Nat.le_of_lt_succ hn_15)) hw.1 hI hbc hbs (lv_sub hl [3, 4, 5, 6, 7, 0] rfl)
              · have hw := hw.2 hc_614
                refine ga_aload_n hx hb dL_law_1377 rfl (lv_at hl 5 rfl) ?_
                refine lv_iconst (v := 0) hx hb dL_law_1378 (by decide) ?_
                obtain ⟨n_615, f_616, hq, hi, hw⟩ := hw
                refine ga_ldl hx hb hI (ga_at.h hq) hi dL_law_1379 ?_
                refine lv_iload hx hb dL_law_1380 (lv_at hl 0 rfl) ?_
                refine lv_i2l (v := r_600.toInt64) hx hb dL_law_1382 rfl ?_
                refine W.lcmp hx hb dL_law_1383 ?_
                refine lv_if_eq (tgt := 1389) hx hb dL_law_1384 (by decide) (fun hc_617 => ?_) (fun hc_617 => ?_)
                · have hw := hw.1 hc_617
                  refine lv_goto (tgt := 2604) hx hb dL_law_1389 (by decide) ?_
                  refine lv_iinc (v := x5_15 + (6 : Int32)) (lv' := [(5, .int (x5_15 + (6 : Int32))), (7, .int r_600), (6, .int r_588), (0, .ref bb), (1, va_rf (some q_1)), (2, va_rf (some q_6)), (3, va_rf (some q_11)), (4, va_rf (some q_13))]) hx hb dL_law_2604 hl (k := 7) rfl rfl (by decide) rfl (fun ls hl => ?_)
                  refine lv_goto (tgt := 28) hx hb dL_law_2607 (by decide) ?_
                  exact ih_15 _ _ _ _ H locs cells slots ls (Nat.lt_of_lt_of_le hw.2 (Nat.le_of_lt_succ hn_15)) hw.1 hI hbc hbs (lv_sub hl [3, 4, 5, 6, 7, 0] rfl)
                · have hw := hw.2 hc_617
                  refine lv_iconst (v := 0) hx hb dL_law_1387 (by decide) ?_
                  exact hw.elim
            · have hw := hw.2 hc_613
              refine lv_iconst (v := 0) hx hb dL_law_1370 (by decide) ?_
              exact hw.elim
        have hw := hw.2 hc_581
        by_cases hc_618 : w_17 &&& (63 : Int32) = (17 : Int32)
        · have hw := hw.1 hc_618
          refine lv_tableIn (tgt := 1392) hx hb dL_law_45 (by rw [hc_618]; decide) (by rw [hc_618]; decide) (off := 1347) (by rw [hc_618]; rfl) (by decide) ?_
          refine ga_aload_n hx hb dL_law_1392 rfl (lv_at hl 1 rfl) ?_
          refine lv_aload_n hx hb dL_law_1393 rfl (lv_at hl 0 rfl) ?_
          refine lv_iload hx hb dL_law_1394 (lv_at hl 5 rfl) ?_
          refine lv_iconst (v := 1) hx hb dL_law_1396 (by decide) ?_
          refine lv_iadd hx hb dL_law_1397 ?_
          obtain ⟨hi, hw⟩ := hw
          refine va_sld hx hb hX hbl hbA hI.2.2 hi dL_law_1398 ?_
          refine lv_topi (fun w_619 ew_619 => ?_)
          have hw := hw w_619 ew_619
          refine ga_aload_n hx hb dL_law_1399 rfl (lv_at hl 3 rfl) ?_
          obtain ⟨kc_620, ks_621, hk1, hk2, hw⟩ := hw
          refine ga_xcalli (vx_runSX (As := [va_rf (some q_1), .int w_619, va_rf (some q_11)]) (rest := []) ⟨hx, hb, hml, hown, hts⟩ (gm_X0_send l hst g (some q_1) w_619 (some q_11) h_15 kc_620 ks_621 _ _ hw) (vx_cwSW 3 hts (lw_SW q2496 q2497 q99 q2498) rfl rfl rfl hdG_X0_send ⟨Nat.le_of_ble_eq_true rfl, Nat.le_of_ble_eq_true rfl⟩) (ga_preS hI rfl) rfl rfl hl.1 rfl (ga_room (Nat.le_of_ble_eq_true rfl)) dL_law_1400 ⟨Nat.le_trans (Nat.add_le_add_left hk1 _) hbc, Nat.le_trans (Nat.add_le_add_left hk2 _) hbs⟩) hI hbc hbs hk1 hk2 (fun E_624 q_625 h_626 ce H locs cells slots hw hI hce hbc hbs => ?_) (fun r_623 h_622 H locs cells slots hw hI hbc hbs => ?_)
          · exact hw.elim
          · skip
            refine lv_istore (lv' := [(6, .int r_623), (0, .ref bb), (1, va_rf (some q_1)), (2, va_rf (some q_6)), (3, va_rf (some q_11)), (4, va_rf (some q_13)), (5, .int x5_15)]) hx hb dL_law_1403 hl (by decide) rfl (fun ls hl => ?_)
            refine ga_aload_n hx hb dL_law_1405 rfl (lv_at hl 3 rfl) ?_
            refine lv_aload_n hx hb dL_law_1406 rfl (lv_at hl 1 rfl) ?_
            refine lv_iload hx hb dL_law_1407 (lv_at hl 6 rfl) ?_
            refine lv_iconst (v := 1) hx hb dL_law_1409 (by decide) ?_
            refine lv_iadd hx hb dL_law_1410 ?_
            obtain ⟨hi, hw⟩ := hw
            refine va_sld hx hb hX hbl hbA hI.2.2 hi dL_law_1411 ?_
            refine lv_topi (fun w_627 ew_627 => ?_)
            have hw := hw w_627 ew_627
            obtain ⟨za_628, zl_629, zt_630, zc_631, S_632, T_636, hw⟩ := hw
            refine ga_callTi (z := (q_6, za_628, zl_629, zt_630, zc_631)) (va_runV (As := [.int w_627]) (rest := []) ⟨hx, hb, hml, hown, hts⟩ (zm_send l (ga_gz g (q_6, za_628, zl_629, zt_630, zc_631)) w_627 S_632 _ hw) (cwV 1 hts (lw_V q3939 q3940 q3941 q113 q3942) rfl rfl rfl hdT_send ⟨Nat.le_of_ble_eq_true rfl, Nat.le_of_ble_eq_true rfl⟩) (ga_preT hI T_636 rfl) rfl rfl hl.1 rfl (ga_room (Nat.le_of_ble_eq_true rfl)) dL_law_1412 ⟨Nat.le_trans (Nat.add_le_add_left (Nat.zero_le _) _) hbc, Nat.le_trans (Nat.add_le_add_left (Nat.zero_le _) _) hbs⟩) hI T_636 hbc hbs (fun r_633 S_634 H locs cells slots hw hI hbc hbs => ?_)
            obtain ⟨h_635, eh_635⟩ : ∃ z, z = ga_tws (q_6, za_628, zl_629, zt_630, zc_631) h_622 S_634 := ⟨_, rfl⟩
            rw [← eh_635] at hI
            have hw := hw h_635 eh_635
            refine lv_istore (lv' := [(7, .int r_633), (6, .int r_623), (0, .ref bb), (1, va_rf (some q_1)), (2, va_rf (some q_6)), (3, va_rf (some q_11)), (4, va_rf (some q_13)), (5, .int x5_15)]) hx hb dL_law_1415 hl (by decide) rfl (fun ls hl => ?_)
            refine ga_aload_n hx hb dL_law_1417 rfl (lv_at hl 4 rfl) ?_
            obtain ⟨za_637, zl_638, zt_639, zc_640, S_641, T_645, hw⟩ := hw
            refine ga_callTi (z := (q_6, za_637, zl_638, zt_639, zc_640)) (va_runV (As := []) (rest := []) ⟨hx, hb, hml, hown, hts⟩ (zm_thrown l (ga_gz g (q_6, za_637, zl_638, zt_639, zc_640))  S_641 _ hw) (cwV 0 hts (lw_V q3681 q3682 q3683 q113 q3684) rfl rfl rfl hdT_thrown ⟨Nat.le_of_ble_eq_true rfl, Nat.le_of_ble_eq_true rfl⟩) (ga_preT hI T_645 rfl) rfl rfl hl.1 rfl (ga_room (Nat.le_of_ble_eq_true rfl)) dL_law_1418 ⟨Nat.le_trans (Nat.add_le_add_left (Nat.zero_le _) _) hbc, Nat.le_trans (Nat.add_le_add_left (Nat.zero_le _) _) hbs⟩) hI T_645 hbc hbs (fun r_642 S_643 H locs cells slots hw hI hbc hbs => ?_)
            obtain ⟨h_644, eh_644⟩ : ∃ z, z = ga_tws (q_6, za_637, zl_638, zt_639, zc_640) h_635 S_643 := ⟨_, rfl⟩
            rw [← eh_644] at hI
            have hw := hw h_644 eh_644
            refine lv_iload hx hb dL_law_1421 (lv_at hl 1 rfl) ?_
            refine lv_icmp_eq (tgt := 1428) hx hb dL_law_1423 (by decide) (fun hc_646 => ?_) (fun hc_646 => ?_)
            · have hw := hw.1 hc_646
              refine lv_iload hx hb dL_law_1428 (lv_at hl 1 rfl) ?_
              refine lv_if_ne (tgt := 1445) hx hb dL_law_1430 (by decide) (fun hc_647 => ?_) (fun hc_647 => ?_)
              · have hw := hw.1 hc_647
                refine lv_goto (tgt := 2604) hx hb dL_law_1445 (by decide) ?_
                refine lv_iinc (v := x5_15 + (6 : Int32)) (lv' := [(5, .int (x5_15 + (6 : Int32))), (7, .int r_633), (6, .int r_623), (0, .ref bb), (1, va_rf (some q_1)), (2, va_rf (some q_6)), (3, va_rf (some q_11)), (4, va_rf (some q_13))]) hx hb dL_law_2604 hl (k := 7) rfl rfl (by decide) rfl (fun ls hl => ?_)
                refine lv_goto (tgt := 28) hx hb dL_law_2607 (by decide) ?_
                exact ih_15 _ _ _ _ H locs cells slots ls (Nat.lt_of_lt_of_le hw.2 (Nat.le_of_lt_succ hn_15)) hw.1 hI hbc hbs (lv_sub hl [3, 4, 5, 6, 7, 0] rfl)
              · have hw := hw.2 hc_647
                refine ga_aload_n hx hb dL_law_1433 rfl (lv_at hl 5 rfl) ?_
                refine lv_iconst (v := 0) hx hb dL_law_1434 (by decide) ?_
                obtain ⟨n_648, f_649, hq, hi, hw⟩ := hw
                refine ga_ldl hx hb hI (ga_at.h hq) hi dL_law_1435 ?_
                refine lv_iload hx hb dL_law_1436 (lv_at hl 0 rfl) ?_
                refine lv_i2l (v := r_633.toInt64) hx hb dL_law_1438 rfl ?_
                refine W.lcmp hx hb dL_law_1439 ?_
                refine lv_if_eq (tgt := 1445) hx hb dL_law_1440 (by decide) (fun hc_650 => ?_) (fun hc_650 => ?_)
                · have hw := hw.1 hc_650
                  refine lv_goto (tgt := 2604) hx hb dL_law_1445 (by decide) ?_
                  refine lv_iinc (v := x5_15 + (6 : Int32)) (lv' := [(5, .int (x5_15 + (6 : Int32))), (7, .int r_633), (6, .int r_623), (0, .ref bb), (1, va_rf (some q_1)), (2, va_rf (some q_6)), (3, va_rf (some q_11)), (4, va_rf (some q_13))]) hx hb dL_law_2604 hl (k := 7) rfl rfl (by decide) rfl (fun ls hl => ?_)
                  refine lv_goto (tgt := 28) hx hb dL_law_2607 (by decide) ?_
                  exact ih_15 _ _ _ _ H locs cells slots ls (Nat.lt_of_lt_of_le hw.2 (Nat.le_of_lt_succ hn_15)) hw.1 hI hbc hbs (lv_sub hl [3, 4, 5, 6, 7, 0] rfl)
                · have hw := hw.2 hc_650
                  refine lv_iconst (v := 0) hx hb dL_law_1443 (by decide) ?_
                  exact hw.elim
            · have hw := hw.2 hc_646
              refine lv_iconst (v := 0) hx hb dL_law_1426 (by decide) ?_
              exact hw.elim
        have hw := hw.2 hc_618
        by_cases hc_651 : w_17 &&& (63 : Int32) = (18 : Int32)
        · have hw := hw.1 hc_651
          refine lv_tableIn (tgt := 1448) hx hb dL_law_45 (by rw [hc_651]; decide) (by rw [hc_651]; decide) (off := 1403) (by rw [hc_651]; rfl) (by decide) ?_
          refine ga_aload_n hx hb dL_law_1448 rfl (lv_at hl 1 rfl) ?_
          refine lv_aload_n hx hb dL_law_1449 rfl (lv_at hl 0 rfl) ?_
          refine lv_iload hx hb dL_law_1450 (lv_at hl 5 rfl) ?_
          refine lv_iconst (v := 1) hx hb dL_law_1452 (by decide) ?_
          refine lv_iadd hx hb dL_law_1453 ?_
          obtain ⟨hi, hw⟩ := hw
          refine va_sld hx hb hX hbl hbA hI.2.2 hi dL_law_1454 ?_
          refine lv_topi (fun w_652 ew_652 => ?_)
          have hw := hw w_652 ew_652
          refine lv_aload_n hx hb dL_law_1455 rfl (lv_at hl 0 rfl) ?_
          refine lv_iload hx hb dL_law_1456 (lv_at hl 5 rfl) ?_
          refine lv_iconst (v := 2) hx hb dL_law_1458 (by decide) ?_
          refine lv_iadd hx hb dL_law_1459 ?_
          obtain ⟨hi, hw⟩ := hw
          refine va_sld hx hb hX hbl hbA hI.2.2 hi dL_law_1460 ?_
          refine lv_topi (fun w_653 ew_653 => ?_)
          have hw := hw w_653 ew_653
          refine ga_aload_n hx hb dL_law_1461 rfl (lv_at hl 3 rfl) ?_
          obtain ⟨kc_654, ks_655, hk1, hk2, hw⟩ := hw
          refine ga_xcalli (vx_runSX (As := [va_rf (some q_1), .int w_652, .int w_653, va_rf (some q_11)]) (rest := []) ⟨hx, hb, hml, hown, hts⟩ (gm_X0_orderOf l hst g (some q_1) w_652 w_653 (some q_11) h_15 kc_654 ks_655 _ _ hw) (vx_cwSW 4 hts (lw_SW q2553 q2554 q99 q2555) rfl rfl rfl hdG_X0_orderOf ⟨Nat.le_of_ble_eq_true rfl, Nat.le_of_ble_eq_true rfl⟩) (ga_preS hI rfl) rfl rfl hl.1 rfl (ga_room (Nat.le_of_ble_eq_true rfl)) dL_law_1462 ⟨Nat.le_trans (Nat.add_le_add_left hk1 _) hbc, Nat.le_trans (Nat.add_le_add_left hk2 _) hbs⟩) hI hbc hbs hk1 hk2 (fun E_658 q_659 h_660 ce H locs cells slots hw hI hce hbc hbs => ?_) (fun r_657 h_656 H locs cells slots hw hI hbc hbs => ?_)
          · exact hw.elim
          · skip
            refine lv_istore (lv' := [(6, .int r_657), (0, .ref bb), (1, va_rf (some q_1)), (2, va_rf (some q_6)), (3, va_rf (some q_11)), (4, va_rf (some q_13)), (5, .int x5_15)]) hx hb dL_law_1465 hl (by decide) rfl (fun ls hl => ?_)
            refine ga_aload_n hx hb dL_law_1467 rfl (lv_at hl 3 rfl) ?_
            refine lv_aload_n hx hb dL_law_1468 rfl (lv_at hl 1 rfl) ?_
            refine lv_iload hx hb dL_law_1469 (lv_at hl 6 rfl) ?_
            refine lv_iconst (v := 1) hx hb dL_law_1471 (by decide) ?_
            refine lv_iadd hx hb dL_law_1472 ?_
            obtain ⟨hi, hw⟩ := hw
            refine va_sld hx hb hX hbl hbA hI.2.2 hi dL_law_1473 ?_
            refine lv_topi (fun w_661 ew_661 => ?_)
            have hw := hw w_661 ew_661
            refine lv_aload_n hx hb dL_law_1474 rfl (lv_at hl 1 rfl) ?_
            refine lv_iload hx hb dL_law_1475 (lv_at hl 6 rfl) ?_
            refine lv_iconst (v := 2) hx hb dL_law_1477 (by decide) ?_
            refine lv_iadd hx hb dL_law_1478 ?_
            obtain ⟨hi, hw⟩ := hw
            refine va_sld hx hb hX hbl hbA hI.2.2 hi dL_law_1479 ?_
            refine lv_topi (fun w_662 ew_662 => ?_)
            have hw := hw w_662 ew_662
            obtain ⟨za_663, zl_664, zt_665, zc_666, S_667, T_671, hw⟩ := hw
            refine ga_callTi (z := (q_6, za_663, zl_664, zt_665, zc_666)) (va_runV (As := [.int w_661, .int w_662]) (rest := []) ⟨hx, hb, hml, hown, hts⟩ (zm_orderOf l (ga_gz g (q_6, za_663, zl_664, zt_665, zc_666)) w_661 w_662 S_667 _ hw) (cwV 2 hts (lw_V q3947 q3948 q3949 q113 q3950) rfl rfl rfl hdT_orderOf ⟨Nat.le_of_ble_eq_true rfl, Nat.le_of_ble_eq_true rfl⟩) (ga_preT hI T_671 rfl) rfl rfl hl.1 rfl (ga_room (Nat.le_of_ble_eq_true rfl)) dL_law_1480 ⟨Nat.le_trans (Nat.add_le_add_left (Nat.zero_le _) _) hbc, Nat.le_trans (Nat.add_le_add_left (Nat.zero_le _) _) hbs⟩) hI T_671 hbc hbs (fun r_668 S_669 H locs cells slots hw hI hbc hbs => ?_)
            obtain ⟨h_670, eh_670⟩ : ∃ z, z = ga_tws (q_6, za_663, zl_664, zt_665, zc_666) h_656 S_669 := ⟨_, rfl⟩
            rw [← eh_670] at hI
            have hw := hw h_670 eh_670
            refine lv_istore (lv' := [(7, .int r_668), (6, .int r_657), (0, .ref bb), (1, va_rf (some q_1)), (2, va_rf (some q_6)), (3, va_rf (some q_11)), (4, va_rf (some q_13)), (5, .int x5_15)]) hx hb dL_law_1483 hl (by decide) rfl (fun ls hl => ?_)
            refine ga_aload_n hx hb dL_law_1485 rfl (lv_at hl 4 rfl) ?_
            obtain ⟨za_672, zl_673, zt_674, zc_675, S_676, T_680, hw⟩ := hw
            refine ga_callTi (z := (q_6, za_672, zl_673, zt_674, zc_675)) (va_runV (As := []) (rest := []) ⟨hx, hb, hml, hown, hts⟩ (zm_thrown l (ga_gz g (q_6, za_672, zl_673, zt_674, zc_675))  S_676 _ hw) (cwV 0 hts (lw_V q3681 q3682 q3683 q113 q3684) rfl rfl rfl hdT_thrown ⟨Nat.le_of_ble_eq_true rfl, Nat.le_of_ble_eq_true rfl⟩) (ga_preT hI T_680 rfl) rfl rfl hl.1 rfl (ga_room (Nat.le_of_ble_eq_true rfl)) dL_law_1486 ⟨Nat.le_trans (Nat.add_le_add_left (Nat.zero_le _) _) hbc, Nat.le_trans (Nat.add_le_add_left (Nat.zero_le _) _) hbs⟩) hI T_680 hbc hbs (fun r_677 S_678 H locs cells slots hw hI hbc hbs => ?_)
            obtain ⟨h_679, eh_679⟩ : ∃ z, z = ga_tws (q_6, za_672, zl_673, zt_674, zc_675) h_670 S_678 := ⟨_, rfl⟩
            rw [← eh_679] at hI
            have hw := hw h_679 eh_679
            refine lv_iload hx hb dL_law_1489 (lv_at hl 1 rfl) ?_
            refine lv_icmp_eq (tgt := 1496) hx hb dL_law_1491 (by decide) (fun hc_681 => ?_) (fun hc_681 => ?_)
            · have hw := hw.1 hc_681
              refine lv_iload hx hb dL_law_1496 (lv_at hl 1 rfl) ?_
              refine lv_if_ne (tgt := 1513) hx hb dL_law_1498 (by decide) (fun hc_682 => ?_) (fun hc_682 => ?_)
              · have hw := hw.1 hc_682
                refine lv_goto (tgt := 2604) hx hb dL_law_1513 (by decide) ?_
                refine lv_iinc (v := x5_15 + (6 : Int32)) (lv' := [(5, .int (x5_15 + (6 : Int32))), (7, .int r_668), (6, .int r_657), (0, .ref bb), (1, va_rf (some q_1)), (2, va_rf (some q_6)), (3, va_rf (some q_11)), (4, va_rf (some q_13))]) hx hb dL_law_2604 hl (k := 7) rfl rfl (by decide) rfl (fun ls hl => ?_)
                refine lv_goto (tgt := 28) hx hb dL_law_2607 (by decide) ?_
                exact ih_15 _ _ _ _ H locs cells slots ls (Nat.lt_of_lt_of_le hw.2 (Nat.le_of_lt_succ hn_15)) hw.1 hI hbc hbs (lv_sub hl [3, 4, 5, 6, 7, 0] rfl)
              · have hw := hw.2 hc_682
                refine ga_aload_n hx hb dL_law_1501 rfl (lv_at hl 5 rfl) ?_
                refine lv_iconst (v := 0) hx hb dL_law_1502 (by decide) ?_
                obtain ⟨n_683, f_684, hq, hi, hw⟩ := hw
                refine ga_ldl hx hb hI (ga_at.h hq) hi dL_law_1503 ?_
                refine lv_iload hx hb dL_law_1504 (lv_at hl 0 rfl) ?_
                refine lv_i2l (v := r_668.toInt64) hx hb dL_law_1506 rfl ?_
                refine W.lcmp hx hb dL_law_1507 ?_
                refine lv_if_eq (tgt := 1513) hx hb dL_law_1508 (by decide) (fun hc_685 => ?_) (fun hc_685 => ?_)
                · have hw := hw.1 hc_685
                  refine lv_goto (tgt := 2604) hx hb dL_law_1513 (by decide) ?_
                  refine lv_iinc (v := x5_15 + (6 : Int32)) (lv' := [(5, .int (x5_15 + (6 : Int32))), (7, .int r_668), (6, .int r_657), (0, .ref bb), (1, va_rf (some q_1)), (2, va_rf (some q_6)), (3, va_rf (some q_11)), (4, va_rf (some q_13))]) hx hb dL_law_2604 hl (k := 7) rfl rfl (by decide) rfl (fun ls hl => ?_)
                  refine lv_goto (tgt := 28) hx hb dL_law_2607 (by decide) ?_
                  exact ih_15 _ _ _ _ H locs cells slots ls (Nat.lt_of_lt_of_le hw.2 (Nat.le_of_lt_succ hn_15)) hw.1 hI hbc hbs (lv_sub hl [3, 4, 5, 6, 7, 0] rfl)
                · have hw := hw.2 hc_685
                  refine lv_iconst (v := 0) hx hb dL_law_1511 (by decide) ?_
                  exact hw.elim
            · have hw := hw.2 hc_681
              refine lv_iconst (v := 0) hx hb dL_law_1494 (by decide) ?_
              exact hw.elim
        have hw := hw.2 hc_651
        by_cases hc_686 : w_17 &&& (63 : Int32) = (19 : Int32)
        · have hw := hw.1 hc_686
          refine lv_tableIn (tgt := 1516) hx hb dL_law_45 (by rw [hc_686]; decide) (by rw [hc_686]; decide) (off := 1471) (by rw [hc_686]; rfl) (by decide) ?_
          refine ga_aload_n hx hb dL_law_1516 rfl (lv_at hl 1 rfl) ?_
          refine lv_aload_n hx hb dL_law_1517 rfl (lv_at hl 0 rfl) ?_
          refine lv_iload hx hb dL_law_1518 (lv_at hl 5 rfl) ?_
          refine lv_iconst (v := 1) hx hb dL_law_1520 (by decide) ?_
          refine lv_iadd hx hb dL_law_1521 ?_
          obtain ⟨hi, hw⟩ := hw
          refine va_sld hx hb hX hbl hbA hI.2.2 hi dL_law_1522 ?_
          refine lv_topi (fun w_687 ew_687 => ?_)
          have hw := hw w_687 ew_687
          refine ga_aload_n hx hb dL_law_1523 rfl (lv_at hl 3 rfl) ?_
          obtain ⟨kc_688, ks_689, hk1, hk2, hw⟩ := hw
          refine ga_xcalli (vx_runSX (As := [va_rf (some q_1), .int w_687, va_rf (some q_11)]) (rest := []) ⟨hx, hb, hml, hown, hts⟩ (gm_X0_lacking l hst g (some q_1) w_687 (some q_11) h_15 kc_688 ks_689 _ _ hw) (vx_cwSW 3 hts (lw_SW q2560 q2561 q99 q2562) rfl rfl rfl hdG_X0_lacking ⟨Nat.le_of_ble_eq_true rfl, Nat.le_of_ble_eq_true rfl⟩) (ga_preS hI rfl) rfl rfl hl.1 rfl (ga_room (Nat.le_of_ble_eq_true rfl)) dL_law_1524 ⟨Nat.le_trans (Nat.add_le_add_left hk1 _) hbc, Nat.le_trans (Nat.add_le_add_left hk2 _) hbs⟩) hI hbc hbs hk1 hk2 (fun E_692 q_693 h_694 ce H locs cells slots hw hI hce hbc hbs => ?_) (fun r_691 h_690 H locs cells slots hw hI hbc hbs => ?_)
          · exact hw.elim
          · skip
            refine lv_istore (lv' := [(6, .int r_691), (0, .ref bb), (1, va_rf (some q_1)), (2, va_rf (some q_6)), (3, va_rf (some q_11)), (4, va_rf (some q_13)), (5, .int x5_15)]) hx hb dL_law_1527 hl (by decide) rfl (fun ls hl => ?_)
            refine ga_aload_n hx hb dL_law_1529 rfl (lv_at hl 3 rfl) ?_
            refine lv_aload_n hx hb dL_law_1530 rfl (lv_at hl 1 rfl) ?_
            refine lv_iload hx hb dL_law_1531 (lv_at hl 6 rfl) ?_
            refine lv_iconst (v := 1) hx hb dL_law_1533 (by decide) ?_
            refine lv_iadd hx hb dL_law_1534 ?_
            obtain ⟨hi, hw⟩ := hw
            refine va_sld hx hb hX hbl hbA hI.2.2 hi dL_law_1535 ?_
            refine lv_topi (fun w_695 ew_695 => ?_)
            have hw := hw w_695 ew_695
            obtain ⟨za_696, zl_697, zt_698, zc_699, S_700, T_704, hw⟩ := hw
            refine ga_callTi (z := (q_6, za_696, zl_697, zt_698, zc_699)) (va_runV (As := [.int w_695]) (rest := []) ⟨hx, hb, hml, hown, hts⟩ (zm_lacking l (ga_gz g (q_6, za_696, zl_697, zt_698, zc_699)) w_695 S_700 _ hw) (cwV 1 hts (lw_V q3951 q3952 q3953 q113 q3954) rfl rfl rfl hdT_lacking ⟨Nat.le_of_ble_eq_true rfl, Nat.le_of_ble_eq_true rfl⟩) (ga_preT hI T_704 rfl) rfl rfl hl.1 rfl (ga_room (Nat.le_of_ble_eq_true rfl)) dL_law_1536 ⟨Nat.le_trans (Nat.add_le_add_left (Nat.zero_le _) _) hbc, Nat.le_trans (Nat.add_le_add_left (Nat.zero_le _) _) hbs⟩) hI T_704 hbc hbs (fun r_701 S_702 H locs cells slots hw hI hbc hbs => ?_)
            obtain ⟨h_703, eh_703⟩ : ∃ z, z = ga_tws (q_6, za_696, zl_697, zt_698, zc_699) h_690 S_702 := ⟨_, rfl⟩
            rw [← eh_703] at hI
            have hw := hw h_703 eh_703
            refine lv_istore (lv' := [(7, .int r_701), (6, .int r_691), (0, .ref bb), (1, va_rf (some q_1)), (2, va_rf (some q_6)), (3, va_rf (some q_11)), (4, va_rf (some q_13)), (5, .int x5_15)]) hx hb dL_law_1539 hl (by decide) rfl (fun ls hl => ?_)
            refine ga_aload_n hx hb dL_law_1541 rfl (lv_at hl 4 rfl) ?_
            obtain ⟨za_705, zl_706, zt_707, zc_708, S_709, T_713, hw⟩ := hw
            refine ga_callTi (z := (q_6, za_705, zl_706, zt_707, zc_708)) (va_runV (As := []) (rest := []) ⟨hx, hb, hml, hown, hts⟩ (zm_thrown l (ga_gz g (q_6, za_705, zl_706, zt_707, zc_708))  S_709 _ hw) (cwV 0 hts (lw_V q3681 q3682 q3683 q113 q3684) rfl rfl rfl hdT_thrown ⟨Nat.le_of_ble_eq_true rfl, Nat.le_of_ble_eq_true rfl⟩) (ga_preT hI T_713 rfl) rfl rfl hl.1 rfl (ga_room (Nat.le_of_ble_eq_true rfl)) dL_law_1542 ⟨Nat.le_trans (Nat.add_le_add_left (Nat.zero_le _) _) hbc, Nat.le_trans (Nat.add_le_add_left (Nat.zero_le _) _) hbs⟩) hI T_713 hbc hbs (fun r_710 S_711 H locs cells slots hw hI hbc hbs => ?_)
            obtain ⟨h_712, eh_712⟩ : ∃ z, z = ga_tws (q_6, za_705, zl_706, zt_707, zc_708) h_703 S_711 := ⟨_, rfl⟩
            rw [← eh_712] at hI
            have hw := hw h_712 eh_712
            refine lv_iload hx hb dL_law_1545 (lv_at hl 1 rfl) ?_
            refine lv_icmp_eq (tgt := 1552) hx hb dL_law_1547 (by decide) (fun hc_714 => ?_) (fun hc_714 => ?_)
            · have hw := hw.1 hc_714
              refine lv_iload hx hb dL_law_1552 (lv_at hl 1 rfl) ?_
              refine lv_if_ne (tgt := 1569) hx hb dL_law_1554 (by decide) (fun hc_715 => ?_) (fun hc_715 => ?_)
              · have hw := hw.1 hc_715
                refine lv_goto (tgt := 2604) hx hb dL_law_1569 (by decide) ?_
                refine lv_iinc (v := x5_15 + (6 : Int32)) (lv' := [(5, .int (x5_15 + (6 : Int32))), (7, .int r_701), (6, .int r_691), (0, .ref bb), (1, va_rf (some q_1)), (2, va_rf (some q_6)), (3, va_rf (some q_11)), (4, va_rf (some q_13))]) hx hb dL_law_2604 hl (k := 7) rfl rfl (by decide) rfl (fun ls hl => ?_)
                refine lv_goto (tgt := 28) hx hb dL_law_2607 (by decide) ?_
                exact ih_15 _ _ _ _ H locs cells slots ls (Nat.lt_of_lt_of_le hw.2 (Nat.le_of_lt_succ hn_15)) hw.1 hI hbc hbs (lv_sub hl [3, 4, 5, 6, 7, 0] rfl)
              · have hw := hw.2 hc_715
                refine ga_aload_n hx hb dL_law_1557 rfl (lv_at hl 5 rfl) ?_
                refine lv_iconst (v := 0) hx hb dL_law_1558 (by decide) ?_
                obtain ⟨n_716, f_717, hq, hi, hw⟩ := hw
                refine ga_ldl hx hb hI (ga_at.h hq) hi dL_law_1559 ?_
                refine lv_iload hx hb dL_law_1560 (lv_at hl 0 rfl) ?_
                refine lv_i2l (v := r_701.toInt64) hx hb dL_law_1562 rfl ?_
                refine W.lcmp hx hb dL_law_1563 ?_
                refine lv_if_eq (tgt := 1569) hx hb dL_law_1564 (by decide) (fun hc_718 => ?_) (fun hc_718 => ?_)
                · have hw := hw.1 hc_718
                  refine lv_goto (tgt := 2604) hx hb dL_law_1569 (by decide) ?_
                  refine lv_iinc (v := x5_15 + (6 : Int32)) (lv' := [(5, .int (x5_15 + (6 : Int32))), (7, .int r_701), (6, .int r_691), (0, .ref bb), (1, va_rf (some q_1)), (2, va_rf (some q_6)), (3, va_rf (some q_11)), (4, va_rf (some q_13))]) hx hb dL_law_2604 hl (k := 7) rfl rfl (by decide) rfl (fun ls hl => ?_)
                  refine lv_goto (tgt := 28) hx hb dL_law_2607 (by decide) ?_
                  exact ih_15 _ _ _ _ H locs cells slots ls (Nat.lt_of_lt_of_le hw.2 (Nat.le_of_lt_succ hn_15)) hw.1 hI hbc hbs (lv_sub hl [3, 4, 5, 6, 7, 0] rfl)
                · have hw := hw.2 hc_718
                  refine lv_iconst (v := 0) hx hb dL_law_1567 (by decide) ?_
                  exact hw.elim
            · have hw := hw.2 hc_714
              refine lv_iconst (v := 0) hx hb dL_law_1550 (by decide) ?_
              exact hw.elim
        have hw := hw.2 hc_686
        by_cases hc_719 : w_17 &&& (63 : Int32) = (20 : Int32)
        · have hw := hw.1 hc_719
          refine lv_tableIn (tgt := 1572) hx hb dL_law_45 (by rw [hc_719]; decide) (by rw [hc_719]; decide) (off := 1527) (by rw [hc_719]; rfl) (by decide) ?_
          refine ga_aload_n hx hb dL_law_1572 rfl (lv_at hl 1 rfl) ?_
          refine lv_aload_n hx hb dL_law_1573 rfl (lv_at hl 0 rfl) ?_
          refine lv_iload hx hb dL_law_1574 (lv_at hl 5 rfl) ?_
          refine lv_iconst (v := 1) hx hb dL_law_1576 (by decide) ?_
          refine lv_iadd hx hb dL_law_1577 ?_
          obtain ⟨hi, hw⟩ := hw
          refine va_sld hx hb hX hbl hbA hI.2.2 hi dL_law_1578 ?_
          refine lv_topi (fun w_720 ew_720 => ?_)
          have hw := hw w_720 ew_720
          refine ga_aload_n hx hb dL_law_1579 rfl (lv_at hl 3 rfl) ?_
          obtain ⟨kc_721, ks_722, hk1, hk2, hw⟩ := hw
          refine ga_xcalli (vx_runSX (As := [va_rf (some q_1), .int w_720, va_rf (some q_11)]) (rest := []) ⟨hx, hb, hml, hown, hts⟩ (gm_X0_bestLadder l hst g (some q_1) w_720 (some q_11) h_15 kc_721 ks_722 _ _ hw) (vx_cwSW 3 hts (lw_SW q2579 q2580 q99 q2581) rfl rfl rfl hdG_X0_bestLadder ⟨Nat.le_of_ble_eq_true rfl, Nat.le_of_ble_eq_true rfl⟩) (ga_preS hI rfl) rfl rfl hl.1 rfl (ga_room (Nat.le_of_ble_eq_true rfl)) dL_law_1580 ⟨Nat.le_trans (Nat.add_le_add_left hk1 _) hbc, Nat.le_trans (Nat.add_le_add_left hk2 _) hbs⟩) hI hbc hbs hk1 hk2 (fun E_725 q_726 h_727 ce H locs cells slots hw hI hce hbc hbs => ?_) (fun r_724 h_723 H locs cells slots hw hI hbc hbs => ?_)
          · exact hw.elim
          · skip
            refine lv_istore (lv' := [(6, .int r_724), (0, .ref bb), (1, va_rf (some q_1)), (2, va_rf (some q_6)), (3, va_rf (some q_11)), (4, va_rf (some q_13)), (5, .int x5_15)]) hx hb dL_law_1583 hl (by decide) rfl (fun ls hl => ?_)
            refine ga_aload_n hx hb dL_law_1585 rfl (lv_at hl 3 rfl) ?_
            refine lv_aload_n hx hb dL_law_1586 rfl (lv_at hl 1 rfl) ?_
            refine lv_iload hx hb dL_law_1587 (lv_at hl 6 rfl) ?_
            refine lv_iconst (v := 1) hx hb dL_law_1589 (by decide) ?_
            refine lv_iadd hx hb dL_law_1590 ?_
            obtain ⟨hi, hw⟩ := hw
            refine va_sld hx hb hX hbl hbA hI.2.2 hi dL_law_1591 ?_
            refine lv_topi (fun w_728 ew_728 => ?_)
            have hw := hw w_728 ew_728
            obtain ⟨za_729, zl_730, zt_731, zc_732, S_733, T_737, hw⟩ := hw
            refine ga_callTi (z := (q_6, za_729, zl_730, zt_731, zc_732)) (va_runV (As := [.int w_728]) (rest := []) ⟨hx, hb, hml, hown, hts⟩ (zm_bestLadder l (ga_gz g (q_6, za_729, zl_730, zt_731, zc_732)) w_728 S_733 _ hw) (cwV 1 hts (lw_V q3959 q3960 q3961 q113 q3962) rfl rfl rfl hdT_bestLadder ⟨Nat.le_of_ble_eq_true rfl, Nat.le_of_ble_eq_true rfl⟩) (ga_preT hI T_737 rfl) rfl rfl hl.1 rfl (ga_room (Nat.le_of_ble_eq_true rfl)) dL_law_1592 ⟨Nat.le_trans (Nat.add_le_add_left (Nat.zero_le _) _) hbc, Nat.le_trans (Nat.add_le_add_left (Nat.zero_le _) _) hbs⟩) hI T_737 hbc hbs (fun r_734 S_735 H locs cells slots hw hI hbc hbs => ?_)
            obtain ⟨h_736, eh_736⟩ : ∃ z, z = ga_tws (q_6, za_729, zl_730, zt_731, zc_732) h_723 S_735 := ⟨_, rfl⟩
            rw [← eh_736] at hI
            have hw := hw h_736 eh_736
            refine lv_istore (lv' := [(7, .int r_734), (6, .int r_724), (0, .ref bb), (1, va_rf (some q_1)), (2, va_rf (some q_6)), (3, va_rf (some q_11)), (4, va_rf (some q_13)), (5, .int x5_15)]) hx hb dL_law_1595 hl (by decide) rfl (fun ls hl => ?_)
            refine ga_aload_n hx hb dL_law_1597 rfl (lv_at hl 4 rfl) ?_
            obtain ⟨za_738, zl_739, zt_740, zc_741, S_742, T_746, hw⟩ := hw
            refine ga_callTi (z := (q_6, za_738, zl_739, zt_740, zc_741)) (va_runV (As := []) (rest := []) ⟨hx, hb, hml, hown, hts⟩ (zm_thrown l (ga_gz g (q_6, za_738, zl_739, zt_740, zc_741))  S_742 _ hw) (cwV 0 hts (lw_V q3681 q3682 q3683 q113 q3684) rfl rfl rfl hdT_thrown ⟨Nat.le_of_ble_eq_true rfl, Nat.le_of_ble_eq_true rfl⟩) (ga_preT hI T_746 rfl) rfl rfl hl.1 rfl (ga_room (Nat.le_of_ble_eq_true rfl)) dL_law_1598 ⟨Nat.le_trans (Nat.add_le_add_left (Nat.zero_le _) _) hbc, Nat.le_trans (Nat.add_le_add_left (Nat.zero_le _) _) hbs⟩) hI T_746 hbc hbs (fun r_743 S_744 H locs cells slots hw hI hbc hbs => ?_)
            obtain ⟨h_745, eh_745⟩ : ∃ z, z = ga_tws (q_6, za_738, zl_739, zt_740, zc_741) h_736 S_744 := ⟨_, rfl⟩
            rw [← eh_745] at hI
            have hw := hw h_745 eh_745
            refine lv_iload hx hb dL_law_1601 (lv_at hl 1 rfl) ?_
            refine lv_icmp_eq (tgt := 1608) hx hb dL_law_1603 (by decide) (fun hc_747 => ?_) (fun hc_747 => ?_)
            · have hw := hw.1 hc_747
              refine lv_iload hx hb dL_law_1608 (lv_at hl 1 rfl) ?_
              refine lv_if_ne (tgt := 1625) hx hb dL_law_1610 (by decide) (fun hc_748 => ?_) (fun hc_748 => ?_)
              · have hw := hw.1 hc_748
                refine lv_goto (tgt := 2604) hx hb dL_law_1625 (by decide) ?_
                refine lv_iinc (v := x5_15 + (6 : Int32)) (lv' := [(5, .int (x5_15 + (6 : Int32))), (7, .int r_734), (6, .int r_724), (0, .ref bb), (1, va_rf (some q_1)), (2, va_rf (some q_6)), (3, va_rf (some q_11)), (4, va_rf (some q_13))]) hx hb dL_law_2604 hl (k := 7) rfl rfl (by decide) rfl (fun ls hl => ?_)
                refine lv_goto (tgt := 28) hx hb dL_law_2607 (by decide) ?_
                exact ih_15 _ _ _ _ H locs cells slots ls (Nat.lt_of_lt_of_le hw.2 (Nat.le_of_lt_succ hn_15)) hw.1 hI hbc hbs (lv_sub hl [3, 4, 5, 6, 7, 0] rfl)
              · have hw := hw.2 hc_748
                refine ga_aload_n hx hb dL_law_1613 rfl (lv_at hl 5 rfl) ?_
                refine lv_iconst (v := 0) hx hb dL_law_1614 (by decide) ?_
                obtain ⟨n_749, f_750, hq, hi, hw⟩ := hw
                refine ga_ldl hx hb hI (ga_at.h hq) hi dL_law_1615 ?_
                refine lv_iload hx hb dL_law_1616 (lv_at hl 0 rfl) ?_
                refine lv_i2l (v := r_734.toInt64) hx hb dL_law_1618 rfl ?_
                refine W.lcmp hx hb dL_law_1619 ?_
                refine lv_if_eq (tgt := 1625) hx hb dL_law_1620 (by decide) (fun hc_751 => ?_) (fun hc_751 => ?_)
                · have hw := hw.1 hc_751
                  refine lv_goto (tgt := 2604) hx hb dL_law_1625 (by decide) ?_
                  refine lv_iinc (v := x5_15 + (6 : Int32)) (lv' := [(5, .int (x5_15 + (6 : Int32))), (7, .int r_734), (6, .int r_724), (0, .ref bb), (1, va_rf (some q_1)), (2, va_rf (some q_6)), (3, va_rf (some q_11)), (4, va_rf (some q_13))]) hx hb dL_law_2604 hl (k := 7) rfl rfl (by decide) rfl (fun ls hl => ?_)
                  refine lv_goto (tgt := 28) hx hb dL_law_2607 (by decide) ?_
                  exact ih_15 _ _ _ _ H locs cells slots ls (Nat.lt_of_lt_of_le hw.2 (Nat.le_of_lt_succ hn_15)) hw.1 hI hbc hbs (lv_sub hl [3, 4, 5, 6, 7, 0] rfl)
                · have hw := hw.2 hc_751
                  refine lv_iconst (v := 0) hx hb dL_law_1623 (by decide) ?_
                  exact hw.elim
            · have hw := hw.2 hc_747
              refine lv_iconst (v := 0) hx hb dL_law_1606 (by decide) ?_
              exact hw.elim
        have hw := hw.2 hc_719
        by_cases hc_752 : w_17 &&& (63 : Int32) = (21 : Int32)
        · have hw := hw.1 hc_752
          refine lv_tableIn (tgt := 1628) hx hb dL_law_45 (by rw [hc_752]; decide) (by rw [hc_752]; decide) (off := 1583) (by rw [hc_752]; rfl) (by decide) ?_
          refine ga_aload_n hx hb dL_law_1628 rfl (lv_at hl 1 rfl) ?_
          refine lv_aload_n hx hb dL_law_1629 rfl (lv_at hl 0 rfl) ?_
          refine lv_iload hx hb dL_law_1630 (lv_at hl 5 rfl) ?_
          refine lv_iconst (v := 1) hx hb dL_law_1632 (by decide) ?_
          refine lv_iadd hx hb dL_law_1633 ?_
          obtain ⟨hi, hw⟩ := hw
          refine va_sld hx hb hX hbl hbA hI.2.2 hi dL_law_1634 ?_
          refine lv_topi (fun w_753 ew_753 => ?_)
          have hw := hw w_753 ew_753
          refine lv_aload_n hx hb dL_law_1635 rfl (lv_at hl 0 rfl) ?_
          refine lv_iload hx hb dL_law_1636 (lv_at hl 5 rfl) ?_
          refine lv_iconst (v := 2) hx hb dL_law_1638 (by decide) ?_
          refine lv_iadd hx hb dL_law_1639 ?_
          obtain ⟨hi, hw⟩ := hw
          refine va_sld hx hb hX hbl hbA hI.2.2 hi dL_law_1640 ?_
          refine lv_topi (fun w_754 ew_754 => ?_)
          have hw := hw w_754 ew_754
          refine ga_aload_n hx hb dL_law_1641 rfl (lv_at hl 3 rfl) ?_
          obtain ⟨kc_755, ks_756, hk1, hk2, hw⟩ := hw
          refine ga_xcalli (vx_runSX (As := [va_rf (some q_1), .int w_753, .int w_754, va_rf (some q_11)]) (rest := []) ⟨hx, hb, hml, hown, hts⟩ (gm_X0_cartOf l hst g (some q_1) w_753 w_754 (some q_11) h_15 kc_755 ks_756 _ _ hw) (vx_cwSW 4 hts (lw_SW q2590 q2591 q99 q2592) rfl rfl rfl hdG_X0_cartOf ⟨Nat.le_of_ble_eq_true rfl, Nat.le_of_ble_eq_true rfl⟩) (ga_preS hI rfl) rfl rfl hl.1 rfl (ga_room (Nat.le_of_ble_eq_true rfl)) dL_law_1642 ⟨Nat.le_trans (Nat.add_le_add_left hk1 _) hbc, Nat.le_trans (Nat.add_le_add_left hk2 _) hbs⟩) hI hbc hbs hk1 hk2 (fun E_759 q_760 h_761 ce H locs cells slots hw hI hce hbc hbs => ?_) (fun r_758 h_757 H locs cells slots hw hI hbc hbs => ?_)
          · exact hw.elim
          · skip
            refine lv_istore (lv' := [(6, .int r_758), (0, .ref bb), (1, va_rf (some q_1)), (2, va_rf (some q_6)), (3, va_rf (some q_11)), (4, va_rf (some q_13)), (5, .int x5_15)]) hx hb dL_law_1645 hl (by decide) rfl (fun ls hl => ?_)
            refine ga_aload_n hx hb dL_law_1647 rfl (lv_at hl 3 rfl) ?_
            refine lv_aload_n hx hb dL_law_1648 rfl (lv_at hl 1 rfl) ?_
            refine lv_iload hx hb dL_law_1649 (lv_at hl 6 rfl) ?_
            refine lv_iconst (v := 1) hx hb dL_law_1651 (by decide) ?_
            refine lv_iadd hx hb dL_law_1652 ?_
            obtain ⟨hi, hw⟩ := hw
            refine va_sld hx hb hX hbl hbA hI.2.2 hi dL_law_1653 ?_
            refine lv_topi (fun w_762 ew_762 => ?_)
            have hw := hw w_762 ew_762
            refine lv_aload_n hx hb dL_law_1654 rfl (lv_at hl 1 rfl) ?_
            refine lv_iload hx hb dL_law_1655 (lv_at hl 6 rfl) ?_
            refine lv_iconst (v := 2) hx hb dL_law_1657 (by decide) ?_
            refine lv_iadd hx hb dL_law_1658 ?_
            obtain ⟨hi, hw⟩ := hw
            refine va_sld hx hb hX hbl hbA hI.2.2 hi dL_law_1659 ?_
            refine lv_topi (fun w_763 ew_763 => ?_)
            have hw := hw w_763 ew_763
            obtain ⟨za_764, zl_765, zt_766, zc_767, S_768, T_772, hw⟩ := hw
            refine ga_callTi (z := (q_6, za_764, zl_765, zt_766, zc_767)) (va_runV (As := [.int w_762, .int w_763]) (rest := []) ⟨hx, hb, hml, hown, hts⟩ (zm_cartOf l (ga_gz g (q_6, za_764, zl_765, zt_766, zc_767)) w_762 w_763 S_768 _ hw) (cwV 2 hts (lw_V q3963 q3964 q3965 q113 q3966) rfl rfl rfl hdT_cartOf ⟨Nat.le_of_ble_eq_true rfl, Nat.le_of_ble_eq_true rfl⟩) (ga_preT hI T_772 rfl) rfl rfl hl.1 rfl (ga_room (Nat.le_of_ble_eq_true rfl)) dL_law_1660 ⟨Nat.le_trans (Nat.add_le_add_left (Nat.zero_le _) _) hbc, Nat.le_trans (Nat.add_le_add_left (Nat.zero_le _) _) hbs⟩) hI T_772 hbc hbs (fun r_769 S_770 H locs cells slots hw hI hbc hbs => ?_)
            obtain ⟨h_771, eh_771⟩ : ∃ z, z = ga_tws (q_6, za_764, zl_765, zt_766, zc_767) h_757 S_770 := ⟨_, rfl⟩
            rw [← eh_771] at hI
            have hw := hw h_771 eh_771
            refine lv_istore (lv' := [(7, .int r_769), (6, .int r_758), (0, .ref bb), (1, va_rf (some q_1)), (2, va_rf (some q_6)), (3, va_rf (some q_11)), (4, va_rf (some q_13)), (5, .int x5_15)]) hx hb dL_law_1663 hl (by decide) rfl (fun ls hl => ?_)
            refine ga_aload_n hx hb dL_law_1665 rfl (lv_at hl 4 rfl) ?_
            obtain ⟨za_773, zl_774, zt_775, zc_776, S_777, T_781, hw⟩ := hw
            refine ga_callTi (z := (q_6, za_773, zl_774, zt_775, zc_776)) (va_runV (As := []) (rest := []) ⟨hx, hb, hml, hown, hts⟩ (zm_thrown l (ga_gz g (q_6, za_773, zl_774, zt_775, zc_776))  S_777 _ hw) (cwV 0 hts (lw_V q3681 q3682 q3683 q113 q3684) rfl rfl rfl hdT_thrown ⟨Nat.le_of_ble_eq_true rfl, Nat.le_of_ble_eq_true rfl⟩) (ga_preT hI T_781 rfl) rfl rfl hl.1 rfl (ga_room (Nat.le_of_ble_eq_true rfl)) dL_law_1666 ⟨Nat.le_trans (Nat.add_le_add_left (Nat.zero_le _) _) hbc, Nat.le_trans (Nat.add_le_add_left (Nat.zero_le _) _) hbs⟩) hI T_781 hbc hbs (fun r_778 S_779 H locs cells slots hw hI hbc hbs => ?_)
            obtain ⟨h_780, eh_780⟩ : ∃ z, z = ga_tws (q_6, za_773, zl_774, zt_775, zc_776) h_771 S_779 := ⟨_, rfl⟩
            rw [← eh_780] at hI
            have hw := hw h_780 eh_780
            refine lv_iload hx hb dL_law_1669 (lv_at hl 1 rfl) ?_
            refine lv_icmp_eq (tgt := 1676) hx hb dL_law_1671 (by decide) (fun hc_782 => ?_) (fun hc_782 => ?_)
            · have hw := hw.1 hc_782
              refine lv_iload hx hb dL_law_1676 (lv_at hl 1 rfl) ?_
              refine lv_if_ne (tgt := 1693) hx hb dL_law_1678 (by decide) (fun hc_783 => ?_) (fun hc_783 => ?_)
              · have hw := hw.1 hc_783
                refine lv_goto (tgt := 2604) hx hb dL_law_1693 (by decide) ?_
                refine lv_iinc (v := x5_15 + (6 : Int32)) (lv' := [(5, .int (x5_15 + (6 : Int32))), (7, .int r_769), (6, .int r_758), (0, .ref bb), (1, va_rf (some q_1)), (2, va_rf (some q_6)), (3, va_rf (some q_11)), (4, va_rf (some q_13))]) hx hb dL_law_2604 hl (k := 7) rfl rfl (by decide) rfl (fun ls hl => ?_)
                refine lv_goto (tgt := 28) hx hb dL_law_2607 (by decide) ?_
                exact ih_15 _ _ _ _ H locs cells slots ls (Nat.lt_of_lt_of_le hw.2 (Nat.le_of_lt_succ hn_15)) hw.1 hI hbc hbs (lv_sub hl [3, 4, 5, 6, 7, 0] rfl)
              · have hw := hw.2 hc_783
                refine ga_aload_n hx hb dL_law_1681 rfl (lv_at hl 5 rfl) ?_
                refine lv_iconst (v := 0) hx hb dL_law_1682 (by decide) ?_
                obtain ⟨n_784, f_785, hq, hi, hw⟩ := hw
                refine ga_ldl hx hb hI (ga_at.h hq) hi dL_law_1683 ?_
                refine lv_iload hx hb dL_law_1684 (lv_at hl 0 rfl) ?_
                refine lv_i2l (v := r_769.toInt64) hx hb dL_law_1686 rfl ?_
                refine W.lcmp hx hb dL_law_1687 ?_
                refine lv_if_eq (tgt := 1693) hx hb dL_law_1688 (by decide) (fun hc_786 => ?_) (fun hc_786 => ?_)
                · have hw := hw.1 hc_786
                  refine lv_goto (tgt := 2604) hx hb dL_law_1693 (by decide) ?_
                  refine lv_iinc (v := x5_15 + (6 : Int32)) (lv' := [(5, .int (x5_15 + (6 : Int32))), (7, .int r_769), (6, .int r_758), (0, .ref bb), (1, va_rf (some q_1)), (2, va_rf (some q_6)), (3, va_rf (some q_11)), (4, va_rf (some q_13))]) hx hb dL_law_2604 hl (k := 7) rfl rfl (by decide) rfl (fun ls hl => ?_)
                  refine lv_goto (tgt := 28) hx hb dL_law_2607 (by decide) ?_
                  exact ih_15 _ _ _ _ H locs cells slots ls (Nat.lt_of_lt_of_le hw.2 (Nat.le_of_lt_succ hn_15)) hw.1 hI hbc hbs (lv_sub hl [3, 4, 5, 6, 7, 0] rfl)
                · have hw := hw.2 hc_786
                  refine lv_iconst (v := 0) hx hb dL_law_1691 (by decide) ?_
                  exact hw.elim
            · have hw := hw.2 hc_782
              refine lv_iconst (v := 0) hx hb dL_law_1674 (by decide) ?_
              exact hw.elim
        have hw := hw.2 hc_752
        by_cases hc_787 : w_17 &&& (63 : Int32) = (22 : Int32)
        · have hw := hw.1 hc_787
          refine lv_tableIn (tgt := 1696) hx hb dL_law_45 (by rw [hc_787]; decide) (by rw [hc_787]; decide) (off := 1651) (by rw [hc_787]; rfl) (by decide) ?_
          refine ga_aload_n hx hb dL_law_1696 rfl (lv_at hl 1 rfl) ?_
          refine lv_aload_n hx hb dL_law_1697 rfl (lv_at hl 0 rfl) ?_
          refine lv_iload hx hb dL_law_1698 (lv_at hl 5 rfl) ?_
          refine lv_iconst (v := 1) hx hb dL_law_1700 (by decide) ?_
          refine lv_iadd hx hb dL_law_1701 ?_
          obtain ⟨hi, hw⟩ := hw
          refine va_sld hx hb hX hbl hbA hI.2.2 hi dL_law_1702 ?_
          refine lv_topi (fun w_788 ew_788 => ?_)
          have hw := hw w_788 ew_788
          refine lv_aload_n hx hb dL_law_1703 rfl (lv_at hl 0 rfl) ?_
          refine lv_iload hx hb dL_law_1704 (lv_at hl 5 rfl) ?_
          refine lv_iconst (v := 2) hx hb dL_law_1706 (by decide) ?_
          refine lv_iadd hx hb dL_law_1707 ?_
          obtain ⟨hi, hw⟩ := hw
          refine va_sld hx hb hX hbl hbA hI.2.2 hi dL_law_1708 ?_
          refine lv_topi (fun w_789 ew_789 => ?_)
          have hw := hw w_789 ew_789
          refine lv_aload_n hx hb dL_law_1709 rfl (lv_at hl 0 rfl) ?_
          refine lv_iload hx hb dL_law_1710 (lv_at hl 5 rfl) ?_
          refine lv_iconst (v := 3) hx hb dL_law_1712 (by decide) ?_
          refine lv_iadd hx hb dL_law_1713 ?_
          obtain ⟨hi, hw⟩ := hw
          refine va_sld hx hb hX hbl hbA hI.2.2 hi dL_law_1714 ?_
          refine lv_topi (fun w_790 ew_790 => ?_)
          have hw := hw w_790 ew_790
          refine lv_if_eq (tgt := 1722) hx hb dL_law_1715 (by decide) (fun hc_791 => ?_) (fun hc_791 => ?_)
          · have hw := hw.1 hc_791
            refine lv_iconst (v := 0) hx hb dL_law_1722 (by decide) ?_
            exact gj_L_law_1723 g bb L xs hst hfin hX hbl hbA (fun (y0 : Int32) (T : ga_H) (B1 : Nat) (B2 : Nat) => In_15 y0 T B1 B2 ∧ mu_15 y0 T B1 B2 < mu_15 x5_15 h_15 bc_15 bs_15) (0 : Int32) w_789 w_788 (some q_1) (some q_1) (some q_6) (some q_11) (some q_13) x5_15 h_15 bc_15 bs_15 ⟨hx, hb, hml, hown, hts, hr, hlk, hnm⟩ hw (fun _y0 _y1 _y2 _y3 H locs cells slots ls hw hI hbc hbs hl => ih_15 _ _ _ _ H locs cells slots ls (Nat.lt_of_lt_of_le hw.2 (Nat.le_of_lt_succ hn_15)) hw.1 hI hbc hbs hl) hI hbc hbs (lv_sub hl [0, 1, 2, 3, 4, 5] rfl)
          · have hw := hw.2 hc_791
            refine lv_iconst (v := 1) hx hb dL_law_1718 (by decide) ?_
            refine lv_goto (tgt := 1723) hx hb dL_law_1719 (by decide) ?_
            exact gj_L_law_1723 g bb L xs hst hfin hX hbl hbA (fun (y0 : Int32) (T : ga_H) (B1 : Nat) (B2 : Nat) => In_15 y0 T B1 B2 ∧ mu_15 y0 T B1 B2 < mu_15 x5_15 h_15 bc_15 bs_15) (1 : Int32) w_789 w_788 (some q_1) (some q_1) (some q_6) (some q_11) (some q_13) x5_15 h_15 bc_15 bs_15 ⟨hx, hb, hml, hown, hts, hr, hlk, hnm⟩ hw (fun _y0 _y1 _y2 _y3 H locs cells slots ls hw hI hbc hbs hl => ih_15 _ _ _ _ H locs cells slots ls (Nat.lt_of_lt_of_le hw.2 (Nat.le_of_lt_succ hn_15)) hw.1 hI hbc hbs hl) hI hbc hbs (lv_sub hl [0, 1, 2, 3, 4, 5] rfl)
        have hw := hw.2 hc_787
        by_cases hc_829 : w_17 &&& (63 : Int32) = (23 : Int32)
        · have hw := hw.1 hc_829
          refine lv_tableIn (tgt := 1792) hx hb dL_law_45 (by rw [hc_829]; decide) (by rw [hc_829]; decide) (off := 1747) (by rw [hc_829]; rfl) (by decide) ?_
          refine ga_aload_n hx hb dL_law_1792 rfl (lv_at hl 1 rfl) ?_
          refine lv_aload_n hx hb dL_law_1793 rfl (lv_at hl 0 rfl) ?_
          refine lv_iload hx hb dL_law_1794 (lv_at hl 5 rfl) ?_
          refine lv_iconst (v := 1) hx hb dL_law_1796 (by decide) ?_
          refine lv_iadd hx hb dL_law_1797 ?_
          obtain ⟨hi, hw⟩ := hw
          refine va_sld hx hb hX hbl hbA hI.2.2 hi dL_law_1798 ?_
          refine lv_topi (fun w_830 ew_830 => ?_)
          have hw := hw w_830 ew_830
          refine lv_aload_n hx hb dL_law_1799 rfl (lv_at hl 0 rfl) ?_
          refine lv_iload hx hb dL_law_1800 (lv_at hl 5 rfl) ?_
          refine lv_iconst (v := 2) hx hb dL_law_1802 (by decide) ?_
          refine lv_iadd hx hb dL_law_1803 ?_
          obtain ⟨hi, hw⟩ := hw
          refine va_sld hx hb hX hbl hbA hI.2.2 hi dL_law_1804 ?_
          refine lv_topi (fun w_831 ew_831 => ?_)
          have hw := hw w_831 ew_831
          refine ga_aload_n hx hb dL_law_1805 rfl (lv_at hl 3 rfl) ?_
          obtain ⟨kc_832, ks_833, hk1, hk2, hw⟩ := hw
          refine ga_xcalli (vx_runSX (As := [va_rf (some q_1), .int w_830, .int w_831, va_rf (some q_11)]) (rest := []) ⟨hx, hb, hml, hown, hts⟩ (gm_X0_sent l hst g (some q_1) w_830 w_831 (some q_11) h_15 kc_832 ks_833 _ _ hw) (vx_cwSW 4 hts (lw_SW q2605 q2606 q99 q2607) rfl rfl rfl hdG_X0_sent ⟨Nat.le_of_ble_eq_true rfl, Nat.le_of_ble_eq_true rfl⟩) (ga_preS hI rfl) rfl rfl hl.1 rfl (ga_room (Nat.le_of_ble_eq_true rfl)) dL_law_1806 ⟨Nat.le_trans (Nat.add_le_add_left hk1 _) hbc, Nat.le_trans (Nat.add_le_add_left hk2 _) hbs⟩) hI hbc hbs hk1 hk2 (fun E_836 q_837 h_838 ce H locs cells slots hw hI hce hbc hbs => ?_) (fun r_835 h_834 H locs cells slots hw hI hbc hbs => ?_)
          · exact hw.elim
          · skip
            refine lv_istore (lv' := [(6, .int r_835), (0, .ref bb), (1, va_rf (some q_1)), (2, va_rf (some q_6)), (3, va_rf (some q_11)), (4, va_rf (some q_13)), (5, .int x5_15)]) hx hb dL_law_1809 hl (by decide) rfl (fun ls hl => ?_)
            refine ga_aload_n hx hb dL_law_1811 rfl (lv_at hl 3 rfl) ?_
            refine lv_aload_n hx hb dL_law_1812 rfl (lv_at hl 1 rfl) ?_
            refine lv_iload hx hb dL_law_1813 (lv_at hl 6 rfl) ?_
            refine lv_iconst (v := 1) hx hb dL_law_1815 (by decide) ?_
            refine lv_iadd hx hb dL_law_1816 ?_
            obtain ⟨hi, hw⟩ := hw
            refine va_sld hx hb hX hbl hbA hI.2.2 hi dL_law_1817 ?_
            refine lv_topi (fun w_839 ew_839 => ?_)
            have hw := hw w_839 ew_839
            refine lv_aload_n hx hb dL_law_1818 rfl (lv_at hl 1 rfl) ?_
            refine lv_iload hx hb dL_law_1819 (lv_at hl 6 rfl) ?_
            refine lv_iconst (v := 2) hx hb dL_law_1821 (by decide) ?_
            refine lv_iadd hx hb dL_law_1822 ?_
            obtain ⟨hi, hw⟩ := hw
            refine va_sld hx hb hX hbl hbA hI.2.2 hi dL_law_1823 ?_
            refine lv_topi (fun w_840 ew_840 => ?_)
            have hw := hw w_840 ew_840
            obtain ⟨za_841, zl_842, zt_843, zc_844, S_845, T_849, hw⟩ := hw
            refine ga_callTi (z := (q_6, za_841, zl_842, zt_843, zc_844)) (va_runV (As := [.int w_839, .int w_840]) (rest := []) ⟨hx, hb, hml, hown, hts⟩ (zm_sent l (ga_gz g (q_6, za_841, zl_842, zt_843, zc_844)) w_839 w_840 S_845 _ hw) (cwV 2 hts (lw_V q3971 q3972 q3973 q113 q3974) rfl rfl rfl hdT_sent ⟨Nat.le_of_ble_eq_true rfl, Nat.le_of_ble_eq_true rfl⟩) (ga_preT hI T_849 rfl) rfl rfl hl.1 rfl (ga_room (Nat.le_of_ble_eq_true rfl)) dL_law_1824 ⟨Nat.le_trans (Nat.add_le_add_left (Nat.zero_le _) _) hbc, Nat.le_trans (Nat.add_le_add_left (Nat.zero_le _) _) hbs⟩) hI T_849 hbc hbs (fun r_846 S_847 H locs cells slots hw hI hbc hbs => ?_)
            obtain ⟨h_848, eh_848⟩ : ∃ z, z = ga_tws (q_6, za_841, zl_842, zt_843, zc_844) h_834 S_847 := ⟨_, rfl⟩
            rw [← eh_848] at hI
            have hw := hw h_848 eh_848
            refine lv_istore (lv' := [(7, .int r_846), (6, .int r_835), (0, .ref bb), (1, va_rf (some q_1)), (2, va_rf (some q_6)), (3, va_rf (some q_11)), (4, va_rf (some q_13)), (5, .int x5_15)]) hx hb dL_law_1827 hl (by decide) rfl (fun ls hl => ?_)
            refine ga_aload_n hx hb dL_law_1829 rfl (lv_at hl 4 rfl) ?_
            obtain ⟨za_850, zl_851, zt_852, zc_853, S_854, T_858, hw⟩ := hw
            refine ga_callTi (z := (q_6, za_850, zl_851, zt_852, zc_853)) (va_runV (As := []) (rest := []) ⟨hx, hb, hml, hown, hts⟩ (zm_thrown l (ga_gz g (q_6, za_850, zl_851, zt_852, zc_853))  S_854 _ hw) (cwV 0 hts (lw_V q3681 q3682 q3683 q113 q3684) rfl rfl rfl hdT_thrown ⟨Nat.le_of_ble_eq_true rfl, Nat.le_of_ble_eq_true rfl⟩) (ga_preT hI T_858 rfl) rfl rfl hl.1 rfl (ga_room (Nat.le_of_ble_eq_true rfl)) dL_law_1830 ⟨Nat.le_trans (Nat.add_le_add_left (Nat.zero_le _) _) hbc, Nat.le_trans (Nat.add_le_add_left (Nat.zero_le _) _) hbs⟩) hI T_858 hbc hbs (fun r_855 S_856 H locs cells slots hw hI hbc hbs => ?_)
            obtain ⟨h_857, eh_857⟩ : ∃ z, z = ga_tws (q_6, za_850, zl_851, zt_852, zc_853) h_848 S_856 := ⟨_, rfl⟩
            rw [← eh_857] at hI
            have hw := hw h_857 eh_857
            refine lv_iload hx hb dL_law_1833 (lv_at hl 1 rfl) ?_
            refine lv_icmp_eq (tgt := 1840) hx hb dL_law_1835 (by decide) (fun hc_859 => ?_) (fun hc_859 => ?_)
            · have hw := hw.1 hc_859
              refine lv_iload hx hb dL_law_1840 (lv_at hl 1 rfl) ?_
              refine lv_if_ne (tgt := 1857) hx hb dL_law_1842 (by decide) (fun hc_860 => ?_) (fun hc_860 => ?_)
              · have hw := hw.1 hc_860
                refine lv_goto (tgt := 2604) hx hb dL_law_1857 (by decide) ?_
                refine lv_iinc (v := x5_15 + (6 : Int32)) (lv' := [(5, .int (x5_15 + (6 : Int32))), (7, .int r_846), (6, .int r_835), (0, .ref bb), (1, va_rf (some q_1)), (2, va_rf (some q_6)), (3, va_rf (some q_11)), (4, va_rf (some q_13))]) hx hb dL_law_2604 hl (k := 7) rfl rfl (by decide) rfl (fun ls hl => ?_)
                refine lv_goto (tgt := 28) hx hb dL_law_2607 (by decide) ?_
                exact ih_15 _ _ _ _ H locs cells slots ls (Nat.lt_of_lt_of_le hw.2 (Nat.le_of_lt_succ hn_15)) hw.1 hI hbc hbs (lv_sub hl [3, 4, 5, 6, 7, 0] rfl)
              · have hw := hw.2 hc_860
                refine ga_aload_n hx hb dL_law_1845 rfl (lv_at hl 5 rfl) ?_
                refine lv_iconst (v := 0) hx hb dL_law_1846 (by decide) ?_
                obtain ⟨n_861, f_862, hq, hi, hw⟩ := hw
                refine ga_ldl hx hb hI (ga_at.h hq) hi dL_law_1847 ?_
                refine lv_iload hx hb dL_law_1848 (lv_at hl 0 rfl) ?_
                refine lv_i2l (v := r_846.toInt64) hx hb dL_law_1850 rfl ?_
                refine W.lcmp hx hb dL_law_1851 ?_
                refine lv_if_eq (tgt := 1857) hx hb dL_law_1852 (by decide) (fun hc_863 => ?_) (fun hc_863 => ?_)
                · have hw := hw.1 hc_863
                  refine lv_goto (tgt := 2604) hx hb dL_law_1857 (by decide) ?_
                  refine lv_iinc (v := x5_15 + (6 : Int32)) (lv' := [(5, .int (x5_15 + (6 : Int32))), (7, .int r_846), (6, .int r_835), (0, .ref bb), (1, va_rf (some q_1)), (2, va_rf (some q_6)), (3, va_rf (some q_11)), (4, va_rf (some q_13))]) hx hb dL_law_2604 hl (k := 7) rfl rfl (by decide) rfl (fun ls hl => ?_)
                  refine lv_goto (tgt := 28) hx hb dL_law_2607 (by decide) ?_
                  exact ih_15 _ _ _ _ H locs cells slots ls (Nat.lt_of_lt_of_le hw.2 (Nat.le_of_lt_succ hn_15)) hw.1 hI hbc hbs (lv_sub hl [3, 4, 5, 6, 7, 0] rfl)
                · have hw := hw.2 hc_863
                  refine lv_iconst (v := 0) hx hb dL_law_1855 (by decide) ?_
                  exact hw.elim
            · have hw := hw.2 hc_859
              refine lv_iconst (v := 0) hx hb dL_law_1838 (by decide) ?_
              exact hw.elim
        have hw := hw.2 hc_829
        by_cases hc_864 : w_17 &&& (63 : Int32) = (24 : Int32)
        · have hw := hw.1 hc_864
          refine lv_tableIn (tgt := 1860) hx hb dL_law_45 (by rw [hc_864]; decide) (by rw [hc_864]; decide) (off := 1815) (by rw [hc_864]; rfl) (by decide) ?_
          refine ga_aload_n hx hb dL_law_1860 rfl (lv_at hl 1 rfl) ?_
          refine ga_aload_n hx hb dL_law_1861 rfl (lv_at hl 3 rfl) ?_
          obtain ⟨kc_865, ks_866, hk1, hk2, hw⟩ := hw
          refine ga_xcalli (vx_runSX (As := [va_rf (some q_1), va_rf (some q_11)]) (rest := []) ⟨hx, hb, hml, hown, hts⟩ (gm_X0_bestPaper l hst g (some q_1) (some q_11) h_15 kc_865 ks_866 _ _ hw) (vx_cwSW 2 hts (lw_SW q2615 q2616 q99 q2617) rfl rfl rfl hdG_X0_bestPaper ⟨Nat.le_of_ble_eq_true rfl, Nat.le_of_ble_eq_true rfl⟩) (ga_preS hI rfl) rfl rfl hl.1 rfl (ga_room (Nat.le_of_ble_eq_true rfl)) dL_law_1862 ⟨Nat.le_trans (Nat.add_le_add_left hk1 _) hbc, Nat.le_trans (Nat.add_le_add_left hk2 _) hbs⟩) hI hbc hbs hk1 hk2 (fun E_869 q_870 h_871 ce H locs cells slots hw hI hce hbc hbs => ?_) (fun r_868 h_867 H locs cells slots hw hI hbc hbs => ?_)
          · exact hw.elim
          · skip
            refine lv_istore (lv' := [(6, .int r_868), (0, .ref bb), (1, va_rf (some q_1)), (2, va_rf (some q_6)), (3, va_rf (some q_11)), (4, va_rf (some q_13)), (5, .int x5_15)]) hx hb dL_law_1865 hl (by decide) rfl (fun ls hl => ?_)
            refine ga_aload_n hx hb dL_law_1867 rfl (lv_at hl 3 rfl) ?_
            obtain ⟨za_872, zl_873, zt_874, zc_875, S_876, T_880, hw⟩ := hw
            refine ga_callTi (z := (q_6, za_872, zl_873, zt_874, zc_875)) (va_runV (As := []) (rest := []) ⟨hx, hb, hml, hown, hts⟩ (zm_bestPaper l (ga_gz g (q_6, za_872, zl_873, zt_874, zc_875))  S_876 _ hw) (cwV 0 hts (lw_V q3975 q3976 q3977 q113 q3978) rfl rfl rfl hdT_bestPaper ⟨Nat.le_of_ble_eq_true rfl, Nat.le_of_ble_eq_true rfl⟩) (ga_preT hI T_880 rfl) rfl rfl hl.1 rfl (ga_room (Nat.le_of_ble_eq_true rfl)) dL_law_1868 ⟨Nat.le_trans (Nat.add_le_add_left (Nat.zero_le _) _) hbc, Nat.le_trans (Nat.add_le_add_left (Nat.zero_le _) _) hbs⟩) hI T_880 hbc hbs (fun r_877 S_878 H locs cells slots hw hI hbc hbs => ?_)
            obtain ⟨h_879, eh_879⟩ : ∃ z, z = ga_tws (q_6, za_872, zl_873, zt_874, zc_875) h_867 S_878 := ⟨_, rfl⟩
            rw [← eh_879] at hI
            have hw := hw h_879 eh_879
            refine lv_istore (lv' := [(7, .int r_877), (6, .int r_868), (0, .ref bb), (1, va_rf (some q_1)), (2, va_rf (some q_6)), (3, va_rf (some q_11)), (4, va_rf (some q_13)), (5, .int x5_15)]) hx hb dL_law_1871 hl (by decide) rfl (fun ls hl => ?_)
            refine ga_aload_n hx hb dL_law_1873 rfl (lv_at hl 4 rfl) ?_
            obtain ⟨za_881, zl_882, zt_883, zc_884, S_885, T_889, hw⟩ := hw
            refine ga_callTi (z := (q_6, za_881, zl_882, zt_883, zc_884)) (va_runV (As := []) (rest := []) ⟨hx, hb, hml, hown, hts⟩ (zm_thrown l (ga_gz g (q_6, za_881, zl_882, zt_883, zc_884))  S_885 _ hw) (cwV 0 hts (lw_V q3681 q3682 q3683 q113 q3684) rfl rfl rfl hdT_thrown ⟨Nat.le_of_ble_eq_true rfl, Nat.le_of_ble_eq_true rfl⟩) (ga_preT hI T_889 rfl) rfl rfl hl.1 rfl (ga_room (Nat.le_of_ble_eq_true rfl)) dL_law_1874 ⟨Nat.le_trans (Nat.add_le_add_left (Nat.zero_le _) _) hbc, Nat.le_trans (Nat.add_le_add_left (Nat.zero_le _) _) hbs⟩) hI T_889 hbc hbs (fun r_886 S_887 H locs cells slots hw hI hbc hbs => ?_)
            obtain ⟨h_888, eh_888⟩ : ∃ z, z = ga_tws (q_6, za_881, zl_882, zt_883, zc_884) h_879 S_887 := ⟨_, rfl⟩
            rw [← eh_888] at hI
            have hw := hw h_888 eh_888
            refine lv_iload hx hb dL_law_1877 (lv_at hl 1 rfl) ?_
            refine lv_icmp_eq (tgt := 1884) hx hb dL_law_1879 (by decide) (fun hc_890 => ?_) (fun hc_890 => ?_)
            · have hw := hw.1 hc_890
              refine lv_iload hx hb dL_law_1884 (lv_at hl 1 rfl) ?_
              refine lv_if_ne (tgt := 1901) hx hb dL_law_1886 (by decide) (fun hc_891 => ?_) (fun hc_891 => ?_)
              · have hw := hw.1 hc_891
                refine lv_goto (tgt := 2604) hx hb dL_law_1901 (by decide) ?_
                refine lv_iinc (v := x5_15 + (6 : Int32)) (lv' := [(5, .int (x5_15 + (6 : Int32))), (7, .int r_877), (6, .int r_868), (0, .ref bb), (1, va_rf (some q_1)), (2, va_rf (some q_6)), (3, va_rf (some q_11)), (4, va_rf (some q_13))]) hx hb dL_law_2604 hl (k := 7) rfl rfl (by decide) rfl (fun ls hl => ?_)
                refine lv_goto (tgt := 28) hx hb dL_law_2607 (by decide) ?_
                exact ih_15 _ _ _ _ H locs cells slots ls (Nat.lt_of_lt_of_le hw.2 (Nat.le_of_lt_succ hn_15)) hw.1 hI hbc hbs (lv_sub hl [3, 4, 5, 6, 7, 0] rfl)
              · have hw := hw.2 hc_891
                refine ga_aload_n hx hb dL_law_1889 rfl (lv_at hl 5 rfl) ?_
                refine lv_iconst (v := 0) hx hb dL_law_1890 (by decide) ?_
                obtain ⟨n_892, f_893, hq, hi, hw⟩ := hw
                refine ga_ldl hx hb hI (ga_at.h hq) hi dL_law_1891 ?_
                refine lv_iload hx hb dL_law_1892 (lv_at hl 0 rfl) ?_
                refine lv_i2l (v := r_877.toInt64) hx hb dL_law_1894 rfl ?_
                refine W.lcmp hx hb dL_law_1895 ?_
                refine lv_if_eq (tgt := 1901) hx hb dL_law_1896 (by decide) (fun hc_894 => ?_) (fun hc_894 => ?_)
                · have hw := hw.1 hc_894
                  refine lv_goto (tgt := 2604) hx hb dL_law_1901 (by decide) ?_
                  refine lv_iinc (v := x5_15 + (6 : Int32)) (lv' := [(5, .int (x5_15 + (6 : Int32))), (7, .int r_877), (6, .int r_868), (0, .ref bb), (1, va_rf (some q_1)), (2, va_rf (some q_6)), (3, va_rf (some q_11)), (4, va_rf (some q_13))]) hx hb dL_law_2604 hl (k := 7) rfl rfl (by decide) rfl (fun ls hl => ?_)
                  refine lv_goto (tgt := 28) hx hb dL_law_2607 (by decide) ?_
                  exact ih_15 _ _ _ _ H locs cells slots ls (Nat.lt_of_lt_of_le hw.2 (Nat.le_of_lt_succ hn_15)) hw.1 hI hbc hbs (lv_sub hl [3, 4, 5, 6, 7, 0] rfl)
                · have hw := hw.2 hc_894
                  refine lv_iconst (v := 0) hx hb dL_law_1899 (by decide) ?_
                  exact hw.elim
            · have hw := hw.2 hc_890
              refine lv_iconst (v := 0) hx hb dL_law_1882 (by decide) ?_
              exact hw.elim
        have hw := hw.2 hc_864
        by_cases hc_895 : w_17 &&& (63 : Int32) = (25 : Int32)
        · have hw := hw.1 hc_895
          refine lv_tableIn (tgt := 1904) hx hb dL_law_45 (by rw [hc_895]; decide) (by rw [hc_895]; decide) (off := 1859) (by rw [hc_895]; rfl) (by decide) ?_
          refine ga_aload_n hx hb dL_law_1904 rfl (lv_at hl 1 rfl) ?_
          obtain ⟨kc_896, ks_897, hk1, hk2, hw⟩ := hw
          obtain ⟨fs_898, hq, hw⟩ := hw
          refine ga_calli (va_runV (As := []) (rest := []) ⟨hx, hb, hml, hown, hts⟩ (gm_X1_papers l g q_1 h_15 kc_896 ks_897 _ hw) (cwV 0 hts (lw_V q412 q413 q414 q100 q415) rfl rfl rfl ⟨rfl, hdG_X1_papers⟩ ⟨Nat.le_of_ble_eq_true rfl, Nat.le_of_ble_eq_true rfl⟩) (ga_preV hI hq rfl rfl) rfl rfl hl.1 rfl (ga_room (Nat.le_of_ble_eq_true rfl)) dL_law_1905 ⟨Nat.le_trans (Nat.add_le_add_left hk1 _) hbc, Nat.le_trans (Nat.add_le_add_left hk2 _) hbs⟩) hI hbc hbs hk1 hk2 (fun r_900 h_899 H locs cells slots hw hI hbc hbs => ?_)
          refine ga_aload_n hx hb dL_law_1908 rfl (lv_at hl 2 rfl) ?_
          obtain ⟨za_901, zl_902, zt_903, zc_904, S_905, T_909, hw⟩ := hw
          refine ga_callTi (z := (q_6, za_901, zl_902, zt_903, zc_904)) (va_runV (As := []) (rest := [.int r_900]) ⟨hx, hb, hml, hown, hts⟩ (zm_papers l (ga_gz g (q_6, za_901, zl_902, zt_903, zc_904))  S_905 _ hw) (cwV 0 hts (lw_V q3979 q3980 q3981 q113 q3982) rfl rfl rfl hdT_papers ⟨Nat.le_of_ble_eq_true rfl, Nat.le_of_ble_eq_true rfl⟩) (ga_preT hI T_909 rfl) rfl rfl hl.1 rfl (ga_room (Nat.le_of_ble_eq_true rfl)) dL_law_1909 ⟨Nat.le_trans (Nat.add_le_add_left (Nat.zero_le _) _) hbc, Nat.le_trans (Nat.add_le_add_left (Nat.zero_le _) _) hbs⟩) hI T_909 hbc hbs (fun r_906 S_907 H locs cells slots hw hI hbc hbs => ?_)
          obtain ⟨h_908, eh_908⟩ : ∃ z, z = ga_tws (q_6, za_901, zl_902, zt_903, zc_904) h_899 S_907 := ⟨_, rfl⟩
          rw [← eh_908] at hI
          have hw := hw h_908 eh_908
          refine lv_icmp_eq (tgt := 2604) hx hb dL_law_1912 (by decide) (fun hc_910 => ?_) (fun hc_910 => ?_)
          · have hw := hw.1 hc_910
            refine lv_iinc (v := x5_15 + (6 : Int32)) (lv' := [(5, .int (x5_15 + (6 : Int32))), (0, .ref bb), (1, va_rf (some q_1)), (2, va_rf (some q_6)), (3, va_rf (some q_11)), (4, va_rf (some q_13))]) hx hb dL_law_2604 hl (k := 5) rfl rfl (by decide) rfl (fun ls hl => ?_)
            refine lv_goto (tgt := 28) hx hb dL_law_2607 (by decide) ?_
            exact ih_15 _ _ _ _ H locs cells slots ls (Nat.lt_of_lt_of_le hw.2 (Nat.le_of_lt_succ hn_15)) hw.1 hI hbc hbs (lv_sub hl [1, 2, 3, 4, 5, 0] rfl)
          · have hw := hw.2 hc_910
            refine lv_iconst (v := 0) hx hb dL_law_1915 (by decide) ?_
            exact hw.elim
        have hw := hw.2 hc_895
        by_cases hc_911 : w_17 &&& (63 : Int32) = (26 : Int32)
        · have hw := hw.1 hc_911
          refine lv_tableIn (tgt := 1917) hx hb dL_law_45 (by rw [hc_911]; decide) (by rw [hc_911]; decide) (off := 1872) (by rw [hc_911]; rfl) (by decide) ?_
          refine ga_aload_n hx hb dL_law_1917 rfl (lv_at hl 1 rfl) ?_
          refine lv_aload_n hx hb dL_law_1918 rfl (lv_at hl 0 rfl) ?_
          refine lv_iload hx hb dL_law_1919 (lv_at hl 5 rfl) ?_
          refine lv_iconst (v := 1) hx hb dL_law_1921 (by decide) ?_
          refine lv_iadd hx hb dL_law_1922 ?_
          obtain ⟨hi, hw⟩ := hw
          refine va_sld hx hb hX hbl hbA hI.2.2 hi dL_law_1923 ?_
          refine lv_topi (fun w_912 ew_912 => ?_)
          have hw := hw w_912 ew_912
          refine ga_aload_n hx hb dL_law_1924 rfl (lv_at hl 3 rfl) ?_
          obtain ⟨kc_913, ks_914, hk1, hk2, hw⟩ := hw
          refine ga_xcalli (vx_runSX (As := [va_rf (some q_1), .int w_912, va_rf (some q_11)]) (rest := []) ⟨hx, hb, hml, hown, hts⟩ (gm_X0_days l hst g (some q_1) w_912 (some q_11) h_15 kc_913 ks_914 _ _ hw) (vx_cwSW 3 hts (lw_SW q2636 q2637 q99 q2638) rfl rfl rfl hdG_X0_days ⟨Nat.le_of_ble_eq_true rfl, Nat.le_of_ble_eq_true rfl⟩) (ga_preS hI rfl) rfl rfl hl.1 rfl (ga_room (Nat.le_of_ble_eq_true rfl)) dL_law_1925 ⟨Nat.le_trans (Nat.add_le_add_left hk1 _) hbc, Nat.le_trans (Nat.add_le_add_left hk2 _) hbs⟩) hI hbc hbs hk1 hk2 (fun E_917 q_918 h_919 ce H locs cells slots hw hI hce hbc hbs => ?_) (fun r_916 h_915 H locs cells slots hw hI hbc hbs => ?_)
          · exact hw.elim
          · skip
            refine lv_istore (lv' := [(6, .int r_916), (0, .ref bb), (1, va_rf (some q_1)), (2, va_rf (some q_6)), (3, va_rf (some q_11)), (4, va_rf (some q_13)), (5, .int x5_15)]) hx hb dL_law_1928 hl (by decide) rfl (fun ls hl => ?_)
            refine ga_aload_n hx hb dL_law_1930 rfl (lv_at hl 3 rfl) ?_
            refine lv_aload_n hx hb dL_law_1931 rfl (lv_at hl 1 rfl) ?_
            refine lv_iload hx hb dL_law_1932 (lv_at hl 6 rfl) ?_
            refine lv_iconst (v := 1) hx hb dL_law_1934 (by decide) ?_
            refine lv_iadd hx hb dL_law_1935 ?_
            obtain ⟨hi, hw⟩ := hw
            refine va_sld hx hb hX hbl hbA hI.2.2 hi dL_law_1936 ?_
            refine lv_topi (fun w_920 ew_920 => ?_)
            have hw := hw w_920 ew_920
            obtain ⟨za_921, zl_922, zt_923, zc_924, S_925, T_929, hw⟩ := hw
            refine ga_callTi (z := (q_6, za_921, zl_922, zt_923, zc_924)) (va_runV (As := [.int w_920]) (rest := []) ⟨hx, hb, hml, hown, hts⟩ (zm_days l (ga_gz g (q_6, za_921, zl_922, zt_923, zc_924)) w_920 S_925 _ hw) (cwV 1 hts (lw_V q3983 q3984 q3985 q113 q3986) rfl rfl rfl hdT_days ⟨Nat.le_of_ble_eq_true rfl, Nat.le_of_ble_eq_true rfl⟩) (ga_preT hI T_929 rfl) rfl rfl hl.1 rfl (ga_room (Nat.le_of_ble_eq_true rfl)) dL_law_1937 ⟨Nat.le_trans (Nat.add_le_add_left (Nat.zero_le _) _) hbc, Nat.le_trans (Nat.add_le_add_left (Nat.zero_le _) _) hbs⟩) hI T_929 hbc hbs (fun r_926 S_927 H locs cells slots hw hI hbc hbs => ?_)
            obtain ⟨h_928, eh_928⟩ : ∃ z, z = ga_tws (q_6, za_921, zl_922, zt_923, zc_924) h_915 S_927 := ⟨_, rfl⟩
            rw [← eh_928] at hI
            have hw := hw h_928 eh_928
            refine lv_istore (lv' := [(7, .int r_926), (6, .int r_916), (0, .ref bb), (1, va_rf (some q_1)), (2, va_rf (some q_6)), (3, va_rf (some q_11)), (4, va_rf (some q_13)), (5, .int x5_15)]) hx hb dL_law_1940 hl (by decide) rfl (fun ls hl => ?_)
            refine ga_aload_n hx hb dL_law_1942 rfl (lv_at hl 4 rfl) ?_
            obtain ⟨za_930, zl_931, zt_932, zc_933, S_934, T_938, hw⟩ := hw
            refine ga_callTi (z := (q_6, za_930, zl_931, zt_932, zc_933)) (va_runV (As := []) (rest := []) ⟨hx, hb, hml, hown, hts⟩ (zm_thrown l (ga_gz g (q_6, za_930, zl_931, zt_932, zc_933))  S_934 _ hw) (cwV 0 hts (lw_V q3681 q3682 q3683 q113 q3684) rfl rfl rfl hdT_thrown ⟨Nat.le_of_ble_eq_true rfl, Nat.le_of_ble_eq_true rfl⟩) (ga_preT hI T_938 rfl) rfl rfl hl.1 rfl (ga_room (Nat.le_of_ble_eq_true rfl)) dL_law_1943 ⟨Nat.le_trans (Nat.add_le_add_left (Nat.zero_le _) _) hbc, Nat.le_trans (Nat.add_le_add_left (Nat.zero_le _) _) hbs⟩) hI T_938 hbc hbs (fun r_935 S_936 H locs cells slots hw hI hbc hbs => ?_)
            obtain ⟨h_937, eh_937⟩ : ∃ z, z = ga_tws (q_6, za_930, zl_931, zt_932, zc_933) h_928 S_936 := ⟨_, rfl⟩
            rw [← eh_937] at hI
            have hw := hw h_937 eh_937
            refine lv_iload hx hb dL_law_1946 (lv_at hl 1 rfl) ?_
            refine lv_icmp_eq (tgt := 1953) hx hb dL_law_1948 (by decide) (fun hc_939 => ?_) (fun hc_939 => ?_)
            · have hw := hw.1 hc_939
              refine lv_iload hx hb dL_law_1953 (lv_at hl 1 rfl) ?_
              refine lv_if_ne (tgt := 1970) hx hb dL_law_1955 (by decide) (fun hc_940 => ?_) (fun hc_940 => ?_)
              · have hw := hw.1 hc_940
                refine lv_goto (tgt := 2604) hx hb dL_law_1970 (by decide) ?_
                refine lv_iinc (v := x5_15 + (6 : Int32)) (lv' := [(5, .int (x5_15 + (6 : Int32))), (7, .int r_926), (6, .int r_916), (0, .ref bb), (1, va_rf (some q_1)), (2, va_rf (some q_6)), (3, va_rf (some q_11)), (4, va_rf (some q_13))]) hx hb dL_law_2604 hl (k := 7) rfl rfl (by decide) rfl (fun ls hl => ?_)
                refine lv_goto (tgt := 28) hx hb dL_law_2607 (by decide) ?_
                exact ih_15 _ _ _ _ H locs cells slots ls (Nat.lt_of_lt_of_le hw.2 (Nat.le_of_lt_succ hn_15)) hw.1 hI hbc hbs (lv_sub hl [3, 4, 5, 6, 7, 0] rfl)
              · have hw := hw.2 hc_940
                refine ga_aload_n hx hb dL_law_1958 rfl (lv_at hl 5 rfl) ?_
                refine lv_iconst (v := 0) hx hb dL_law_1959 (by decide) ?_
                obtain ⟨n_941, f_942, hq, hi, hw⟩ := hw
                refine ga_ldl hx hb hI (ga_at.h hq) hi dL_law_1960 ?_
                refine lv_iload hx hb dL_law_1961 (lv_at hl 0 rfl) ?_
                refine lv_i2l (v := r_926.toInt64) hx hb dL_law_1963 rfl ?_
                refine W.lcmp hx hb dL_law_1964 ?_
                refine lv_if_eq (tgt := 1970) hx hb dL_law_1965 (by decide) (fun hc_943 => ?_) (fun hc_943 => ?_)
                · have hw := hw.1 hc_943
                  refine lv_goto (tgt := 2604) hx hb dL_law_1970 (by decide) ?_
                  refine lv_iinc (v := x5_15 + (6 : Int32)) (lv' := [(5, .int (x5_15 + (6 : Int32))), (7, .int r_926), (6, .int r_916), (0, .ref bb), (1, va_rf (some q_1)), (2, va_rf (some q_6)), (3, va_rf (some q_11)), (4, va_rf (some q_13))]) hx hb dL_law_2604 hl (k := 7) rfl rfl (by decide) rfl (fun ls hl => ?_)
                  refine lv_goto (tgt := 28) hx hb dL_law_2607 (by decide) ?_
                  exact ih_15 _ _ _ _ H locs cells slots ls (Nat.lt_of_lt_of_le hw.2 (Nat.le_of_lt_succ hn_15)) hw.1 hI hbc hbs (lv_sub hl [3, 4, 5, 6, 7, 0] rfl)
                · have hw := hw.2 hc_943
                  refine lv_iconst (v := 0) hx hb dL_law_1968 (by decide) ?_
                  exact hw.elim
            · have hw := hw.2 hc_939
              refine lv_iconst (v := 0) hx hb dL_law_1951 (by decide) ?_
              exact hw.elim
        have hw := hw.2 hc_911
        by_cases hc_944 : w_17 &&& (63 : Int32) = (27 : Int32)
        · have hw := hw.1 hc_944
          refine lv_tableIn (tgt := 1973) hx hb dL_law_45 (by rw [hc_944]; decide) (by rw [hc_944]; decide) (off := 1928) (by rw [hc_944]; rfl) (by decide) ?_
          refine ga_aload_n hx hb dL_law_1973 rfl (lv_at hl 1 rfl) ?_
          refine lv_aload_n hx hb dL_law_1974 rfl (lv_at hl 0 rfl) ?_
          refine lv_iload hx hb dL_law_1975 (lv_at hl 5 rfl) ?_
          refine lv_iconst (v := 1) hx hb dL_law_1977 (by decide) ?_
          refine lv_iadd hx hb dL_law_1978 ?_
          obtain ⟨hi, hw⟩ := hw
          refine va_sld hx hb hX hbl hbA hI.2.2 hi dL_law_1979 ?_
          refine lv_topi (fun w_945 ew_945 => ?_)
          have hw := hw w_945 ew_945
          refine ga_aload_n hx hb dL_law_1980 rfl (lv_at hl 3 rfl) ?_
          obtain ⟨kc_946, ks_947, hk1, hk2, hw⟩ := hw
          refine ga_xcalli (vx_runSX (As := [va_rf (some q_1), .int w_945, va_rf (some q_11)]) (rest := []) ⟨hx, hb, hml, hown, hts⟩ (gm_X0_tell l hst g (some q_1) w_945 (some q_11) h_15 kc_946 ks_947 _ _ hw) (vx_cwSW 3 hts (lw_SW q2661 q2662 q99 q2663) rfl rfl rfl hdG_X0_tell ⟨Nat.le_of_ble_eq_true rfl, Nat.le_of_ble_eq_true rfl⟩) (ga_preS hI rfl) rfl rfl hl.1 rfl (ga_room (Nat.le_of_ble_eq_true rfl)) dL_law_1981 ⟨Nat.le_trans (Nat.add_le_add_left hk1 _) hbc, Nat.le_trans (Nat.add_le_add_left hk2 _) hbs⟩) hI hbc hbs hk1 hk2 (fun E_950 q_951 h_952 ce H locs cells slots hw hI hce hbc hbs => ?_) (fun r_949 h_948 H locs cells slots hw hI hbc hbs => ?_)
          · exact hw.elim
          · skip
            refine lv_istore (lv' := [(6, .int r_949), (0, .ref bb), (1, va_rf (some q_1)), (2, va_rf (some q_6)), (3, va_rf (some q_11)), (4, va_rf (some q_13)), (5, .int x5_15)]) hx hb dL_law_1984 hl (by decide) rfl (fun ls hl => ?_)
            refine ga_aload_n hx hb dL_law_1986 rfl (lv_at hl 3 rfl) ?_
            refine lv_aload_n hx hb dL_law_1987 rfl (lv_at hl 1 rfl) ?_
            refine lv_iload hx hb dL_law_1988 (lv_at hl 6 rfl) ?_
            refine lv_iconst (v := 1) hx hb dL_law_1990 (by decide) ?_
            refine lv_iadd hx hb dL_law_1991 ?_
            obtain ⟨hi, hw⟩ := hw
            refine va_sld hx hb hX hbl hbA hI.2.2 hi dL_law_1992 ?_
            refine lv_topi (fun w_953 ew_953 => ?_)
            have hw := hw w_953 ew_953
            obtain ⟨za_954, zl_955, zt_956, zc_957, S_958, T_962, hw⟩ := hw
            refine ga_callTi (z := (q_6, za_954, zl_955, zt_956, zc_957)) (va_runV (As := [.int w_953]) (rest := []) ⟨hx, hb, hml, hown, hts⟩ (zm_tell l (ga_gz g (q_6, za_954, zl_955, zt_956, zc_957)) w_953 S_958 _ hw) (cwV 1 hts (lw_V q3991 q3992 q3993 q113 q3994) rfl rfl rfl hdT_tell ⟨Nat.le_of_ble_eq_true rfl, Nat.le_of_ble_eq_true rfl⟩) (ga_preT hI T_962 rfl) rfl rfl hl.1 rfl (ga_room (Nat.le_of_ble_eq_true rfl)) dL_law_1993 ⟨Nat.le_trans (Nat.add_le_add_left (Nat.zero_le _) _) hbc, Nat.le_trans (Nat.add_le_add_left (Nat.zero_le _) _) hbs⟩) hI T_962 hbc hbs (fun r_959 S_960 H locs cells slots hw hI hbc hbs => ?_)
            obtain ⟨h_961, eh_961⟩ : ∃ z, z = ga_tws (q_6, za_954, zl_955, zt_956, zc_957) h_948 S_960 := ⟨_, rfl⟩
            rw [← eh_961] at hI
            have hw := hw h_961 eh_961
            refine lv_istore (lv' := [(7, .int r_959), (6, .int r_949), (0, .ref bb), (1, va_rf (some q_1)), (2, va_rf (some q_6)), (3, va_rf (some q_11)), (4, va_rf (some q_13)), (5, .int x5_15)]) hx hb dL_law_1996 hl (by decide) rfl (fun ls hl => ?_)
            refine ga_aload_n hx hb dL_law_1998 rfl (lv_at hl 4 rfl) ?_
            obtain ⟨za_963, zl_964, zt_965, zc_966, S_967, T_971, hw⟩ := hw
            refine ga_callTi (z := (q_6, za_963, zl_964, zt_965, zc_966)) (va_runV (As := []) (rest := []) ⟨hx, hb, hml, hown, hts⟩ (zm_thrown l (ga_gz g (q_6, za_963, zl_964, zt_965, zc_966))  S_967 _ hw) (cwV 0 hts (lw_V q3681 q3682 q3683 q113 q3684) rfl rfl rfl hdT_thrown ⟨Nat.le_of_ble_eq_true rfl, Nat.le_of_ble_eq_true rfl⟩) (ga_preT hI T_971 rfl) rfl rfl hl.1 rfl (ga_room (Nat.le_of_ble_eq_true rfl)) dL_law_1999 ⟨Nat.le_trans (Nat.add_le_add_left (Nat.zero_le _) _) hbc, Nat.le_trans (Nat.add_le_add_left (Nat.zero_le _) _) hbs⟩) hI T_971 hbc hbs (fun r_968 S_969 H locs cells slots hw hI hbc hbs => ?_)
            obtain ⟨h_970, eh_970⟩ : ∃ z, z = ga_tws (q_6, za_963, zl_964, zt_965, zc_966) h_961 S_969 := ⟨_, rfl⟩
            rw [← eh_970] at hI
            have hw := hw h_970 eh_970
            refine lv_iload hx hb dL_law_2002 (lv_at hl 1 rfl) ?_
            refine lv_icmp_eq (tgt := 2009) hx hb dL_law_2004 (by decide) (fun hc_972 => ?_) (fun hc_972 => ?_)
            · have hw := hw.1 hc_972
              refine lv_iload hx hb dL_law_2009 (lv_at hl 1 rfl) ?_
              refine lv_if_ne (tgt := 2026) hx hb dL_law_2011 (by decide) (fun hc_973 => ?_) (fun hc_973 => ?_)
              · have hw := hw.1 hc_973
                refine lv_goto (tgt := 2604) hx hb dL_law_2026 (by decide) ?_
                refine lv_iinc (v := x5_15 + (6 : Int32)) (lv' := [(5, .int (x5_15 + (6 : Int32))), (7, .int r_959), (6, .int r_949), (0, .ref bb), (1, va_rf (some q_1)), (2, va_rf (some q_6)), (3, va_rf (some q_11)), (4, va_rf (some q_13))]) hx hb dL_law_2604 hl (k := 7) rfl rfl (by decide) rfl (fun ls hl => ?_)
                refine lv_goto (tgt := 28) hx hb dL_law_2607 (by decide) ?_
                exact ih_15 _ _ _ _ H locs cells slots ls (Nat.lt_of_lt_of_le hw.2 (Nat.le_of_lt_succ hn_15)) hw.1 hI hbc hbs (lv_sub hl [3, 4, 5, 6, 7, 0] rfl)
              · have hw := hw.2 hc_973
                refine ga_aload_n hx hb dL_law_2014 rfl (lv_at hl 5 rfl) ?_
                refine lv_iconst (v := 0) hx hb dL_law_2015 (by decide) ?_
                obtain ⟨n_974, f_975, hq, hi, hw⟩ := hw
                refine ga_ldl hx hb hI (ga_at.h hq) hi dL_law_2016 ?_
                refine lv_iload hx hb dL_law_2017 (lv_at hl 0 rfl) ?_
                refine lv_i2l (v := r_959.toInt64) hx hb dL_law_2019 rfl ?_
                refine W.lcmp hx hb dL_law_2020 ?_
                refine lv_if_eq (tgt := 2026) hx hb dL_law_2021 (by decide) (fun hc_976 => ?_) (fun hc_976 => ?_)
                · have hw := hw.1 hc_976
                  refine lv_goto (tgt := 2604) hx hb dL_law_2026 (by decide) ?_
                  refine lv_iinc (v := x5_15 + (6 : Int32)) (lv' := [(5, .int (x5_15 + (6 : Int32))), (7, .int r_959), (6, .int r_949), (0, .ref bb), (1, va_rf (some q_1)), (2, va_rf (some q_6)), (3, va_rf (some q_11)), (4, va_rf (some q_13))]) hx hb dL_law_2604 hl (k := 7) rfl rfl (by decide) rfl (fun ls hl => ?_)
                  refine lv_goto (tgt := 28) hx hb dL_law_2607 (by decide) ?_
                  exact ih_15 _ _ _ _ H locs cells slots ls (Nat.lt_of_lt_of_le hw.2 (Nat.le_of_lt_succ hn_15)) hw.1 hI hbc hbs (lv_sub hl [3, 4, 5, 6, 7, 0] rfl)
                · have hw := hw.2 hc_976
                  refine lv_iconst (v := 0) hx hb dL_law_2024 (by decide) ?_
                  exact hw.elim
            · have hw := hw.2 hc_972
              refine lv_iconst (v := 0) hx hb dL_law_2007 (by decide) ?_
              exact hw.elim
        have hw := hw.2 hc_944
        by_cases hc_977 : w_17 &&& (63 : Int32) = (28 : Int32)
        · have hw := hw.1 hc_977
          refine lv_tableIn (tgt := 2029) hx hb dL_law_45 (by rw [hc_977]; decide) (by rw [hc_977]; decide) (off := 1984) (by rw [hc_977]; rfl) (by decide) ?_
          refine ga_aload_n hx hb dL_law_2029 rfl (lv_at hl 1 rfl) ?_
          refine lv_aload_n hx hb dL_law_2030 rfl (lv_at hl 0 rfl) ?_
          refine lv_iload hx hb dL_law_2031 (lv_at hl 5 rfl) ?_
          refine lv_iconst (v := 1) hx hb dL_law_2033 (by decide) ?_
          refine lv_iadd hx hb dL_law_2034 ?_
          obtain ⟨hi, hw⟩ := hw
          refine va_sld hx hb hX hbl hbA hI.2.2 hi dL_law_2035 ?_
          refine lv_topi (fun w_978 ew_978 => ?_)
          have hw := hw w_978 ew_978
          refine ga_aload_n hx hb dL_law_2036 rfl (lv_at hl 3 rfl) ?_
          obtain ⟨kc_979, ks_980, hk1, hk2, hw⟩ := hw
          refine ga_xcalli (vx_runSX (As := [va_rf (some q_1), .int w_978, va_rf (some q_11)]) (rest := []) ⟨hx, hb, hml, hown, hts⟩ (gm_X0_character l hst g (some q_1) w_978 (some q_11) h_15 kc_979 ks_980 _ _ hw) (vx_cwSW 3 hts (lw_SW q2734 q2735 q99 q2736) rfl rfl rfl hdG_X0_character ⟨Nat.le_of_ble_eq_true rfl, Nat.le_of_ble_eq_true rfl⟩) (ga_preS hI rfl) rfl rfl hl.1 rfl (ga_room (Nat.le_of_ble_eq_true rfl)) dL_law_2037 ⟨Nat.le_trans (Nat.add_le_add_left hk1 _) hbc, Nat.le_trans (Nat.add_le_add_left hk2 _) hbs⟩) hI hbc hbs hk1 hk2 (fun E_983 q_984 h_985 ce H locs cells slots hw hI hce hbc hbs => ?_) (fun r_982 h_981 H locs cells slots hw hI hbc hbs => ?_)
          · exact hw.elim
          · skip
            refine lv_istore (lv' := [(6, .int r_982), (0, .ref bb), (1, va_rf (some q_1)), (2, va_rf (some q_6)), (3, va_rf (some q_11)), (4, va_rf (some q_13)), (5, .int x5_15)]) hx hb dL_law_2040 hl (by decide) rfl (fun ls hl => ?_)
            refine ga_aload_n hx hb dL_law_2042 rfl (lv_at hl 3 rfl) ?_
            refine lv_aload_n hx hb dL_law_2043 rfl (lv_at hl 1 rfl) ?_
            refine lv_iload hx hb dL_law_2044 (lv_at hl 6 rfl) ?_
            refine lv_iconst (v := 1) hx hb dL_law_2046 (by decide) ?_
            refine lv_iadd hx hb dL_law_2047 ?_
            obtain ⟨hi, hw⟩ := hw
            refine va_sld hx hb hX hbl hbA hI.2.2 hi dL_law_2048 ?_
            refine lv_topi (fun w_986 ew_986 => ?_)
            have hw := hw w_986 ew_986
            obtain ⟨za_987, zl_988, zt_989, zc_990, S_991, T_995, hw⟩ := hw
            refine ga_callTi (z := (q_6, za_987, zl_988, zt_989, zc_990)) (va_runV (As := [.int w_986]) (rest := []) ⟨hx, hb, hml, hown, hts⟩ (zm_character l (ga_gz g (q_6, za_987, zl_988, zt_989, zc_990)) w_986 S_991 _ hw) (cwV 1 hts (lw_V q4003 q4004 q4005 q113 q4006) rfl rfl rfl hdT_character ⟨Nat.le_of_ble_eq_true rfl, Nat.le_of_ble_eq_true rfl⟩) (ga_preT hI T_995 rfl) rfl rfl hl.1 rfl (ga_room (Nat.le_of_ble_eq_true rfl)) dL_law_2049 ⟨Nat.le_trans (Nat.add_le_add_left (Nat.zero_le _) _) hbc, Nat.le_trans (Nat.add_le_add_left (Nat.zero_le _) _) hbs⟩) hI T_995 hbc hbs (fun r_992 S_993 H locs cells slots hw hI hbc hbs => ?_)
            obtain ⟨h_994, eh_994⟩ : ∃ z, z = ga_tws (q_6, za_987, zl_988, zt_989, zc_990) h_981 S_993 := ⟨_, rfl⟩
            rw [← eh_994] at hI
            have hw := hw h_994 eh_994
            refine lv_istore (lv' := [(7, .int r_992), (6, .int r_982), (0, .ref bb), (1, va_rf (some q_1)), (2, va_rf (some q_6)), (3, va_rf (some q_11)), (4, va_rf (some q_13)), (5, .int x5_15)]) hx hb dL_law_2052 hl (by decide) rfl (fun ls hl => ?_)
            refine ga_aload_n hx hb dL_law_2054 rfl (lv_at hl 4 rfl) ?_
            obtain ⟨za_996, zl_997, zt_998, zc_999, S_1000, T_1004, hw⟩ := hw
            refine ga_callTi (z := (q_6, za_996, zl_997, zt_998, zc_999)) (va_runV (As := []) (rest := []) ⟨hx, hb, hml, hown, hts⟩ (zm_thrown l (ga_gz g (q_6, za_996, zl_997, zt_998, zc_999))  S_1000 _ hw) (cwV 0 hts (lw_V q3681 q3682 q3683 q113 q3684) rfl rfl rfl hdT_thrown ⟨Nat.le_of_ble_eq_true rfl, Nat.le_of_ble_eq_true rfl⟩) (ga_preT hI T_1004 rfl) rfl rfl hl.1 rfl (ga_room (Nat.le_of_ble_eq_true rfl)) dL_law_2055 ⟨Nat.le_trans (Nat.add_le_add_left (Nat.zero_le _) _) hbc, Nat.le_trans (Nat.add_le_add_left (Nat.zero_le _) _) hbs⟩) hI T_1004 hbc hbs (fun r_1001 S_1002 H locs cells slots hw hI hbc hbs => ?_)
            obtain ⟨h_1003, eh_1003⟩ : ∃ z, z = ga_tws (q_6, za_996, zl_997, zt_998, zc_999) h_994 S_1002 := ⟨_, rfl⟩
            rw [← eh_1003] at hI
            have hw := hw h_1003 eh_1003
            refine lv_iload hx hb dL_law_2058 (lv_at hl 1 rfl) ?_
            refine lv_icmp_eq (tgt := 2065) hx hb dL_law_2060 (by decide) (fun hc_1005 => ?_) (fun hc_1005 => ?_)
            · have hw := hw.1 hc_1005
              refine lv_iload hx hb dL_law_2065 (lv_at hl 1 rfl) ?_
              refine lv_if_ne (tgt := 2082) hx hb dL_law_2067 (by decide) (fun hc_1006 => ?_) (fun hc_1006 => ?_)
              · have hw := hw.1 hc_1006
                refine lv_goto (tgt := 2604) hx hb dL_law_2082 (by decide) ?_
                refine lv_iinc (v := x5_15 + (6 : Int32)) (lv' := [(5, .int (x5_15 + (6 : Int32))), (7, .int r_992), (6, .int r_982), (0, .ref bb), (1, va_rf (some q_1)), (2, va_rf (some q_6)), (3, va_rf (some q_11)), (4, va_rf (some q_13))]) hx hb dL_law_2604 hl (k := 7) rfl rfl (by decide) rfl (fun ls hl => ?_)
                refine lv_goto (tgt := 28) hx hb dL_law_2607 (by decide) ?_
                exact ih_15 _ _ _ _ H locs cells slots ls (Nat.lt_of_lt_of_le hw.2 (Nat.le_of_lt_succ hn_15)) hw.1 hI hbc hbs (lv_sub hl [3, 4, 5, 6, 7, 0] rfl)
              · have hw := hw.2 hc_1006
                refine ga_aload_n hx hb dL_law_2070 rfl (lv_at hl 5 rfl) ?_
                refine lv_iconst (v := 0) hx hb dL_law_2071 (by decide) ?_
                obtain ⟨n_1007, f_1008, hq, hi, hw⟩ := hw
                refine ga_ldl hx hb hI (ga_at.h hq) hi dL_law_2072 ?_
                refine lv_iload hx hb dL_law_2073 (lv_at hl 0 rfl) ?_
                refine lv_i2l (v := r_992.toInt64) hx hb dL_law_2075 rfl ?_
                refine W.lcmp hx hb dL_law_2076 ?_
                refine lv_if_eq (tgt := 2082) hx hb dL_law_2077 (by decide) (fun hc_1009 => ?_) (fun hc_1009 => ?_)
                · have hw := hw.1 hc_1009
                  refine lv_goto (tgt := 2604) hx hb dL_law_2082 (by decide) ?_
                  refine lv_iinc (v := x5_15 + (6 : Int32)) (lv' := [(5, .int (x5_15 + (6 : Int32))), (7, .int r_992), (6, .int r_982), (0, .ref bb), (1, va_rf (some q_1)), (2, va_rf (some q_6)), (3, va_rf (some q_11)), (4, va_rf (some q_13))]) hx hb dL_law_2604 hl (k := 7) rfl rfl (by decide) rfl (fun ls hl => ?_)
                  refine lv_goto (tgt := 28) hx hb dL_law_2607 (by decide) ?_
                  exact ih_15 _ _ _ _ H locs cells slots ls (Nat.lt_of_lt_of_le hw.2 (Nat.le_of_lt_succ hn_15)) hw.1 hI hbc hbs (lv_sub hl [3, 4, 5, 6, 7, 0] rfl)
                · have hw := hw.2 hc_1009
                  refine lv_iconst (v := 0) hx hb dL_law_2080 (by decide) ?_
                  exact hw.elim
            · have hw := hw.2 hc_1005
              refine lv_iconst (v := 0) hx hb dL_law_2063 (by decide) ?_
              exact hw.elim
        have hw := hw.2 hc_977
        by_cases hc_1010 : w_17 &&& (63 : Int32) = (29 : Int32)
        · have hw := hw.1 hc_1010
          refine lv_tableIn (tgt := 2085) hx hb dL_law_45 (by rw [hc_1010]; decide) (by rw [hc_1010]; decide) (off := 2040) (by rw [hc_1010]; rfl) (by decide) ?_
          refine ga_aload_n hx hb dL_law_2085 rfl (lv_at hl 1 rfl) ?_
          refine ga_aload hx hb dL_law_2086 (lv_at hl 4 rfl) ?_
          obtain ⟨kc_1011, ks_1012, hk1, hk2, hw⟩ := hw
          refine ga_xcalli (vx_runSX (As := [va_rf (some q_1), va_rf (some q_13)]) (rest := []) ⟨hx, hb, hml, hown, hts⟩ (gm_X0_meanDamp l hst g (some q_1) (some q_13) h_15 kc_1011 ks_1012 _ _ hw) (vx_cwSW 2 hts (lw_SW q2754 q2755 q99 q2756) rfl rfl rfl hdG_X0_meanDamp ⟨Nat.le_of_ble_eq_true rfl, Nat.le_of_ble_eq_true rfl⟩) (ga_preS hI rfl) rfl rfl hl.1 rfl (ga_room (Nat.le_of_ble_eq_true rfl)) dL_law_2088 ⟨Nat.le_trans (Nat.add_le_add_left hk1 _) hbc, Nat.le_trans (Nat.add_le_add_left hk2 _) hbs⟩) hI hbc hbs hk1 hk2 (fun E_1015 q_1016 h_1017 ce H locs cells slots hw hI hce hbc hbs => ?_) (fun r_1014 h_1013 H locs cells slots hw hI hbc hbs => ?_)
          · exact hw.elim
          · skip
            refine lv_istore (lv' := [(6, .int r_1014), (0, .ref bb), (1, va_rf (some q_1)), (2, va_rf (some q_6)), (3, va_rf (some q_11)), (4, va_rf (some q_13)), (5, .int x5_15)]) hx hb dL_law_2091 hl (by decide) rfl (fun ls hl => ?_)
            refine ga_aload_n hx hb dL_law_2093 rfl (lv_at hl 3 rfl) ?_
            obtain ⟨za_1018, zl_1019, zt_1020, zc_1021, S_1022, T_1026, hw⟩ := hw
            refine ga_callTf (z := (q_6, za_1018, zl_1019, zt_1020, zc_1021)) (va_runV (As := []) (rest := []) ⟨hx, hb, hml, hown, hts⟩ (zm_meanDamp l (ga_gz g (q_6, za_1018, zl_1019, zt_1020, zc_1021))  S_1022 _ hw) (cwV 0 hts (lw_V q4007 q4008 q4009 q113 q4010) rfl rfl rfl hdT_meanDamp ⟨Nat.le_of_ble_eq_true rfl, Nat.le_of_ble_eq_true rfl⟩) (ga_preT hI T_1026 rfl) rfl rfl hl.1 rfl (ga_room (Nat.le_of_ble_eq_true rfl)) dL_law_2094 ⟨Nat.le_trans (Nat.add_le_add_left (Nat.zero_le _) _) hbc, Nat.le_trans (Nat.add_le_add_left (Nat.zero_le _) _) hbs⟩) hI T_1026 hbc hbs (fun r_1023 S_1024 H locs cells slots hw hI hbc hbs => ?_)
            obtain ⟨h_1025, eh_1025⟩ : ∃ z, z = ga_tws (q_6, za_1018, zl_1019, zt_1020, zc_1021) h_1013 S_1024 := ⟨_, rfl⟩
            rw [← eh_1025] at hI
            have hw := hw h_1025 eh_1025
            refine lv_fstore (lv' := [(7, .float r_1023), (6, .int r_1014), (0, .ref bb), (1, va_rf (some q_1)), (2, va_rf (some q_6)), (3, va_rf (some q_11)), (4, va_rf (some q_13)), (5, .int x5_15)]) hx hb dL_law_2097 hl (by decide) rfl (fun ls hl => ?_)
            refine ga_aload_n hx hb dL_law_2099 rfl (lv_at hl 4 rfl) ?_
            obtain ⟨za_1027, zl_1028, zt_1029, zc_1030, S_1031, T_1035, hw⟩ := hw
            refine ga_callTi (z := (q_6, za_1027, zl_1028, zt_1029, zc_1030)) (va_runV (As := []) (rest := []) ⟨hx, hb, hml, hown, hts⟩ (zm_thrown l (ga_gz g (q_6, za_1027, zl_1028, zt_1029, zc_1030))  S_1031 _ hw) (cwV 0 hts (lw_V q3681 q3682 q3683 q113 q3684) rfl rfl rfl hdT_thrown ⟨Nat.le_of_ble_eq_true rfl, Nat.le_of_ble_eq_true rfl⟩) (ga_preT hI T_1035 rfl) rfl rfl hl.1 rfl (ga_room (Nat.le_of_ble_eq_true rfl)) dL_law_2100 ⟨Nat.le_trans (Nat.add_le_add_left (Nat.zero_le _) _) hbc, Nat.le_trans (Nat.add_le_add_left (Nat.zero_le _) _) hbs⟩) hI T_1035 hbc hbs (fun r_1032 S_1033 H locs cells slots hw hI hbc hbs => ?_)
            obtain ⟨h_1034, eh_1034⟩ : ∃ z, z = ga_tws (q_6, za_1027, zl_1028, zt_1029, zc_1030) h_1025 S_1033 := ⟨_, rfl⟩
            rw [← eh_1034] at hI
            have hw := hw h_1034 eh_1034
            refine lv_iload hx hb dL_law_2103 (lv_at hl 1 rfl) ?_
            refine lv_icmp_eq (tgt := 2110) hx hb dL_law_2105 (by decide) (fun hc_1036 => ?_) (fun hc_1036 => ?_)
            · have hw := hw.1 hc_1036
              refine lv_iload hx hb dL_law_2110 (lv_at hl 1 rfl) ?_
              refine lv_if_ne (tgt := 2148) hx hb dL_law_2112 (by decide) (fun hc_1037 => ?_) (fun hc_1037 => ?_)
              · have hw := hw.1 hc_1037
                refine lv_goto (tgt := 2604) hx hb dL_law_2148 (by decide) ?_
                refine lv_iinc (v := x5_15 + (6 : Int32)) (lv' := [(5, .int (x5_15 + (6 : Int32))), (7, .float r_1023), (6, .int r_1014), (0, .ref bb), (1, va_rf (some q_1)), (2, va_rf (some q_6)), (3, va_rf (some q_11)), (4, va_rf (some q_13))]) hx hb dL_law_2604 hl (k := 7) rfl rfl (by decide) rfl (fun ls hl => ?_)
                refine lv_goto (tgt := 28) hx hb dL_law_2607 (by decide) ?_
                exact ih_15 _ _ _ _ H locs cells slots ls (Nat.lt_of_lt_of_le hw.2 (Nat.le_of_lt_succ hn_15)) hw.1 hI hbc hbs (lv_sub hl [3, 4, 5, 6, 7, 0] rfl)
              · have hw := hw.2 hc_1037
                refine ga_aload hx hb dL_law_2115 (lv_at hl 6 rfl) ?_
                refine lv_iconst (v := 0) hx hb dL_law_2117 (by decide) ?_
                obtain ⟨n_1038, f_1039, hq, hi, hw⟩ := hw
                refine ga_ldd hx hb hI (ga_at.h hq) hi dL_law_2118 ?_
                refine lv_fload hx hb dL_law_2119 (lv_at hl 0 rfl) ?_
                refine lv_f2d hx hb dL_law_2121 hw.1 ?_
                have hw := hw.2
                refine lv_dcmp hx hb dL_law_2122 ?_
                refine lv_if_eq (tgt := 2148) hx hb dL_law_2123 (by decide) (fun hc_1040 => ?_) (fun hc_1040 => ?_)
                · have hw := hw.1 hc_1040
                  refine lv_goto (tgt := 2604) hx hb dL_law_2148 (by decide) ?_
                  refine lv_iinc (v := x5_15 + (6 : Int32)) (lv' := [(5, .int (x5_15 + (6 : Int32))), (7, .float r_1023), (6, .int r_1014), (0, .ref bb), (1, va_rf (some q_1)), (2, va_rf (some q_6)), (3, va_rf (some q_11)), (4, va_rf (some q_13))]) hx hb dL_law_2604 hl (k := 7) rfl rfl (by decide) rfl (fun ls hl => ?_)
                  refine lv_goto (tgt := 28) hx hb dL_law_2607 (by decide) ?_
                  exact ih_15 _ _ _ _ H locs cells slots ls (Nat.lt_of_lt_of_le hw.2 (Nat.le_of_lt_succ hn_15)) hw.1 hI hbc hbs (lv_sub hl [3, 4, 5, 6, 7, 0] rfl)
                · have hw := hw.2 hc_1040
                  refine ga_aload hx hb dL_law_2126 (lv_at hl 6 rfl) ?_
                  refine lv_iconst (v := 0) hx hb dL_law_2128 (by decide) ?_
                  obtain ⟨n_1041, f_1042, hq, hi, hw⟩ := hw
                  refine ga_ldd hx hb hI (ga_at.h hq) hi dL_law_2129 ?_
                  refine ga_aload hx hb dL_law_2130 (lv_at hl 6 rfl) ?_
                  refine lv_iconst (v := 0) hx hb dL_law_2132 (by decide) ?_
                  obtain ⟨n_1043, f_1044, hq, hi, hw⟩ := hw
                  refine ga_ldd hx hb hI (ga_at.h hq) hi dL_law_2133 ?_
                  refine lv_dcmp hx hb dL_law_2134 ?_
                  refine lv_if_eq (tgt := 2146) hx hb dL_law_2135 (by decide) (fun hc_1045 => ?_) (fun hc_1045 => ?_)
                  · have hw := hw.1 hc_1045
                    refine lv_iconst (v := 0) hx hb dL_law_2146 (by decide) ?_
                    exact hw.elim
                  · have hw := hw.2 hc_1045
                    refine lv_fload hx hb dL_law_2138 (lv_at hl 0 rfl) ?_
                    refine lv_fload hx hb dL_law_2140 (lv_at hl 0 rfl) ?_
                    refine lv_fcmp hx hb dL_law_2142 ?_
                    refine lv_if_ne (tgt := 2148) hx hb dL_law_2143 (by decide) (fun hc_1046 => ?_) (fun hc_1046 => ?_)
                    · have hw := hw.1 hc_1046
                      refine lv_goto (tgt := 2604) hx hb dL_law_2148 (by decide) ?_
                      refine lv_iinc (v := x5_15 + (6 : Int32)) (lv' := [(5, .int (x5_15 + (6 : Int32))), (7, .float r_1023), (6, .int r_1014), (0, .ref bb), (1, va_rf (some q_1)), (2, va_rf (some q_6)), (3, va_rf (some q_11)), (4, va_rf (some q_13))]) hx hb dL_law_2604 hl (k := 7) rfl rfl (by decide) rfl (fun ls hl => ?_)
                      refine lv_goto (tgt := 28) hx hb dL_law_2607 (by decide) ?_
                      exact ih_15 _ _ _ _ H locs cells slots ls (Nat.lt_of_lt_of_le hw.2 (Nat.le_of_lt_succ hn_15)) hw.1 hI hbc hbs (lv_sub hl [3, 4, 5, 6, 7, 0] rfl)
                    · have hw := hw.2 hc_1046
                      refine lv_iconst (v := 0) hx hb dL_law_2146 (by decide) ?_
                      exact hw.elim
            · have hw := hw.2 hc_1036
              refine lv_iconst (v := 0) hx hb dL_law_2108 (by decide) ?_
              exact hw.elim
        have hw := hw.2 hc_1010
        by_cases hc_1047 : w_17 &&& (63 : Int32) = (30 : Int32)
        · have hw := hw.1 hc_1047
          refine lv_tableIn (tgt := 2151) hx hb dL_law_45 (by rw [hc_1047]; decide) (by rw [hc_1047]; decide) (off := 2106) (by rw [hc_1047]; rfl) (by decide) ?_
          refine ga_aload_n hx hb dL_law_2151 rfl (lv_at hl 1 rfl) ?_
          refine ga_aload hx hb dL_law_2152 (lv_at hl 4 rfl) ?_
          obtain ⟨kc_1048, ks_1049, hk1, hk2, hw⟩ := hw
          refine ga_xcalli (vx_runSX (As := [va_rf (some q_1), va_rf (some q_13)]) (rest := []) ⟨hx, hb, hml, hown, hts⟩ (gm_X0_eatenShare l hst g (some q_1) (some q_13) h_15 kc_1048 ks_1049 _ _ hw) (vx_cwSW 2 hts (lw_SW q2783 q2784 q99 q2785) rfl rfl rfl hdG_X0_eatenShare ⟨Nat.le_of_ble_eq_true rfl, Nat.le_of_ble_eq_true rfl⟩) (ga_preS hI rfl) rfl rfl hl.1 rfl (ga_room (Nat.le_of_ble_eq_true rfl)) dL_law_2154 ⟨Nat.le_trans (Nat.add_le_add_left hk1 _) hbc, Nat.le_trans (Nat.add_le_add_left hk2 _) hbs⟩) hI hbc hbs hk1 hk2 (fun E_1052 q_1053 h_1054 ce H locs cells slots hw hI hce hbc hbs => ?_) (fun r_1051 h_1050 H locs cells slots hw hI hbc hbs => ?_)
          · exact hw.elim
          · skip
            refine lv_istore (lv' := [(6, .int r_1051), (0, .ref bb), (1, va_rf (some q_1)), (2, va_rf (some q_6)), (3, va_rf (some q_11)), (4, va_rf (some q_13)), (5, .int x5_15)]) hx hb dL_law_2157 hl (by decide) rfl (fun ls hl => ?_)
            refine ga_aload_n hx hb dL_law_2159 rfl (lv_at hl 3 rfl) ?_
            obtain ⟨za_1055, zl_1056, zt_1057, zc_1058, S_1059, T_1063, hw⟩ := hw
            refine ga_callTd (z := (q_6, za_1055, zl_1056, zt_1057, zc_1058)) (va_runV (As := []) (rest := []) ⟨hx, hb, hml, hown, hts⟩ (zm_eatenShare l (ga_gz g (q_6, za_1055, zl_1056, zt_1057, zc_1058))  S_1059 _ hw) (cwV 0 hts (lw_V q4015 q4016 q4017 q113 q4018) rfl rfl rfl hdT_eatenShare ⟨Nat.le_of_ble_eq_true rfl, Nat.le_of_ble_eq_true rfl⟩) (ga_preT hI T_1063 rfl) rfl rfl hl.1 rfl (ga_room (Nat.le_of_ble_eq_true rfl)) dL_law_2160 ⟨Nat.le_trans (Nat.add_le_add_left (Nat.zero_le _) _) hbc, Nat.le_trans (Nat.add_le_add_left (Nat.zero_le _) _) hbs⟩) hI T_1063 hbc hbs (fun r_1060 S_1061 H locs cells slots hw hI hbc hbs => ?_)
            obtain ⟨h_1062, eh_1062⟩ : ∃ z, z = ga_tws (q_6, za_1055, zl_1056, zt_1057, zc_1058) h_1050 S_1061 := ⟨_, rfl⟩
            rw [← eh_1062] at hI
            have hw := hw h_1062 eh_1062
            refine lv_dstore (lv' := [(7, .double r_1060), (6, .int r_1051), (0, .ref bb), (1, va_rf (some q_1)), (2, va_rf (some q_6)), (3, va_rf (some q_11)), (4, va_rf (some q_13)), (5, .int x5_15)]) hx hb dL_law_2163 hl (by decide) rfl (fun ls hl => ?_)
            refine ga_aload_n hx hb dL_law_2165 rfl (lv_at hl 4 rfl) ?_
            obtain ⟨za_1064, zl_1065, zt_1066, zc_1067, S_1068, T_1072, hw⟩ := hw
            refine ga_callTi (z := (q_6, za_1064, zl_1065, zt_1066, zc_1067)) (va_runV (As := []) (rest := []) ⟨hx, hb, hml, hown, hts⟩ (zm_thrown l (ga_gz g (q_6, za_1064, zl_1065, zt_1066, zc_1067))  S_1068 _ hw) (cwV 0 hts (lw_V q3681 q3682 q3683 q113 q3684) rfl rfl rfl hdT_thrown ⟨Nat.le_of_ble_eq_true rfl, Nat.le_of_ble_eq_true rfl⟩) (ga_preT hI T_1072 rfl) rfl rfl hl.1 rfl (ga_room (Nat.le_of_ble_eq_true rfl)) dL_law_2166 ⟨Nat.le_trans (Nat.add_le_add_left (Nat.zero_le _) _) hbc, Nat.le_trans (Nat.add_le_add_left (Nat.zero_le _) _) hbs⟩) hI T_1072 hbc hbs (fun r_1069 S_1070 H locs cells slots hw hI hbc hbs => ?_)
            obtain ⟨h_1071, eh_1071⟩ : ∃ z, z = ga_tws (q_6, za_1064, zl_1065, zt_1066, zc_1067) h_1062 S_1070 := ⟨_, rfl⟩
            rw [← eh_1071] at hI
            have hw := hw h_1071 eh_1071
            refine lv_iload hx hb dL_law_2169 (lv_at hl 1 rfl) ?_
            refine lv_icmp_eq (tgt := 2176) hx hb dL_law_2171 (by decide) (fun hc_1073 => ?_) (fun hc_1073 => ?_)
            · have hw := hw.1 hc_1073
              refine lv_iload hx hb dL_law_2176 (lv_at hl 1 rfl) ?_
              refine lv_if_ne (tgt := 2213) hx hb dL_law_2178 (by decide) (fun hc_1074 => ?_) (fun hc_1074 => ?_)
              · have hw := hw.1 hc_1074
                refine lv_goto (tgt := 2604) hx hb dL_law_2213 (by decide) ?_
                refine lv_iinc (v := x5_15 + (6 : Int32)) (lv' := [(5, .int (x5_15 + (6 : Int32))), (7, .double r_1060), (6, .int r_1051), (0, .ref bb), (1, va_rf (some q_1)), (2, va_rf (some q_6)), (3, va_rf (some q_11)), (4, va_rf (some q_13))]) hx hb dL_law_2604 hl (k := 7) rfl rfl (by decide) rfl (fun ls hl => ?_)
                refine lv_goto (tgt := 28) hx hb dL_law_2607 (by decide) ?_
                exact ih_15 _ _ _ _ H locs cells slots ls (Nat.lt_of_lt_of_le hw.2 (Nat.le_of_lt_succ hn_15)) hw.1 hI hbc hbs (lv_sub hl [3, 4, 5, 6, 7, 0] rfl)
              · have hw := hw.2 hc_1074
                refine ga_aload hx hb dL_law_2181 (lv_at hl 6 rfl) ?_
                refine lv_iconst (v := 0) hx hb dL_law_2183 (by decide) ?_
                obtain ⟨n_1075, f_1076, hq, hi, hw⟩ := hw
                refine ga_ldd hx hb hI (ga_at.h hq) hi dL_law_2184 ?_
                refine lv_dload hx hb dL_law_2185 (lv_at hl 0 rfl) ?_
                refine lv_dcmp hx hb dL_law_2187 ?_
                refine lv_if_eq (tgt := 2213) hx hb dL_law_2188 (by decide) (fun hc_1077 => ?_) (fun hc_1077 => ?_)
                · have hw := hw.1 hc_1077
                  refine lv_goto (tgt := 2604) hx hb dL_law_2213 (by decide) ?_
                  refine lv_iinc (v := x5_15 + (6 : Int32)) (lv' := [(5, .int (x5_15 + (6 : Int32))), (7, .double r_1060), (6, .int r_1051), (0, .ref bb), (1, va_rf (some q_1)), (2, va_rf (some q_6)), (3, va_rf (some q_11)), (4, va_rf (some q_13))]) hx hb dL_law_2604 hl (k := 7) rfl rfl (by decide) rfl (fun ls hl => ?_)
                  refine lv_goto (tgt := 28) hx hb dL_law_2607 (by decide) ?_
                  exact ih_15 _ _ _ _ H locs cells slots ls (Nat.lt_of_lt_of_le hw.2 (Nat.le_of_lt_succ hn_15)) hw.1 hI hbc hbs (lv_sub hl [3, 4, 5, 6, 7, 0] rfl)
                · have hw := hw.2 hc_1077
                  refine ga_aload hx hb dL_law_2191 (lv_at hl 6 rfl) ?_
                  refine lv_iconst (v := 0) hx hb dL_law_2193 (by decide) ?_
                  obtain ⟨n_1078, f_1079, hq, hi, hw⟩ := hw
                  refine ga_ldd hx hb hI (ga_at.h hq) hi dL_law_2194 ?_
                  refine ga_aload hx hb dL_law_2195 (lv_at hl 6 rfl) ?_
                  refine lv_iconst (v := 0) hx hb dL_law_2197 (by decide) ?_
                  obtain ⟨n_1080, f_1081, hq, hi, hw⟩ := hw
                  refine ga_ldd hx hb hI (ga_at.h hq) hi dL_law_2198 ?_
                  refine lv_dcmp hx hb dL_law_2199 ?_
                  refine lv_if_eq (tgt := 2211) hx hb dL_law_2200 (by decide) (fun hc_1082 => ?_) (fun hc_1082 => ?_)
                  · have hw := hw.1 hc_1082
                    refine lv_iconst (v := 0) hx hb dL_law_2211 (by decide) ?_
                    exact hw.elim
                  · have hw := hw.2 hc_1082
                    refine lv_dload hx hb dL_law_2203 (lv_at hl 0 rfl) ?_
                    refine lv_dload hx hb dL_law_2205 (lv_at hl 0 rfl) ?_
                    refine lv_dcmp hx hb dL_law_2207 ?_
                    refine lv_if_ne (tgt := 2213) hx hb dL_law_2208 (by decide) (fun hc_1083 => ?_) (fun hc_1083 => ?_)
                    · have hw := hw.1 hc_1083
                      refine lv_goto (tgt := 2604) hx hb dL_law_2213 (by decide) ?_
                      refine lv_iinc (v := x5_15 + (6 : Int32)) (lv' := [(5, .int (x5_15 + (6 : Int32))), (7, .double r_1060), (6, .int r_1051), (0, .ref bb), (1, va_rf (some q_1)), (2, va_rf (some q_6)), (3, va_rf (some q_11)), (4, va_rf (some q_13))]) hx hb dL_law_2604 hl (k := 7) rfl rfl (by decide) rfl (fun ls hl => ?_)
                      refine lv_goto (tgt := 28) hx hb dL_law_2607 (by decide) ?_
                      exact ih_15 _ _ _ _ H locs cells slots ls (Nat.lt_of_lt_of_le hw.2 (Nat.le_of_lt_succ hn_15)) hw.1 hI hbc hbs (lv_sub hl [3, 4, 5, 6, 7, 0] rfl)
                    · have hw := hw.2 hc_1083
                      refine lv_iconst (v := 0) hx hb dL_law_2211 (by decide) ?_
                      exact hw.elim
            · have hw := hw.2 hc_1073
              refine lv_iconst (v := 0) hx hb dL_law_2174 (by decide) ?_
              exact hw.elim
        have hw := hw.2 hc_1047
        by_cases hc_1084 : w_17 &&& (63 : Int32) = (31 : Int32)
        · have hw := hw.1 hc_1084
          refine lv_tableIn (tgt := 2216) hx hb dL_law_45 (by rw [hc_1084]; decide) (by rw [hc_1084]; decide) (off := 2171) (by rw [hc_1084]; rfl) (by decide) ?_
          refine ga_aload_n hx hb dL_law_2216 rfl (lv_at hl 1 rfl) ?_
          refine lv_aload_n hx hb dL_law_2217 rfl (lv_at hl 0 rfl) ?_
          refine lv_iload hx hb dL_law_2218 (lv_at hl 5 rfl) ?_
          refine lv_iconst (v := 1) hx hb dL_law_2220 (by decide) ?_
          refine lv_iadd hx hb dL_law_2221 ?_
          obtain ⟨hi, hw⟩ := hw
          refine va_sld hx hb hX hbl hbA hI.2.2 hi dL_law_2222 ?_
          refine lv_topi (fun w_1085 ew_1085 => ?_)
          have hw := hw w_1085 ew_1085
          refine ga_aload_n hx hb dL_law_2223 rfl (lv_at hl 3 rfl) ?_
          obtain ⟨kc_1086, ks_1087, hk1, hk2, hw⟩ := hw
          refine ga_xcalli (vx_runSX (As := [va_rf (some q_1), .int w_1085, va_rf (some q_11)]) (rest := []) ⟨hx, hb, hml, hown, hts⟩ (gm_X0_account l hst g (some q_1) w_1085 (some q_11) h_15 kc_1086 ks_1087 _ _ hw) (vx_cwSW 3 hts (lw_SW q2790 q2791 q99 q2792) rfl rfl rfl hdG_X0_account ⟨Nat.le_of_ble_eq_true rfl, Nat.le_of_ble_eq_true rfl⟩) (ga_preS hI rfl) rfl rfl hl.1 rfl (ga_room (Nat.le_of_ble_eq_true rfl)) dL_law_2224 ⟨Nat.le_trans (Nat.add_le_add_left hk1 _) hbc, Nat.le_trans (Nat.add_le_add_left hk2 _) hbs⟩) hI hbc hbs hk1 hk2 (fun E_1090 q_1091 h_1092 ce H locs cells slots hw hI hce hbc hbs => ?_) (fun r_1089 h_1088 H locs cells slots hw hI hbc hbs => ?_)
          · exact hw.elim
          · skip
            refine lv_istore (lv' := [(6, .int r_1089), (0, .ref bb), (1, va_rf (some q_1)), (2, va_rf (some q_6)), (3, va_rf (some q_11)), (4, va_rf (some q_13)), (5, .int x5_15)]) hx hb dL_law_2227 hl (by decide) rfl (fun ls hl => ?_)
            refine ga_aload_n hx hb dL_law_2229 rfl (lv_at hl 3 rfl) ?_
            refine lv_aload_n hx hb dL_law_2230 rfl (lv_at hl 1 rfl) ?_
            refine lv_iload hx hb dL_law_2231 (lv_at hl 6 rfl) ?_
            refine lv_iconst (v := 1) hx hb dL_law_2233 (by decide) ?_
            refine lv_iadd hx hb dL_law_2234 ?_
            obtain ⟨hi, hw⟩ := hw
            refine va_sld hx hb hX hbl hbA hI.2.2 hi dL_law_2235 ?_
            refine lv_topi (fun w_1093 ew_1093 => ?_)
            have hw := hw w_1093 ew_1093
            obtain ⟨za_1094, zl_1095, zt_1096, zc_1097, S_1098, T_1102, hw⟩ := hw
            refine ga_callTi (z := (q_6, za_1094, zl_1095, zt_1096, zc_1097)) (va_runV (As := [.int w_1093]) (rest := []) ⟨hx, hb, hml, hown, hts⟩ (zm_account l (ga_gz g (q_6, za_1094, zl_1095, zt_1096, zc_1097)) w_1093 S_1098 _ hw) (cwV 1 hts (lw_V q4019 q4020 q4021 q113 q4022) rfl rfl rfl hdT_account ⟨Nat.le_of_ble_eq_true rfl, Nat.le_of_ble_eq_true rfl⟩) (ga_preT hI T_1102 rfl) rfl rfl hl.1 rfl (ga_room (Nat.le_of_ble_eq_true rfl)) dL_law_2236 ⟨Nat.le_trans (Nat.add_le_add_left (Nat.zero_le _) _) hbc, Nat.le_trans (Nat.add_le_add_left (Nat.zero_le _) _) hbs⟩) hI T_1102 hbc hbs (fun r_1099 S_1100 H locs cells slots hw hI hbc hbs => ?_)
            obtain ⟨h_1101, eh_1101⟩ : ∃ z, z = ga_tws (q_6, za_1094, zl_1095, zt_1096, zc_1097) h_1088 S_1100 := ⟨_, rfl⟩
            rw [← eh_1101] at hI
            have hw := hw h_1101 eh_1101
            refine lv_istore (lv' := [(7, .int r_1099), (6, .int r_1089), (0, .ref bb), (1, va_rf (some q_1)), (2, va_rf (some q_6)), (3, va_rf (some q_11)), (4, va_rf (some q_13)), (5, .int x5_15)]) hx hb dL_law_2239 hl (by decide) rfl (fun ls hl => ?_)
            refine ga_aload_n hx hb dL_law_2241 rfl (lv_at hl 4 rfl) ?_
            obtain ⟨za_1103, zl_1104, zt_1105, zc_1106, S_1107, T_1111, hw⟩ := hw
            refine ga_callTi (z := (q_6, za_1103, zl_1104, zt_1105, zc_1106)) (va_runV (As := []) (rest := []) ⟨hx, hb, hml, hown, hts⟩ (zm_thrown l (ga_gz g (q_6, za_1103, zl_1104, zt_1105, zc_1106))  S_1107 _ hw) (cwV 0 hts (lw_V q3681 q3682 q3683 q113 q3684) rfl rfl rfl hdT_thrown ⟨Nat.le_of_ble_eq_true rfl, Nat.le_of_ble_eq_true rfl⟩) (ga_preT hI T_1111 rfl) rfl rfl hl.1 rfl (ga_room (Nat.le_of_ble_eq_true rfl)) dL_law_2242 ⟨Nat.le_trans (Nat.add_le_add_left (Nat.zero_le _) _) hbc, Nat.le_trans (Nat.add_le_add_left (Nat.zero_le _) _) hbs⟩) hI T_1111 hbc hbs (fun r_1108 S_1109 H locs cells slots hw hI hbc hbs => ?_)
            obtain ⟨h_1110, eh_1110⟩ : ∃ z, z = ga_tws (q_6, za_1103, zl_1104, zt_1105, zc_1106) h_1101 S_1109 := ⟨_, rfl⟩
            rw [← eh_1110] at hI
            have hw := hw h_1110 eh_1110
            refine lv_iload hx hb dL_law_2245 (lv_at hl 1 rfl) ?_
            refine lv_icmp_eq (tgt := 2252) hx hb dL_law_2247 (by decide) (fun hc_1112 => ?_) (fun hc_1112 => ?_)
            · have hw := hw.1 hc_1112
              refine lv_iload hx hb dL_law_2252 (lv_at hl 1 rfl) ?_
              refine lv_if_ne (tgt := 2269) hx hb dL_law_2254 (by decide) (fun hc_1113 => ?_) (fun hc_1113 => ?_)
              · have hw := hw.1 hc_1113
                refine lv_goto (tgt := 2604) hx hb dL_law_2269 (by decide) ?_
                refine lv_iinc (v := x5_15 + (6 : Int32)) (lv' := [(5, .int (x5_15 + (6 : Int32))), (7, .int r_1099), (6, .int r_1089), (0, .ref bb), (1, va_rf (some q_1)), (2, va_rf (some q_6)), (3, va_rf (some q_11)), (4, va_rf (some q_13))]) hx hb dL_law_2604 hl (k := 7) rfl rfl (by decide) rfl (fun ls hl => ?_)
                refine lv_goto (tgt := 28) hx hb dL_law_2607 (by decide) ?_
                exact ih_15 _ _ _ _ H locs cells slots ls (Nat.lt_of_lt_of_le hw.2 (Nat.le_of_lt_succ hn_15)) hw.1 hI hbc hbs (lv_sub hl [3, 4, 5, 6, 7, 0] rfl)
              · have hw := hw.2 hc_1113
                refine ga_aload_n hx hb dL_law_2257 rfl (lv_at hl 5 rfl) ?_
                refine lv_iconst (v := 0) hx hb dL_law_2258 (by decide) ?_
                obtain ⟨n_1114, f_1115, hq, hi, hw⟩ := hw
                refine ga_ldl hx hb hI (ga_at.h hq) hi dL_law_2259 ?_
                refine lv_iload hx hb dL_law_2260 (lv_at hl 0 rfl) ?_
                refine lv_i2l (v := r_1099.toInt64) hx hb dL_law_2262 rfl ?_
                refine W.lcmp hx hb dL_law_2263 ?_
                refine lv_if_eq (tgt := 2269) hx hb dL_law_2264 (by decide) (fun hc_1116 => ?_) (fun hc_1116 => ?_)
                · have hw := hw.1 hc_1116
                  refine lv_goto (tgt := 2604) hx hb dL_law_2269 (by decide) ?_
                  refine lv_iinc (v := x5_15 + (6 : Int32)) (lv' := [(5, .int (x5_15 + (6 : Int32))), (7, .int r_1099), (6, .int r_1089), (0, .ref bb), (1, va_rf (some q_1)), (2, va_rf (some q_6)), (3, va_rf (some q_11)), (4, va_rf (some q_13))]) hx hb dL_law_2604 hl (k := 7) rfl rfl (by decide) rfl (fun ls hl => ?_)
                  refine lv_goto (tgt := 28) hx hb dL_law_2607 (by decide) ?_
                  exact ih_15 _ _ _ _ H locs cells slots ls (Nat.lt_of_lt_of_le hw.2 (Nat.le_of_lt_succ hn_15)) hw.1 hI hbc hbs (lv_sub hl [3, 4, 5, 6, 7, 0] rfl)
                · have hw := hw.2 hc_1116
                  refine lv_iconst (v := 0) hx hb dL_law_2267 (by decide) ?_
                  exact hw.elim
            · have hw := hw.2 hc_1112
              refine lv_iconst (v := 0) hx hb dL_law_2250 (by decide) ?_
              exact hw.elim
        have hw := hw.2 hc_1084
        by_cases hc_1117 : w_17 &&& (63 : Int32) = (32 : Int32)
        · have hw := hw.1 hc_1117
          refine lv_tableIn (tgt := 2272) hx hb dL_law_45 (by rw [hc_1117]; decide) (by rw [hc_1117]; decide) (off := 2227) (by rw [hc_1117]; rfl) (by decide) ?_
          refine ga_aload_n hx hb dL_law_2272 rfl (lv_at hl 1 rfl) ?_
          obtain ⟨kc_1118, ks_1119, hk1, hk2, hw⟩ := hw
          obtain ⟨fs_1120, hq, hw⟩ := hw
          refine ga_calli (va_runV (As := []) (rest := []) ⟨hx, hb, hml, hown, hts⟩ (gm_X1_quiresAgain l g q_1 h_15 kc_1118 ks_1119 _ hw) (cwV 0 hts (lw_V q1236 q1237 q1238 q100 q1239) rfl rfl rfl ⟨rfl, hdG_X1_quiresAgain⟩ ⟨Nat.le_of_ble_eq_true rfl, Nat.le_of_ble_eq_true rfl⟩) (ga_preV hI hq rfl rfl) rfl rfl hl.1 rfl (ga_room (Nat.le_of_ble_eq_true rfl)) dL_law_2273 ⟨Nat.le_trans (Nat.add_le_add_left hk1 _) hbc, Nat.le_trans (Nat.add_le_add_left hk2 _) hbs⟩) hI hbc hbs hk1 hk2 (fun r_1122 h_1121 H locs cells slots hw hI hbc hbs => ?_)
          refine ga_aload_n hx hb dL_law_2276 rfl (lv_at hl 2 rfl) ?_
          obtain ⟨za_1123, zl_1124, zt_1125, zc_1126, S_1127, T_1131, hw⟩ := hw
          refine ga_callTi (z := (q_6, za_1123, zl_1124, zt_1125, zc_1126)) (va_runV (As := []) (rest := [.int r_1122]) ⟨hx, hb, hml, hown, hts⟩ (zm_quiresAgain l (ga_gz g (q_6, za_1123, zl_1124, zt_1125, zc_1126))  S_1127 _ hw) (cwV 0 hts (lw_V q4047 q4048 q4049 q113 q4050) rfl rfl rfl hdT_quiresAgain ⟨Nat.le_of_ble_eq_true rfl, Nat.le_of_ble_eq_true rfl⟩) (ga_preT hI T_1131 rfl) rfl rfl hl.1 rfl (ga_room (Nat.le_of_ble_eq_true rfl)) dL_law_2277 ⟨Nat.le_trans (Nat.add_le_add_left (Nat.zero_le _) _) hbc, Nat.le_trans (Nat.add_le_add_left (Nat.zero_le _) _) hbs⟩) hI T_1131 hbc hbs (fun r_1128 S_1129 H locs cells slots hw hI hbc hbs => ?_)
          obtain ⟨h_1130, eh_1130⟩ : ∃ z, z = ga_tws (q_6, za_1123, zl_1124, zt_1125, zc_1126) h_1121 S_1129 := ⟨_, rfl⟩
          rw [← eh_1130] at hI
          have hw := hw h_1130 eh_1130
          refine lv_icmp_eq (tgt := 2604) hx hb dL_law_2280 (by decide) (fun hc_1132 => ?_) (fun hc_1132 => ?_)
          · have hw := hw.1 hc_1132
            refine lv_iinc (v := x5_15 + (6 : Int32)) (lv' := [(5, .int (x5_15 + (6 : Int32))), (0, .ref bb), (1, va_rf (some q_1)), (2, va_rf (some q_6)), (3, va_rf (some q_11)), (4, va_rf (some q_13))]) hx hb dL_law_2604 hl (k := 5) rfl rfl (by decide) rfl (fun ls hl => ?_)
            refine lv_goto (tgt := 28) hx hb dL_law_2607 (by decide) ?_
            exact ih_15 _ _ _ _ H locs cells slots ls (Nat.lt_of_lt_of_le hw.2 (Nat.le_of_lt_succ hn_15)) hw.1 hI hbc hbs (lv_sub hl [1, 2, 3, 4, 5, 0] rfl)
          · have hw := hw.2 hc_1132
            refine lv_iconst (v := 0) hx hb dL_law_2283 (by decide) ?_
            exact hw.elim
        have hw := hw.2 hc_1117
        by_cases hc_1133 : w_17 &&& (63 : Int32) = (33 : Int32)
        · have hw := hw.1 hc_1133
          refine lv_tableIn (tgt := 2285) hx hb dL_law_45 (by rw [hc_1133]; decide) (by rw [hc_1133]; decide) (off := 2240) (by rw [hc_1133]; rfl) (by decide) ?_
          refine ga_aload_n hx hb dL_law_2285 rfl (lv_at hl 1 rfl) ?_
          refine lv_aload_n hx hb dL_law_2286 rfl (lv_at hl 0 rfl) ?_
          refine lv_iload hx hb dL_law_2287 (lv_at hl 5 rfl) ?_
          refine lv_iconst (v := 1) hx hb dL_law_2289 (by decide) ?_
          refine lv_iadd hx hb dL_law_2290 ?_
          obtain ⟨hi, hw⟩ := hw
          refine va_sld hx hb hX hbl hbA hI.2.2 hi dL_law_2291 ?_
          refine lv_topi (fun w_1134 ew_1134 => ?_)
          have hw := hw w_1134 ew_1134
          refine lv_i2c (v := (w_1134.toUInt32 % 65536).toInt32) hx hb dL_law_2292 rfl ?_
          refine ga_aload_n hx hb dL_law_2293 rfl (lv_at hl 3 rfl) ?_
          obtain ⟨kc_1135, ks_1136, hk1, hk2, hw⟩ := hw
          refine ga_xcalli (vx_runSX (As := [va_rf (some q_1), .int ((w_1134.toUInt32 % 65536).toInt32), va_rf (some q_11)]) (rest := []) ⟨hx, hb, hml, hown, hts⟩ (gm_X0_append l hst g (some q_1) ((w_1134.toUInt32 % 65536).toInt32) (some q_11) h_15 kc_1135 ks_1136 _ _ hw) (vx_cwSW 3 hts (lw_SW q2809 q2810 q99 q2811) rfl rfl rfl hdG_X0_append ⟨Nat.le_of_ble_eq_true rfl, Nat.le_of_ble_eq_true rfl⟩) (ga_preS hI rfl) rfl rfl hl.1 rfl (ga_room (Nat.le_of_ble_eq_true rfl)) dL_law_2294 ⟨Nat.le_trans (Nat.add_le_add_left hk1 _) hbc, Nat.le_trans (Nat.add_le_add_left hk2 _) hbs⟩) hI hbc hbs hk1 hk2 (fun E_1139 q_1140 h_1141 ce H locs cells slots hw hI hce hbc hbs => ?_) (fun r_1138 h_1137 H locs cells slots hw hI hbc hbs => ?_)
          · exact hw.elim
          · skip
            refine lv_istore (lv' := [(6, .int r_1138), (0, .ref bb), (1, va_rf (some q_1)), (2, va_rf (some q_6)), (3, va_rf (some q_11)), (4, va_rf (some q_13)), (5, .int x5_15)]) hx hb dL_law_2297 hl (by decide) rfl (fun ls hl => ?_)
            refine ga_aload_n hx hb dL_law_2299 rfl (lv_at hl 3 rfl) ?_
            refine lv_aload_n hx hb dL_law_2300 rfl (lv_at hl 1 rfl) ?_
            refine lv_iload hx hb dL_law_2301 (lv_at hl 6 rfl) ?_
            refine lv_iconst (v := 1) hx hb dL_law_2303 (by decide) ?_
            refine lv_iadd hx hb dL_law_2304 ?_
            obtain ⟨hi, hw⟩ := hw
            refine va_sld hx hb hX hbl hbA hI.2.2 hi dL_law_2305 ?_
            refine lv_topi (fun w_1142 ew_1142 => ?_)
            have hw := hw w_1142 ew_1142
            refine lv_i2c (v := (w_1142.toUInt32 % 65536).toInt32) hx hb dL_law_2306 rfl ?_
            obtain ⟨za_1143, zl_1144, zt_1145, zc_1146, S_1147, T_1151, hw⟩ := hw
            refine ga_callTi (z := (q_6, za_1143, zl_1144, zt_1145, zc_1146)) (va_runV (As := [.int ((w_1142.toUInt32 % 65536).toInt32)]) (rest := []) ⟨hx, hb, hml, hown, hts⟩ (zm_append l (ga_gz g (q_6, za_1143, zl_1144, zt_1145, zc_1146)) ((w_1142.toUInt32 % 65536).toInt32) S_1147 _ hw) (cwV 1 hts (lw_V q4051 q4052 q4053 q113 q4054) rfl rfl rfl hdT_append ⟨Nat.le_of_ble_eq_true rfl, Nat.le_of_ble_eq_true rfl⟩) (ga_preT hI T_1151 rfl) rfl rfl hl.1 rfl (ga_room (Nat.le_of_ble_eq_true rfl)) dL_law_2307 ⟨Nat.le_trans (Nat.add_le_add_left (Nat.zero_le _) _) hbc, Nat.le_trans (Nat.add_le_add_left (Nat.zero_le _) _) hbs⟩) hI T_1151 hbc hbs (fun r_1148 S_1149 H locs cells slots hw hI hbc hbs => ?_)
            obtain ⟨h_1150, eh_1150⟩ : ∃ z, z = ga_tws (q_6, za_1143, zl_1144, zt_1145, zc_1146) h_1137 S_1149 := ⟨_, rfl⟩
            rw [← eh_1150] at hI
            have hw := hw h_1150 eh_1150
            refine lv_istore (lv' := [(7, .int r_1148), (6, .int r_1138), (0, .ref bb), (1, va_rf (some q_1)), (2, va_rf (some q_6)), (3, va_rf (some q_11)), (4, va_rf (some q_13)), (5, .int x5_15)]) hx hb dL_law_2310 hl (by decide) rfl (fun ls hl => ?_)
            refine ga_aload_n hx hb dL_law_2312 rfl (lv_at hl 4 rfl) ?_
            obtain ⟨za_1152, zl_1153, zt_1154, zc_1155, S_1156, T_1160, hw⟩ := hw
            refine ga_callTi (z := (q_6, za_1152, zl_1153, zt_1154, zc_1155)) (va_runV (As := []) (rest := []) ⟨hx, hb, hml, hown, hts⟩ (zm_thrown l (ga_gz g (q_6, za_1152, zl_1153, zt_1154, zc_1155))  S_1156 _ hw) (cwV 0 hts (lw_V q3681 q3682 q3683 q113 q3684) rfl rfl rfl hdT_thrown ⟨Nat.le_of_ble_eq_true rfl, Nat.le_of_ble_eq_true rfl⟩) (ga_preT hI T_1160 rfl) rfl rfl hl.1 rfl (ga_room (Nat.le_of_ble_eq_true rfl)) dL_law_2313 ⟨Nat.le_trans (Nat.add_le_add_left (Nat.zero_le _) _) hbc, Nat.le_trans (Nat.add_le_add_left (Nat.zero_le _) _) hbs⟩) hI T_1160 hbc hbs (fun r_1157 S_1158 H locs cells slots hw hI hbc hbs => ?_)
            obtain ⟨h_1159, eh_1159⟩ : ∃ z, z = ga_tws (q_6, za_1152, zl_1153, zt_1154, zc_1155) h_1150 S_1158 := ⟨_, rfl⟩
            rw [← eh_1159] at hI
            have hw := hw h_1159 eh_1159
            refine lv_iload hx hb dL_law_2316 (lv_at hl 1 rfl) ?_
            refine lv_icmp_eq (tgt := 2323) hx hb dL_law_2318 (by decide) (fun hc_1161 => ?_) (fun hc_1161 => ?_)
            · have hw := hw.1 hc_1161
              refine lv_iload hx hb dL_law_2323 (lv_at hl 1 rfl) ?_
              refine lv_if_ne (tgt := 2340) hx hb dL_law_2325 (by decide) (fun hc_1162 => ?_) (fun hc_1162 => ?_)
              · have hw := hw.1 hc_1162
                refine lv_goto (tgt := 2604) hx hb dL_law_2340 (by decide) ?_
                refine lv_iinc (v := x5_15 + (6 : Int32)) (lv' := [(5, .int (x5_15 + (6 : Int32))), (7, .int r_1148), (6, .int r_1138), (0, .ref bb), (1, va_rf (some q_1)), (2, va_rf (some q_6)), (3, va_rf (some q_11)), (4, va_rf (some q_13))]) hx hb dL_law_2604 hl (k := 7) rfl rfl (by decide) rfl (fun ls hl => ?_)
                refine lv_goto (tgt := 28) hx hb dL_law_2607 (by decide) ?_
                exact ih_15 _ _ _ _ H locs cells slots ls (Nat.lt_of_lt_of_le hw.2 (Nat.le_of_lt_succ hn_15)) hw.1 hI hbc hbs (lv_sub hl [3, 4, 5, 6, 7, 0] rfl)
              · have hw := hw.2 hc_1162
                refine ga_aload_n hx hb dL_law_2328 rfl (lv_at hl 5 rfl) ?_
                refine lv_iconst (v := 0) hx hb dL_law_2329 (by decide) ?_
                obtain ⟨n_1163, f_1164, hq, hi, hw⟩ := hw
                refine ga_ldl hx hb hI (ga_at.h hq) hi dL_law_2330 ?_
                refine lv_iload hx hb dL_law_2331 (lv_at hl 0 rfl) ?_
                refine lv_i2l (v := r_1148.toInt64) hx hb dL_law_2333 rfl ?_
                refine W.lcmp hx hb dL_law_2334 ?_
                refine lv_if_eq (tgt := 2340) hx hb dL_law_2335 (by decide) (fun hc_1165 => ?_) (fun hc_1165 => ?_)
                · have hw := hw.1 hc_1165
                  refine lv_goto (tgt := 2604) hx hb dL_law_2340 (by decide) ?_
                  refine lv_iinc (v := x5_15 + (6 : Int32)) (lv' := [(5, .int (x5_15 + (6 : Int32))), (7, .int r_1148), (6, .int r_1138), (0, .ref bb), (1, va_rf (some q_1)), (2, va_rf (some q_6)), (3, va_rf (some q_11)), (4, va_rf (some q_13))]) hx hb dL_law_2604 hl (k := 7) rfl rfl (by decide) rfl (fun ls hl => ?_)
                  refine lv_goto (tgt := 28) hx hb dL_law_2607 (by decide) ?_
                  exact ih_15 _ _ _ _ H locs cells slots ls (Nat.lt_of_lt_of_le hw.2 (Nat.le_of_lt_succ hn_15)) hw.1 hI hbc hbs (lv_sub hl [3, 4, 5, 6, 7, 0] rfl)
                · have hw := hw.2 hc_1165
                  refine lv_iconst (v := 0) hx hb dL_law_2338 (by decide) ?_
                  exact hw.elim
            · have hw := hw.2 hc_1161
              refine lv_iconst (v := 0) hx hb dL_law_2321 (by decide) ?_
              exact hw.elim
        have hw := hw.2 hc_1133
        by_cases hc_1166 : w_17 &&& (63 : Int32) = (34 : Int32)
        · have hw := hw.1 hc_1166
          refine lv_tableIn (tgt := 2343) hx hb dL_law_45 (by rw [hc_1166]; decide) (by rw [hc_1166]; decide) (off := 2298) (by rw [hc_1166]; rfl) (by decide) ?_
          refine ga_aload_n hx hb dL_law_2343 rfl (lv_at hl 1 rfl) ?_
          refine ga_aload_n hx hb dL_law_2344 rfl (lv_at hl 3 rfl) ?_
          obtain ⟨kc_1167, ks_1168, hk1, hk2, hw⟩ := hw
          refine ga_xcalli (vx_runSX (As := [va_rf (some q_1), va_rf (some q_11)]) (rest := []) ⟨hx, hb, hml, hown, hts⟩ (gm_X0_read l hst g (some q_1) (some q_11) h_15 kc_1167 ks_1168 _ _ hw) (vx_cwSW 2 hts (lw_SW q2835 q2836 q99 q2837) rfl rfl rfl hdG_X0_read ⟨Nat.le_of_ble_eq_true rfl, Nat.le_of_ble_eq_true rfl⟩) (ga_preS hI rfl) rfl rfl hl.1 rfl (ga_room (Nat.le_of_ble_eq_true rfl)) dL_law_2345 ⟨Nat.le_trans (Nat.add_le_add_left hk1 _) hbc, Nat.le_trans (Nat.add_le_add_left hk2 _) hbs⟩) hI hbc hbs hk1 hk2 (fun E_1171 q_1172 h_1173 ce H locs cells slots hw hI hce hbc hbs => ?_) (fun r_1170 h_1169 H locs cells slots hw hI hbc hbs => ?_)
          · exact hw.elim
          · skip
            refine lv_istore (lv' := [(6, .int r_1170), (0, .ref bb), (1, va_rf (some q_1)), (2, va_rf (some q_6)), (3, va_rf (some q_11)), (4, va_rf (some q_13)), (5, .int x5_15)]) hx hb dL_law_2348 hl (by decide) rfl (fun ls hl => ?_)
            refine ga_aload_n hx hb dL_law_2350 rfl (lv_at hl 3 rfl) ?_
            obtain ⟨za_1174, zl_1175, zt_1176, zc_1177, S_1178, T_1182, hw⟩ := hw
            refine ga_callTi (z := (q_6, za_1174, zl_1175, zt_1176, zc_1177)) (va_runV (As := []) (rest := []) ⟨hx, hb, hml, hown, hts⟩ (zm_read l (ga_gz g (q_6, za_1174, zl_1175, zt_1176, zc_1177))  S_1178 _ hw) (cwV 0 hts (lw_V q4055 q4056 q4057 q113 q4058) rfl rfl rfl hdT_read ⟨Nat.le_of_ble_eq_true rfl, Nat.le_of_ble_eq_true rfl⟩) (ga_preT hI T_1182 rfl) rfl rfl hl.1 rfl (ga_room (Nat.le_of_ble_eq_true rfl)) dL_law_2351 ⟨Nat.le_trans (Nat.add_le_add_left (Nat.zero_le _) _) hbc, Nat.le_trans (Nat.add_le_add_left (Nat.zero_le _) _) hbs⟩) hI T_1182 hbc hbs (fun r_1179 S_1180 H locs cells slots hw hI hbc hbs => ?_)
            obtain ⟨h_1181, eh_1181⟩ : ∃ z, z = ga_tws (q_6, za_1174, zl_1175, zt_1176, zc_1177) h_1169 S_1180 := ⟨_, rfl⟩
            rw [← eh_1181] at hI
            have hw := hw h_1181 eh_1181
            refine lv_istore (lv' := [(7, .int r_1179), (6, .int r_1170), (0, .ref bb), (1, va_rf (some q_1)), (2, va_rf (some q_6)), (3, va_rf (some q_11)), (4, va_rf (some q_13)), (5, .int x5_15)]) hx hb dL_law_2354 hl (by decide) rfl (fun ls hl => ?_)
            refine ga_aload_n hx hb dL_law_2356 rfl (lv_at hl 4 rfl) ?_
            obtain ⟨za_1183, zl_1184, zt_1185, zc_1186, S_1187, T_1191, hw⟩ := hw
            refine ga_callTi (z := (q_6, za_1183, zl_1184, zt_1185, zc_1186)) (va_runV (As := []) (rest := []) ⟨hx, hb, hml, hown, hts⟩ (zm_thrown l (ga_gz g (q_6, za_1183, zl_1184, zt_1185, zc_1186))  S_1187 _ hw) (cwV 0 hts (lw_V q3681 q3682 q3683 q113 q3684) rfl rfl rfl hdT_thrown ⟨Nat.le_of_ble_eq_true rfl, Nat.le_of_ble_eq_true rfl⟩) (ga_preT hI T_1191 rfl) rfl rfl hl.1 rfl (ga_room (Nat.le_of_ble_eq_true rfl)) dL_law_2357 ⟨Nat.le_trans (Nat.add_le_add_left (Nat.zero_le _) _) hbc, Nat.le_trans (Nat.add_le_add_left (Nat.zero_le _) _) hbs⟩) hI T_1191 hbc hbs (fun r_1188 S_1189 H locs cells slots hw hI hbc hbs => ?_)
            obtain ⟨h_1190, eh_1190⟩ : ∃ z, z = ga_tws (q_6, za_1183, zl_1184, zt_1185, zc_1186) h_1181 S_1189 := ⟨_, rfl⟩
            rw [← eh_1190] at hI
            have hw := hw h_1190 eh_1190
            refine lv_iload hx hb dL_law_2360 (lv_at hl 1 rfl) ?_
            refine lv_icmp_eq (tgt := 2367) hx hb dL_law_2362 (by decide) (fun hc_1192 => ?_) (fun hc_1192 => ?_)
            · have hw := hw.1 hc_1192
              refine lv_iload hx hb dL_law_2367 (lv_at hl 1 rfl) ?_
              refine lv_if_ne (tgt := 2384) hx hb dL_law_2369 (by decide) (fun hc_1193 => ?_) (fun hc_1193 => ?_)
              · have hw := hw.1 hc_1193
                refine lv_goto (tgt := 2604) hx hb dL_law_2384 (by decide) ?_
                refine lv_iinc (v := x5_15 + (6 : Int32)) (lv' := [(5, .int (x5_15 + (6 : Int32))), (7, .int r_1179), (6, .int r_1170), (0, .ref bb), (1, va_rf (some q_1)), (2, va_rf (some q_6)), (3, va_rf (some q_11)), (4, va_rf (some q_13))]) hx hb dL_law_2604 hl (k := 7) rfl rfl (by decide) rfl (fun ls hl => ?_)
                refine lv_goto (tgt := 28) hx hb dL_law_2607 (by decide) ?_
                exact ih_15 _ _ _ _ H locs cells slots ls (Nat.lt_of_lt_of_le hw.2 (Nat.le_of_lt_succ hn_15)) hw.1 hI hbc hbs (lv_sub hl [3, 4, 5, 6, 7, 0] rfl)
              · have hw := hw.2 hc_1193
                refine ga_aload_n hx hb dL_law_2372 rfl (lv_at hl 5 rfl) ?_
                refine lv_iconst (v := 0) hx hb dL_law_2373 (by decide) ?_
                obtain ⟨n_1194, f_1195, hq, hi, hw⟩ := hw
                refine ga_ldl hx hb hI (ga_at.h hq) hi dL_law_2374 ?_
                refine lv_iload hx hb dL_law_2375 (lv_at hl 0 rfl) ?_
                refine lv_i2l (v := r_1179.toInt64) hx hb dL_law_2377 rfl ?_
                refine W.lcmp hx hb dL_law_2378 ?_
                refine lv_if_eq (tgt := 2384) hx hb dL_law_2379 (by decide) (fun hc_1196 => ?_) (fun hc_1196 => ?_)
                · have hw := hw.1 hc_1196
                  refine lv_goto (tgt := 2604) hx hb dL_law_2384 (by decide) ?_
                  refine lv_iinc (v := x5_15 + (6 : Int32)) (lv' := [(5, .int (x5_15 + (6 : Int32))), (7, .int r_1179), (6, .int r_1170), (0, .ref bb), (1, va_rf (some q_1)), (2, va_rf (some q_6)), (3, va_rf (some q_11)), (4, va_rf (some q_13))]) hx hb dL_law_2604 hl (k := 7) rfl rfl (by decide) rfl (fun ls hl => ?_)
                  refine lv_goto (tgt := 28) hx hb dL_law_2607 (by decide) ?_
                  exact ih_15 _ _ _ _ H locs cells slots ls (Nat.lt_of_lt_of_le hw.2 (Nat.le_of_lt_succ hn_15)) hw.1 hI hbc hbs (lv_sub hl [3, 4, 5, 6, 7, 0] rfl)
                · have hw := hw.2 hc_1196
                  refine lv_iconst (v := 0) hx hb dL_law_2382 (by decide) ?_
                  exact hw.elim
            · have hw := hw.2 hc_1192
              refine lv_iconst (v := 0) hx hb dL_law_2365 (by decide) ?_
              exact hw.elim
        have hw := hw.2 hc_1166
        by_cases hc_1197 : w_17 &&& (63 : Int32) = (35 : Int32)
        · have hw := hw.1 hc_1197
          refine lv_tableIn (tgt := 2387) hx hb dL_law_45 (by rw [hc_1197]; decide) (by rw [hc_1197]; decide) (off := 2342) (by rw [hc_1197]; rfl) (by decide) ?_
          refine ga_aload_n hx hb dL_law_2387 rfl (lv_at hl 1 rfl) ?_
          refine ga_aload_n hx hb dL_law_2388 rfl (lv_at hl 3 rfl) ?_
          obtain ⟨kc_1198, ks_1199, hk1, hk2, hw⟩ := hw
          refine ga_xcalli (vx_runSX (As := [va_rf (some q_1), va_rf (some q_11)]) (rest := []) ⟨hx, hb, hml, hown, hts⟩ (gm_X0_errorPosition l hst g (some q_1) (some q_11) h_15 kc_1198 ks_1199 _ _ hw) (vx_cwSW 2 hts (lw_SW q3594 q3595 q99 q3596) rfl rfl rfl hdG_X0_errorPosition ⟨Nat.le_of_ble_eq_true rfl, Nat.le_of_ble_eq_true rfl⟩) (ga_preS hI rfl) rfl rfl hl.1 rfl (ga_room (Nat.le_of_ble_eq_true rfl)) dL_law_2389 ⟨Nat.le_trans (Nat.add_le_add_left hk1 _) hbc, Nat.le_trans (Nat.add_le_add_left hk2 _) hbs⟩) hI hbc hbs hk1 hk2 (fun E_1202 q_1203 h_1204 ce H locs cells slots hw hI hce hbc hbs => ?_) (fun r_1201 h_1200 H locs cells slots hw hI hbc hbs => ?_)
          · exact hw.elim
          · skip
            refine lv_istore (lv' := [(6, .int r_1201), (0, .ref bb), (1, va_rf (some q_1)), (2, va_rf (some q_6)), (3, va_rf (some q_11)), (4, va_rf (some q_13)), (5, .int x5_15)]) hx hb dL_law_2392 hl (by decide) rfl (fun ls hl => ?_)
            refine ga_aload_n hx hb dL_law_2394 rfl (lv_at hl 3 rfl) ?_
            obtain ⟨za_1205, zl_1206, zt_1207, zc_1208, S_1209, T_1213, hw⟩ := hw
            refine ga_callTi (z := (q_6, za_1205, zl_1206, zt_1207, zc_1208)) (va_runV (As := []) (rest := []) ⟨hx, hb, hml, hown, hts⟩ (zm_errorPosition l (ga_gz g (q_6, za_1205, zl_1206, zt_1207, zc_1208))  S_1209 _ hw) (cwV 0 hts (lw_V q4091 q4092 q4093 q113 q4094) rfl rfl rfl hdT_errorPosition ⟨Nat.le_of_ble_eq_true rfl, Nat.le_of_ble_eq_true rfl⟩) (ga_preT hI T_1213 rfl) rfl rfl hl.1 rfl (ga_room (Nat.le_of_ble_eq_true rfl)) dL_law_2395 ⟨Nat.le_trans (Nat.add_le_add_left (Nat.zero_le _) _) hbc, Nat.le_trans (Nat.add_le_add_left (Nat.zero_le _) _) hbs⟩) hI T_1213 hbc hbs (fun r_1210 S_1211 H locs cells slots hw hI hbc hbs => ?_)
            obtain ⟨h_1212, eh_1212⟩ : ∃ z, z = ga_tws (q_6, za_1205, zl_1206, zt_1207, zc_1208) h_1200 S_1211 := ⟨_, rfl⟩
            rw [← eh_1212] at hI
            have hw := hw h_1212 eh_1212
            refine lv_istore (lv' := [(7, .int r_1210), (6, .int r_1201), (0, .ref bb), (1, va_rf (some q_1)), (2, va_rf (some q_6)), (3, va_rf (some q_11)), (4, va_rf (some q_13)), (5, .int x5_15)]) hx hb dL_law_2398 hl (by decide) rfl (fun ls hl => ?_)
            refine ga_aload_n hx hb dL_law_2400 rfl (lv_at hl 4 rfl) ?_
            obtain ⟨za_1214, zl_1215, zt_1216, zc_1217, S_1218, T_1222, hw⟩ := hw
            refine ga_callTi (z := (q_6, za_1214, zl_1215, zt_1216, zc_1217)) (va_runV (As := []) (rest := []) ⟨hx, hb, hml, hown, hts⟩ (zm_thrown l (ga_gz g (q_6, za_1214, zl_1215, zt_1216, zc_1217))  S_1218 _ hw) (cwV 0 hts (lw_V q3681 q3682 q3683 q113 q3684) rfl rfl rfl hdT_thrown ⟨Nat.le_of_ble_eq_true rfl, Nat.le_of_ble_eq_true rfl⟩) (ga_preT hI T_1222 rfl) rfl rfl hl.1 rfl (ga_room (Nat.le_of_ble_eq_true rfl)) dL_law_2401 ⟨Nat.le_trans (Nat.add_le_add_left (Nat.zero_le _) _) hbc, Nat.le_trans (Nat.add_le_add_left (Nat.zero_le _) _) hbs⟩) hI T_1222 hbc hbs (fun r_1219 S_1220 H locs cells slots hw hI hbc hbs => ?_)
            obtain ⟨h_1221, eh_1221⟩ : ∃ z, z = ga_tws (q_6, za_1214, zl_1215, zt_1216, zc_1217) h_1212 S_1220 := ⟨_, rfl⟩
            rw [← eh_1221] at hI
            have hw := hw h_1221 eh_1221
            refine lv_iload hx hb dL_law_2404 (lv_at hl 1 rfl) ?_
            refine lv_icmp_eq (tgt := 2411) hx hb dL_law_2406 (by decide) (fun hc_1223 => ?_) (fun hc_1223 => ?_)
            · have hw := hw.1 hc_1223
              refine lv_iload hx hb dL_law_2411 (lv_at hl 1 rfl) ?_
              refine lv_if_ne (tgt := 2428) hx hb dL_law_2413 (by decide) (fun hc_1224 => ?_) (fun hc_1224 => ?_)
              · have hw := hw.1 hc_1224
                refine lv_goto (tgt := 2604) hx hb dL_law_2428 (by decide) ?_
                refine lv_iinc (v := x5_15 + (6 : Int32)) (lv' := [(5, .int (x5_15 + (6 : Int32))), (7, .int r_1210), (6, .int r_1201), (0, .ref bb), (1, va_rf (some q_1)), (2, va_rf (some q_6)), (3, va_rf (some q_11)), (4, va_rf (some q_13))]) hx hb dL_law_2604 hl (k := 7) rfl rfl (by decide) rfl (fun ls hl => ?_)
                refine lv_goto (tgt := 28) hx hb dL_law_2607 (by decide) ?_
                exact ih_15 _ _ _ _ H locs cells slots ls (Nat.lt_of_lt_of_le hw.2 (Nat.le_of_lt_succ hn_15)) hw.1 hI hbc hbs (lv_sub hl [3, 4, 5, 6, 7, 0] rfl)
              · have hw := hw.2 hc_1224
                refine ga_aload_n hx hb dL_law_2416 rfl (lv_at hl 5 rfl) ?_
                refine lv_iconst (v := 0) hx hb dL_law_2417 (by decide) ?_
                obtain ⟨n_1225, f_1226, hq, hi, hw⟩ := hw
                refine ga_ldl hx hb hI (ga_at.h hq) hi dL_law_2418 ?_
                refine lv_iload hx hb dL_law_2419 (lv_at hl 0 rfl) ?_
                refine lv_i2l (v := r_1210.toInt64) hx hb dL_law_2421 rfl ?_
                refine W.lcmp hx hb dL_law_2422 ?_
                refine lv_if_eq (tgt := 2428) hx hb dL_law_2423 (by decide) (fun hc_1227 => ?_) (fun hc_1227 => ?_)
                · have hw := hw.1 hc_1227
                  refine lv_goto (tgt := 2604) hx hb dL_law_2428 (by decide) ?_
                  refine lv_iinc (v := x5_15 + (6 : Int32)) (lv' := [(5, .int (x5_15 + (6 : Int32))), (7, .int r_1210), (6, .int r_1201), (0, .ref bb), (1, va_rf (some q_1)), (2, va_rf (some q_6)), (3, va_rf (some q_11)), (4, va_rf (some q_13))]) hx hb dL_law_2604 hl (k := 7) rfl rfl (by decide) rfl (fun ls hl => ?_)
                  refine lv_goto (tgt := 28) hx hb dL_law_2607 (by decide) ?_
                  exact ih_15 _ _ _ _ H locs cells slots ls (Nat.lt_of_lt_of_le hw.2 (Nat.le_of_lt_succ hn_15)) hw.1 hI hbc hbs (lv_sub hl [3, 4, 5, 6, 7, 0] rfl)
                · have hw := hw.2 hc_1227
                  refine lv_iconst (v := 0) hx hb dL_law_2426 (by decide) ?_
                  exact hw.elim
            · have hw := hw.2 hc_1223
              refine lv_iconst (v := 0) hx hb dL_law_2409 (by decide) ?_
              exact hw.elim
        have hw := hw.2 hc_1197
        by_cases hc_1228 : w_17 &&& (63 : Int32) = (36 : Int32)
        · have hw := hw.1 hc_1228
          refine lv_tableIn (tgt := 2431) hx hb dL_law_45 (by rw [hc_1228]; decide) (by rw [hc_1228]; decide) (off := 2386) (by rw [hc_1228]; rfl) (by decide) ?_
          refine ga_aload_n hx hb dL_law_2431 rfl (lv_at hl 1 rfl) ?_
          refine lv_aload_n hx hb dL_law_2432 rfl (lv_at hl 0 rfl) ?_
          refine lv_iload hx hb dL_law_2433 (lv_at hl 5 rfl) ?_
          refine lv_iconst (v := 1) hx hb dL_law_2435 (by decide) ?_
          refine lv_iadd hx hb dL_law_2436 ?_
          obtain ⟨hi, hw⟩ := hw
          refine va_sld hx hb hX hbl hbA hI.2.2 hi dL_law_2437 ?_
          refine lv_topi (fun w_1229 ew_1229 => ?_)
          have hw := hw w_1229 ew_1229
          refine lv_if_eq (tgt := 2445) hx hb dL_law_2438 (by decide) (fun hc_1230 => ?_) (fun hc_1230 => ?_)
          · have hw := hw.1 hc_1230
            refine lv_iconst (v := 0) hx hb dL_law_2445 (by decide) ?_
            exact gj_L_law_2446 g bb L xs hst hfin hX hbl hbA (fun (y0 : Int32) (T : ga_H) (B1 : Nat) (B2 : Nat) => In_15 y0 T B1 B2 ∧ mu_15 y0 T B1 B2 < mu_15 x5_15 h_15 bc_15 bs_15) (0 : Int32) (some q_1) (some q_1) (some q_6) (some q_11) (some q_13) x5_15 h_15 bc_15 bs_15 ⟨hx, hb, hml, hown, hts, hr, hlk, hnm⟩ hw (fun _y0 _y1 _y2 _y3 H locs cells slots ls hw hI hbc hbs hl => ih_15 _ _ _ _ H locs cells slots ls (Nat.lt_of_lt_of_le hw.2 (Nat.le_of_lt_succ hn_15)) hw.1 hI hbc hbs hl) hI hbc hbs (lv_sub hl [0, 1, 2, 3, 4, 5] rfl)
          · have hw := hw.2 hc_1230
            refine lv_iconst (v := 1) hx hb dL_law_2441 (by decide) ?_
            refine lv_goto (tgt := 2446) hx hb dL_law_2442 (by decide) ?_
            exact gj_L_law_2446 g bb L xs hst hfin hX hbl hbA (fun (y0 : Int32) (T : ga_H) (B1 : Nat) (B2 : Nat) => In_15 y0 T B1 B2 ∧ mu_15 y0 T B1 B2 < mu_15 x5_15 h_15 bc_15 bs_15) (1 : Int32) (some q_1) (some q_1) (some q_6) (some q_11) (some q_13) x5_15 h_15 bc_15 bs_15 ⟨hx, hb, hml, hown, hts, hr, hlk, hnm⟩ hw (fun _y0 _y1 _y2 _y3 H locs cells slots ls hw hI hbc hbs hl => ih_15 _ _ _ _ H locs cells slots ls (Nat.lt_of_lt_of_le hw.2 (Nat.le_of_lt_succ hn_15)) hw.1 hI hbc hbs hl) hI hbc hbs (lv_sub hl [0, 1, 2, 3, 4, 5] rfl)
        have hw := hw.2 hc_1228
        by_cases hc_1266 : w_17 &&& (63 : Int32) = (37 : Int32)
        · have hw := hw.1 hc_1266
          refine lv_tableIn (tgt := 2503) hx hb dL_law_45 (by rw [hc_1266]; decide) (by rw [hc_1266]; decide) (off := 2458) (by rw [hc_1266]; rfl) (by decide) ?_
          refine ga_aload_n hx hb dL_law_2503 rfl (lv_at hl 1 rfl) ?_
          refine ga_aload_n hx hb dL_law_2504 rfl (lv_at hl 3 rfl) ?_
          obtain ⟨kc_1267, ks_1268, hk1, hk2, hw⟩ := hw
          refine ga_xcalli (vx_runSX (As := [va_rf (some q_1), va_rf (some q_11)]) (rest := []) ⟨hx, hb, hml, hown, hts⟩ (gm_X0_undo l hst g (some q_1) (some q_11) h_15 kc_1267 ks_1268 _ _ hw) (vx_cwSW 2 hts (lw_SW q3608 q3609 q99 q3610) rfl rfl rfl hdG_X0_undo ⟨Nat.le_of_ble_eq_true rfl, Nat.le_of_ble_eq_true rfl⟩) (ga_preS hI rfl) rfl rfl hl.1 rfl (ga_room (Nat.le_of_ble_eq_true rfl)) dL_law_2505 ⟨Nat.le_trans (Nat.add_le_add_left hk1 _) hbc, Nat.le_trans (Nat.add_le_add_left hk2 _) hbs⟩) hI hbc hbs hk1 hk2 (fun E_1271 q_1272 h_1273 ce H locs cells slots hw hI hce hbc hbs => ?_) (fun r_1270 h_1269 H locs cells slots hw hI hbc hbs => ?_)
          · exact hw.elim
          · skip
            refine lv_istore (lv' := [(6, .int r_1270), (0, .ref bb), (1, va_rf (some q_1)), (2, va_rf (some q_6)), (3, va_rf (some q_11)), (4, va_rf (some q_13)), (5, .int x5_15)]) hx hb dL_law_2508 hl (by decide) rfl (fun ls hl => ?_)
            refine ga_aload_n hx hb dL_law_2510 rfl (lv_at hl 3 rfl) ?_
            obtain ⟨za_1274, zl_1275, zt_1276, zc_1277, S_1278, T_1282, hw⟩ := hw
            refine ga_callTi (z := (q_6, za_1274, zl_1275, zt_1276, zc_1277)) (va_runV (As := []) (rest := []) ⟨hx, hb, hml, hown, hts⟩ (zm_undo l (ga_gz g (q_6, za_1274, zl_1275, zt_1276, zc_1277))  S_1278 _ hw) (cwV 0 hts (lw_V q4095 q4096 q4097 q113 q4098) rfl rfl rfl hdT_undo ⟨Nat.le_of_ble_eq_true rfl, Nat.le_of_ble_eq_true rfl⟩) (ga_preT hI T_1282 rfl) rfl rfl hl.1 rfl (ga_room (Nat.le_of_ble_eq_true rfl)) dL_law_2511 ⟨Nat.le_trans (Nat.add_le_add_left (Nat.zero_le _) _) hbc, Nat.le_trans (Nat.add_le_add_left (Nat.zero_le _) _) hbs⟩) hI T_1282 hbc hbs (fun r_1279 S_1280 H locs cells slots hw hI hbc hbs => ?_)
            obtain ⟨h_1281, eh_1281⟩ : ∃ z, z = ga_tws (q_6, za_1274, zl_1275, zt_1276, zc_1277) h_1269 S_1280 := ⟨_, rfl⟩
            rw [← eh_1281] at hI
            have hw := hw h_1281 eh_1281
            refine lv_istore (lv' := [(7, .int r_1279), (6, .int r_1270), (0, .ref bb), (1, va_rf (some q_1)), (2, va_rf (some q_6)), (3, va_rf (some q_11)), (4, va_rf (some q_13)), (5, .int x5_15)]) hx hb dL_law_2514 hl (by decide) rfl (fun ls hl => ?_)
            refine ga_aload_n hx hb dL_law_2516 rfl (lv_at hl 4 rfl) ?_
            obtain ⟨za_1283, zl_1284, zt_1285, zc_1286, S_1287, T_1291, hw⟩ := hw
            refine ga_callTi (z := (q_6, za_1283, zl_1284, zt_1285, zc_1286)) (va_runV (As := []) (rest := []) ⟨hx, hb, hml, hown, hts⟩ (zm_thrown l (ga_gz g (q_6, za_1283, zl_1284, zt_1285, zc_1286))  S_1287 _ hw) (cwV 0 hts (lw_V q3681 q3682 q3683 q113 q3684) rfl rfl rfl hdT_thrown ⟨Nat.le_of_ble_eq_true rfl, Nat.le_of_ble_eq_true rfl⟩) (ga_preT hI T_1291 rfl) rfl rfl hl.1 rfl (ga_room (Nat.le_of_ble_eq_true rfl)) dL_law_2517 ⟨Nat.le_trans (Nat.add_le_add_left (Nat.zero_le _) _) hbc, Nat.le_trans (Nat.add_le_add_left (Nat.zero_le _) _) hbs⟩) hI T_1291 hbc hbs (fun r_1288 S_1289 H locs cells slots hw hI hbc hbs => ?_)
            obtain ⟨h_1290, eh_1290⟩ : ∃ z, z = ga_tws (q_6, za_1283, zl_1284, zt_1285, zc_1286) h_1281 S_1289 := ⟨_, rfl⟩
            rw [← eh_1290] at hI
            have hw := hw h_1290 eh_1290
            refine lv_iload hx hb dL_law_2520 (lv_at hl 1 rfl) ?_
            refine lv_icmp_eq (tgt := 2527) hx hb dL_law_2522 (by decide) (fun hc_1292 => ?_) (fun hc_1292 => ?_)
            · have hw := hw.1 hc_1292
              refine lv_iload hx hb dL_law_2527 (lv_at hl 1 rfl) ?_
              refine lv_if_ne (tgt := 2544) hx hb dL_law_2529 (by decide) (fun hc_1293 => ?_) (fun hc_1293 => ?_)
              · have hw := hw.1 hc_1293
                refine lv_goto (tgt := 2604) hx hb dL_law_2544 (by decide) ?_
                refine lv_iinc (v := x5_15 + (6 : Int32)) (lv' := [(5, .int (x5_15 + (6 : Int32))), (7, .int r_1279), (6, .int r_1270), (0, .ref bb), (1, va_rf (some q_1)), (2, va_rf (some q_6)), (3, va_rf (some q_11)), (4, va_rf (some q_13))]) hx hb dL_law_2604 hl (k := 7) rfl rfl (by decide) rfl (fun ls hl => ?_)
                refine lv_goto (tgt := 28) hx hb dL_law_2607 (by decide) ?_
                exact ih_15 _ _ _ _ H locs cells slots ls (Nat.lt_of_lt_of_le hw.2 (Nat.le_of_lt_succ hn_15)) hw.1 hI hbc hbs (lv_sub hl [3, 4, 5, 6, 7, 0] rfl)
              · have hw := hw.2 hc_1293
                refine ga_aload_n hx hb dL_law_2532 rfl (lv_at hl 5 rfl) ?_
                refine lv_iconst (v := 0) hx hb dL_law_2533 (by decide) ?_
                obtain ⟨n_1294, f_1295, hq, hi, hw⟩ := hw
                refine ga_ldl hx hb hI (ga_at.h hq) hi dL_law_2534 ?_
                refine lv_iload hx hb dL_law_2535 (lv_at hl 0 rfl) ?_
                refine lv_i2l (v := r_1279.toInt64) hx hb dL_law_2537 rfl ?_
                refine W.lcmp hx hb dL_law_2538 ?_
                refine lv_if_eq (tgt := 2544) hx hb dL_law_2539 (by decide) (fun hc_1296 => ?_) (fun hc_1296 => ?_)
                · have hw := hw.1 hc_1296
                  refine lv_goto (tgt := 2604) hx hb dL_law_2544 (by decide) ?_
                  refine lv_iinc (v := x5_15 + (6 : Int32)) (lv' := [(5, .int (x5_15 + (6 : Int32))), (7, .int r_1279), (6, .int r_1270), (0, .ref bb), (1, va_rf (some q_1)), (2, va_rf (some q_6)), (3, va_rf (some q_11)), (4, va_rf (some q_13))]) hx hb dL_law_2604 hl (k := 7) rfl rfl (by decide) rfl (fun ls hl => ?_)
                  refine lv_goto (tgt := 28) hx hb dL_law_2607 (by decide) ?_
                  exact ih_15 _ _ _ _ H locs cells slots ls (Nat.lt_of_lt_of_le hw.2 (Nat.le_of_lt_succ hn_15)) hw.1 hI hbc hbs (lv_sub hl [3, 4, 5, 6, 7, 0] rfl)
                · have hw := hw.2 hc_1296
                  refine lv_iconst (v := 0) hx hb dL_law_2542 (by decide) ?_
                  exact hw.elim
            · have hw := hw.2 hc_1292
              refine lv_iconst (v := 0) hx hb dL_law_2525 (by decide) ?_
              exact hw.elim
        have hw := hw.2 hc_1266
        by_cases hc_1297 : w_17 &&& (63 : Int32) = (38 : Int32)
        · have hw := hw.1 hc_1297
          refine lv_tableIn (tgt := 2547) hx hb dL_law_45 (by rw [hc_1297]; decide) (by rw [hc_1297]; decide) (off := 2502) (by rw [hc_1297]; rfl) (by decide) ?_
          refine ga_aload_n hx hb dL_law_2547 rfl (lv_at hl 1 rfl) ?_
          obtain ⟨kc_1298, ks_1299, hk1, hk2, hw⟩ := hw
          obtain ⟨fs_1300, hq, hw⟩ := hw
          refine ga_calli (va_runV (As := []) (rest := []) ⟨hx, hb, hml, hown, hts⟩ (gm_X1_save l g q_1 h_15 kc_1298 ks_1299 _ hw) (cwV 0 hts (lw_V q1255 q1256 q1257 q100 q1258) rfl rfl rfl ⟨rfl, hdG_X1_save⟩ ⟨Nat.le_of_ble_eq_true rfl, Nat.le_of_ble_eq_true rfl⟩) (ga_preV hI hq rfl rfl) rfl rfl hl.1 rfl (ga_room (Nat.le_of_ble_eq_true rfl)) dL_law_2548 ⟨Nat.le_trans (Nat.add_le_add_left hk1 _) hbc, Nat.le_trans (Nat.add_le_add_left hk2 _) hbs⟩) hI hbc hbs hk1 hk2 (fun r_1302 h_1301 H locs cells slots hw hI hbc hbs => ?_)
          refine ga_aload_n hx hb dL_law_2551 rfl (lv_at hl 2 rfl) ?_
          obtain ⟨za_1303, zl_1304, zt_1305, zc_1306, S_1307, T_1311, hw⟩ := hw
          refine ga_callTi (z := (q_6, za_1303, zl_1304, zt_1305, zc_1306)) (va_runV (As := []) (rest := [.int r_1302]) ⟨hx, hb, hml, hown, hts⟩ (zm_save l (ga_gz g (q_6, za_1303, zl_1304, zt_1305, zc_1306))  S_1307 _ hw) (cwV 0 hts (lw_V q4099 q4100 q4101 q113 q4102) rfl rfl rfl hdT_save ⟨Nat.le_of_ble_eq_true rfl, Nat.le_of_ble_eq_true rfl⟩) (ga_preT hI T_1311 rfl) rfl rfl hl.1 rfl (ga_room (Nat.le_of_ble_eq_true rfl)) dL_law_2552 ⟨Nat.le_trans (Nat.add_le_add_left (Nat.zero_le _) _) hbc, Nat.le_trans (Nat.add_le_add_left (Nat.zero_le _) _) hbs⟩) hI T_1311 hbc hbs (fun r_1308 S_1309 H locs cells slots hw hI hbc hbs => ?_)
          obtain ⟨h_1310, eh_1310⟩ : ∃ z, z = ga_tws (q_6, za_1303, zl_1304, zt_1305, zc_1306) h_1301 S_1309 := ⟨_, rfl⟩
          rw [← eh_1310] at hI
          have hw := hw h_1310 eh_1310
          refine lv_icmp_eq (tgt := 2604) hx hb dL_law_2555 (by decide) (fun hc_1312 => ?_) (fun hc_1312 => ?_)
          · have hw := hw.1 hc_1312
            refine lv_iinc (v := x5_15 + (6 : Int32)) (lv' := [(5, .int (x5_15 + (6 : Int32))), (0, .ref bb), (1, va_rf (some q_1)), (2, va_rf (some q_6)), (3, va_rf (some q_11)), (4, va_rf (some q_13))]) hx hb dL_law_2604 hl (k := 5) rfl rfl (by decide) rfl (fun ls hl => ?_)
            refine lv_goto (tgt := 28) hx hb dL_law_2607 (by decide) ?_
            exact ih_15 _ _ _ _ H locs cells slots ls (Nat.lt_of_lt_of_le hw.2 (Nat.le_of_lt_succ hn_15)) hw.1 hI hbc hbs (lv_sub hl [1, 2, 3, 4, 5, 0] rfl)
          · have hw := hw.2 hc_1312
            refine lv_iconst (v := 0) hx hb dL_law_2558 (by decide) ?_
            exact hw.elim
        have hw := hw.2 hc_1297
        by_cases hc_1313 : w_17 &&& (63 : Int32) = (39 : Int32)
        · have hw := hw.1 hc_1313
          refine lv_tableIn (tgt := 2560) hx hb dL_law_45 (by rw [hc_1313]; decide) (by rw [hc_1313]; decide) (off := 2515) (by rw [hc_1313]; rfl) (by decide) ?_
          refine ga_aload_n hx hb dL_law_2560 rfl (lv_at hl 1 rfl) ?_
          refine ga_aload_n hx hb dL_law_2561 rfl (lv_at hl 3 rfl) ?_
          obtain ⟨kc_1314, ks_1315, hk1, hk2, hw⟩ := hw
          refine ga_xcalli (vx_runSX (As := [va_rf (some q_1), va_rf (some q_11)]) (rest := []) ⟨hx, hb, hml, hown, hts⟩ (gm_X0_restore l hst g (some q_1) (some q_11) h_15 kc_1314 ks_1315 _ _ hw) (vx_cwSW 2 hts (lw_SW q3615 q3616 q99 q3617) rfl rfl rfl hdG_X0_restore ⟨Nat.le_of_ble_eq_true rfl, Nat.le_of_ble_eq_true rfl⟩) (ga_preS hI rfl) rfl rfl hl.1 rfl (ga_room (Nat.le_of_ble_eq_true rfl)) dL_law_2562 ⟨Nat.le_trans (Nat.add_le_add_left hk1 _) hbc, Nat.le_trans (Nat.add_le_add_left hk2 _) hbs⟩) hI hbc hbs hk1 hk2 (fun E_1318 q_1319 h_1320 ce H locs cells slots hw hI hce hbc hbs => ?_) (fun r_1317 h_1316 H locs cells slots hw hI hbc hbs => ?_)
          · exact hw.elim
          · skip
            refine lv_istore (lv' := [(6, .int r_1317), (0, .ref bb), (1, va_rf (some q_1)), (2, va_rf (some q_6)), (3, va_rf (some q_11)), (4, va_rf (some q_13)), (5, .int x5_15)]) hx hb dL_law_2565 hl (by decide) rfl (fun ls hl => ?_)
            refine ga_aload_n hx hb dL_law_2567 rfl (lv_at hl 3 rfl) ?_
            obtain ⟨za_1321, zl_1322, zt_1323, zc_1324, S_1325, T_1329, hw⟩ := hw
            refine ga_callTi (z := (q_6, za_1321, zl_1322, zt_1323, zc_1324)) (va_runV (As := []) (rest := []) ⟨hx, hb, hml, hown, hts⟩ (zm_restore l (ga_gz g (q_6, za_1321, zl_1322, zt_1323, zc_1324))  S_1325 _ hw) (cwV 0 hts (lw_V q4103 q4104 q4105 q113 q4106) rfl rfl rfl hdT_restore ⟨Nat.le_of_ble_eq_true rfl, Nat.le_of_ble_eq_true rfl⟩) (ga_preT hI T_1329 rfl) rfl rfl hl.1 rfl (ga_room (Nat.le_of_ble_eq_true rfl)) dL_law_2568 ⟨Nat.le_trans (Nat.add_le_add_left (Nat.zero_le _) _) hbc, Nat.le_trans (Nat.add_le_add_left (Nat.zero_le _) _) hbs⟩) hI T_1329 hbc hbs (fun r_1326 S_1327 H locs cells slots hw hI hbc hbs => ?_)
            obtain ⟨h_1328, eh_1328⟩ : ∃ z, z = ga_tws (q_6, za_1321, zl_1322, zt_1323, zc_1324) h_1316 S_1327 := ⟨_, rfl⟩
            rw [← eh_1328] at hI
            have hw := hw h_1328 eh_1328
            refine lv_istore (lv' := [(7, .int r_1326), (6, .int r_1317), (0, .ref bb), (1, va_rf (some q_1)), (2, va_rf (some q_6)), (3, va_rf (some q_11)), (4, va_rf (some q_13)), (5, .int x5_15)]) hx hb dL_law_2571 hl (by decide) rfl (fun ls hl => ?_)
            refine ga_aload_n hx hb dL_law_2573 rfl (lv_at hl 4 rfl) ?_
            obtain ⟨za_1330, zl_1331, zt_1332, zc_1333, S_1334, T_1338, hw⟩ := hw
            refine ga_callTi (z := (q_6, za_1330, zl_1331, zt_1332, zc_1333)) (va_runV (As := []) (rest := []) ⟨hx, hb, hml, hown, hts⟩ (zm_thrown l (ga_gz g (q_6, za_1330, zl_1331, zt_1332, zc_1333))  S_1334 _ hw) (cwV 0 hts (lw_V q3681 q3682 q3683 q113 q3684) rfl rfl rfl hdT_thrown ⟨Nat.le_of_ble_eq_true rfl, Nat.le_of_ble_eq_true rfl⟩) (ga_preT hI T_1338 rfl) rfl rfl hl.1 rfl (ga_room (Nat.le_of_ble_eq_true rfl)) dL_law_2574 ⟨Nat.le_trans (Nat.add_le_add_left (Nat.zero_le _) _) hbc, Nat.le_trans (Nat.add_le_add_left (Nat.zero_le _) _) hbs⟩) hI T_1338 hbc hbs (fun r_1335 S_1336 H locs cells slots hw hI hbc hbs => ?_)
            obtain ⟨h_1337, eh_1337⟩ : ∃ z, z = ga_tws (q_6, za_1330, zl_1331, zt_1332, zc_1333) h_1328 S_1336 := ⟨_, rfl⟩
            rw [← eh_1337] at hI
            have hw := hw h_1337 eh_1337
            refine lv_iload hx hb dL_law_2577 (lv_at hl 1 rfl) ?_
            refine lv_icmp_eq (tgt := 2584) hx hb dL_law_2579 (by decide) (fun hc_1339 => ?_) (fun hc_1339 => ?_)
            · have hw := hw.1 hc_1339
              refine lv_iload hx hb dL_law_2584 (lv_at hl 1 rfl) ?_
              refine lv_if_ne (tgt := 2601) hx hb dL_law_2586 (by decide) (fun hc_1340 => ?_) (fun hc_1340 => ?_)
              · have hw := hw.1 hc_1340
                refine lv_goto (tgt := 2604) hx hb dL_law_2601 (by decide) ?_
                refine lv_iinc (v := x5_15 + (6 : Int32)) (lv' := [(5, .int (x5_15 + (6 : Int32))), (7, .int r_1326), (6, .int r_1317), (0, .ref bb), (1, va_rf (some q_1)), (2, va_rf (some q_6)), (3, va_rf (some q_11)), (4, va_rf (some q_13))]) hx hb dL_law_2604 hl (k := 7) rfl rfl (by decide) rfl (fun ls hl => ?_)
                refine lv_goto (tgt := 28) hx hb dL_law_2607 (by decide) ?_
                exact ih_15 _ _ _ _ H locs cells slots ls (Nat.lt_of_lt_of_le hw.2 (Nat.le_of_lt_succ hn_15)) hw.1 hI hbc hbs (lv_sub hl [3, 4, 5, 6, 7, 0] rfl)
              · have hw := hw.2 hc_1340
                refine ga_aload_n hx hb dL_law_2589 rfl (lv_at hl 5 rfl) ?_
                refine lv_iconst (v := 0) hx hb dL_law_2590 (by decide) ?_
                obtain ⟨n_1341, f_1342, hq, hi, hw⟩ := hw
                refine ga_ldl hx hb hI (ga_at.h hq) hi dL_law_2591 ?_
                refine lv_iload hx hb dL_law_2592 (lv_at hl 0 rfl) ?_
                refine lv_i2l (v := r_1326.toInt64) hx hb dL_law_2594 rfl ?_
                refine W.lcmp hx hb dL_law_2595 ?_
                refine lv_if_eq (tgt := 2601) hx hb dL_law_2596 (by decide) (fun hc_1343 => ?_) (fun hc_1343 => ?_)
                · have hw := hw.1 hc_1343
                  refine lv_goto (tgt := 2604) hx hb dL_law_2601 (by decide) ?_
                  refine lv_iinc (v := x5_15 + (6 : Int32)) (lv' := [(5, .int (x5_15 + (6 : Int32))), (7, .int r_1326), (6, .int r_1317), (0, .ref bb), (1, va_rf (some q_1)), (2, va_rf (some q_6)), (3, va_rf (some q_11)), (4, va_rf (some q_13))]) hx hb dL_law_2604 hl (k := 7) rfl rfl (by decide) rfl (fun ls hl => ?_)
                  refine lv_goto (tgt := 28) hx hb dL_law_2607 (by decide) ?_
                  exact ih_15 _ _ _ _ H locs cells slots ls (Nat.lt_of_lt_of_le hw.2 (Nat.le_of_lt_succ hn_15)) hw.1 hI hbc hbs (lv_sub hl [3, 4, 5, 6, 7, 0] rfl)
                · have hw := hw.2 hc_1343
                  refine lv_iconst (v := 0) hx hb dL_law_2599 (by decide) ?_
                  exact hw.elim
            · have hw := hw.2 hc_1339
              refine lv_iconst (v := 0) hx hb dL_law_2582 (by decide) ?_
              exact hw.elim
        have hw := hw.2 hc_1313
        refine lv_tableOut (tgt := 2604) hx hb dL_law_45 (zs_out 0 39 40 [0, 1, 2, 3, 4, 5, 6, 7, 8, 9, 10, 11, 12, 13, 14, 15, 16, 17, 18, 19, 20, 21, 22, 23, 24, 25, 26, 27, 28, 29, 30, 31, 32, 33, 34, 35, 36, 37, 38, 39] (by decide) (by decide) (List.forall_mem_cons.mpr ⟨hc_18, List.forall_mem_cons.mpr ⟨hc_51, List.forall_mem_cons.mpr ⟨hc_86, List.forall_mem_cons.mpr ⟨hc_127, List.forall_mem_cons.mpr ⟨hc_167, List.forall_mem_cons.mpr ⟨hc_202, List.forall_mem_cons.mpr ⟨hc_237, List.forall_mem_cons.mpr ⟨hc_270, List.forall_mem_cons.mpr ⟨hc_305, List.forall_mem_cons.mpr ⟨hc_340, List.forall_mem_cons.mpr ⟨hc_375, List.forall_mem_cons.mpr ⟨hc_410, List.forall_mem_cons.mpr ⟨hc_445, List.forall_mem_cons.mpr ⟨hc_478, List.forall_mem_cons.mpr ⟨hc_515, List.forall_mem_cons.mpr ⟨hc_548, List.forall_mem_cons.mpr ⟨hc_581, List.forall_mem_cons.mpr ⟨hc_618, List.forall_mem_cons.mpr ⟨hc_651, List.forall_mem_cons.mpr ⟨hc_686, List.forall_mem_cons.mpr ⟨hc_719, List.forall_mem_cons.mpr ⟨hc_752, List.forall_mem_cons.mpr ⟨hc_787, List.forall_mem_cons.mpr ⟨hc_829, List.forall_mem_cons.mpr ⟨hc_864, List.forall_mem_cons.mpr ⟨hc_895, List.forall_mem_cons.mpr ⟨hc_911, List.forall_mem_cons.mpr ⟨hc_944, List.forall_mem_cons.mpr ⟨hc_977, List.forall_mem_cons.mpr ⟨hc_1010, List.forall_mem_cons.mpr ⟨hc_1047, List.forall_mem_cons.mpr ⟨hc_1084, List.forall_mem_cons.mpr ⟨hc_1117, List.forall_mem_cons.mpr ⟨hc_1133, List.forall_mem_cons.mpr ⟨hc_1166, List.forall_mem_cons.mpr ⟨hc_1197, List.forall_mem_cons.mpr ⟨hc_1228, List.forall_mem_cons.mpr ⟨hc_1266, List.forall_mem_cons.mpr ⟨hc_1297, List.forall_mem_cons.mpr ⟨hc_1313, fun _ h => absurd h List.not_mem_nil⟩⟩⟩⟩⟩⟩⟩⟩⟩⟩⟩⟩⟩⟩⟩⟩⟩⟩⟩⟩⟩⟩⟩⟩⟩⟩⟩⟩⟩⟩⟩⟩⟩⟩⟩⟩⟩⟩⟩⟩)) (by decide) ?_
        refine lv_iinc (v := x5_15 + (6 : Int32)) (lv' := [(5, .int (x5_15 + (6 : Int32))), (0, .ref bb), (1, va_rf (some q_1)), (2, va_rf (some q_6)), (3, va_rf (some q_11)), (4, va_rf (some q_13))]) hx hb dL_law_2604 hl (k := 5) rfl rfl (by decide) rfl (fun ls hl => ?_)
        refine lv_goto (tgt := 28) hx hb dL_law_2607 (by decide) ?_
        exact ih_15 _ _ _ _ H locs cells slots ls (Nat.lt_of_lt_of_le hw.2 (Nat.le_of_lt_succ hn_15)) hw.1 hI hbc hbs (lv_sub hl [1, 2, 3, 4, 5, 0] rfl)
  exact hL_15 _ _ _ _ _ H locs cells slots ls (Nat.lt_succ_self _) h0_15 hI hbc hbs (lv_sub hl [5, 4, 3, 2, 1, 0] rfl)
