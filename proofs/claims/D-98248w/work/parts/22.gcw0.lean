abbrev rmX0_status : Room := { frames := 0, cells := 0, slots := 0, locals := 0 }
set_option maxHeartbeats 4000000 in
theorem wX0_status {l : Launch} {G : GT} {M C : FS} {K : KT} {t : Int32} (hf : fX0_status C = some t) : CtI l yX0_status (ws_ yX0_status cX0_status 1 (some .int)) rmX0_status G [.ref (G.2.2.2 131)] (M, C, K.1, K.2.1) t (M, C, K.1, K.2.1) := by
  refine mkI (ty := .int) (by decide) (Nat.le_of_ble_eq_true rfl) (fun p e s m a0 below meth c Q FX hw hname hret ls hl => ?_)
  have hl : lv_has ls 1 [(0, .ref (G.2.2.2 131))] := hl
  unfold fX0_status at hf
  refine lv_aload_n FX.1 FX.2.1 dX0_status_0 rfl (lv_at hl 0 rfl) ?_
  refine gX0_91 FX hw dX0_status_1 ?_
  exact hret _ _ rfl (congrArg (fun z => z) (Option.some.inj hf)) rfl hw dX0_status_4
abbrev rmX0_top : Room := { frames := 0, cells := 0, slots := 0, locals := 0 }
set_option maxHeartbeats 4000000 in
theorem wX0_top {l : Launch} {G : GT} {M C : FS} {K : KT} {t : Int64} (hf : fX0_top C = some t) : CtL l yX0_top (ws_ yX0_top cX0_top 1 (some .long)) rmX0_top G [.ref (G.2.2.2 131)] (M, C, K.1, K.2.1) t (M, C, K.1, K.2.1) := by
  refine mkL (by decide) (Nat.le_of_ble_eq_true rfl) (fun p e s m a0 below meth c Q FX hw hname hret ls hl => ?_)
  have hl : lv_has ls 1 [(0, .ref (G.2.2.2 131))] := hl
  unfold fX0_top at hf
  refine lv_aload_n FX.1 FX.2.1 dX0_top_0 rfl (lv_at hl 0 rfl) ?_
  refine gX0_94 FX hw dX0_top_1 ?_
  exact hret _ _ (congrArg (fun z => z) (Option.some.inj hf)) rfl hw dX0_top_4
abbrev rmX0_bottom : Room := { frames := 0, cells := 0, slots := 0, locals := 0 }
set_option maxHeartbeats 4000000 in
theorem wX0_bottom {l : Launch} {G : GT} {M C : FS} {K : KT} {t : Int64} (hf : fX0_bottom C = some t) : CtL l yX0_bottom (ws_ yX0_bottom cX0_bottom 1 (some .long)) rmX0_bottom G [.ref (G.2.2.2 131)] (M, C, K.1, K.2.1) t (M, C, K.1, K.2.1) := by
  refine mkL (by decide) (Nat.le_of_ble_eq_true rfl) (fun p e s m a0 below meth c Q FX hw hname hret ls hl => ?_)
  have hl : lv_has ls 1 [(0, .ref (G.2.2.2 131))] := hl
  unfold fX0_bottom at hf
  refine lv_aload_n FX.1 FX.2.1 dX0_bottom_0 rfl (lv_at hl 0 rfl) ?_
  refine gX0_49 FX hw dX0_bottom_1 ?_
  exact hret _ _ (congrArg (fun z => z) (Option.some.inj hf)) rfl hw dX0_bottom_4
abbrev rmX0_isTray : Room := { frames := 0, cells := 0, slots := 0, locals := 0 }
set_option maxHeartbeats 4000000 in
theorem wX0_isTray {l : Launch} {G : GT} {M C : FS} {K : KT} {p1 : Int32} {t : Int32} (hf : fX0_isTray p1 = some t) : CtI l yX0_isTray (ws_ yX0_isTray cX0_isTray 1 (some .boolean)) rmX0_isTray G [.int p1] (M, C, K.1, K.2.1) t (M, C, K.1, K.2.1) := by
  refine mkI (ty := .boolean) (by decide) (Nat.le_of_ble_eq_true rfl) (fun p e s m a0 below meth c Q FX hw hname hret ls hl => ?_)
  have hl : lv_has ls 1 [(0, .int p1)] := hl
  unfold fX0_isTray at hf
  refine lv_iload_n FX.1 FX.2.1 dX0_isTray_0 rfl (lv_at hl 0 rfl) ?_
  refine lv_if_lt (tgt := 13) FX.1 FX.2.1 dX0_isTray_1 (by decide) (fun c_1 => ?_) (fun c_1 => ?_)
  · have hf := it_pos c_1 hf
    refine lv_iconst (v := 0) FX.1 FX.2.1 dX0_isTray_13 (by decide) ?_
    exact hret _ _ rfl (congrArg (fun z => z) (Option.some.inj hf)) rfl hw dX0_isTray_14
  · have hf := it_neg c_1 hf
    refine lv_iload_n FX.1 FX.2.1 dX0_isTray_4 rfl (lv_at hl 0 rfl) ?_
    refine lv_iconst (v := 4) FX.1 FX.2.1 dX0_isTray_5 (by decide) ?_
    refine lv_icmp_ge (tgt := 13) FX.1 FX.2.1 dX0_isTray_6 (by decide) (fun c_6 => ?_) (fun c_6 => ?_)
    · have hf := it_pos c_6 hf
      refine lv_iconst (v := 0) FX.1 FX.2.1 dX0_isTray_13 (by decide) ?_
      exact hret _ _ rfl (congrArg (fun z => z) (Option.some.inj hf)) rfl hw dX0_isTray_14
    · have hf := it_neg c_6 hf
      refine lv_iconst (v := 1) FX.1 FX.2.1 dX0_isTray_9 (by decide) ?_
      refine lv_goto (tgt := 14) FX.1 FX.2.1 dX0_isTray_10 (by decide) ?_
      exact hret _ _ rfl (congrArg (fun z => z) (Option.some.inj hf)) rfl hw dX0_isTray_14
abbrev rmX0_is : Room := { frames := 0, cells := 0, slots := 0, locals := 0 }
set_option maxHeartbeats 4000000 in
theorem wX0_is {l : Launch} {G : GT} {M C : FS} {K : KT} {p1 : Int32} {t : (Int32 × FS)} (hf : fX0_is C p1 = some t) : CtI l yX0_is (ws_ yX0_is cX0_is 2 (some .boolean)) rmX0_is G [.ref (G.2.2.2 131), .int p1] (M, C, K.1, K.2.1) t.1 (M, t.2, K.1, K.2.1) := by
  refine mkI (ty := .boolean) (by decide) (Nat.le_of_ble_eq_true rfl) (fun p e s m a0 below meth c Q FX hw hname hret ls hl => ?_)
  have hl : lv_has ls 2 [(0, .ref (G.2.2.2 131)), (1, .int p1)] := hl
  unfold fX0_is at hf
  refine lv_aload_n FX.1 FX.2.1 dX0_is_0 rfl (lv_at hl 0 rfl) ?_
  refine lv_iload_n FX.1 FX.2.1 dX0_is_1 rfl (lv_at hl 1 rfl) ?_
  refine bd hf (fun C1 h_C1 hf => ?_)
  refine sX0_91 FX hw dX0_is_2 (fun H locs hw => ?_)
  rw [Option.some.inj h_C1] at hw
  refine lv_iload_n FX.1 FX.2.1 dX0_is_5 rfl (lv_at hl 1 rfl) ?_
  refine lv_if_ne (tgt := 13) FX.1 FX.2.1 dX0_is_6 (by decide) (fun c_6 => ?_) (fun c_6 => ?_)
  · have hf := it_neg c_6 hf
    refine lv_iconst (v := 0) FX.1 FX.2.1 dX0_is_13 (by decide) ?_
    exact hret _ _ rfl (congrArg (fun z => z.1) (Option.some.inj hf)) (congrArg (fun z => (M, z.2, K.1, K.2.1)) (Option.some.inj hf)) hw dX0_is_14
  · have hf := it_pos c_6 hf
    refine lv_iconst (v := 1) FX.1 FX.2.1 dX0_is_9 (by decide) ?_
    refine lv_goto (tgt := 14) FX.1 FX.2.1 dX0_is_10 (by decide) ?_
    exact hret _ _ rfl (congrArg (fun z => z.1) (Option.some.inj hf)) (congrArg (fun z => (M, z.2, K.1, K.2.1)) (Option.some.inj hf)) hw dX0_is_14
abbrev rmX0_none : Room := { frames := 0, cells := 0, slots := 0, locals := 0 }
set_option maxHeartbeats 4000000 in
theorem wX0_none {l : Launch} {G : GT} {M C : FS} {K : KT} {p1 : Int32} {t : (Int32 × FS)} (hf : fX0_none C p1 = some t) : CtI l yX0_none (ws_ yX0_none cX0_none 2 (some .int)) rmX0_none G [.ref (G.2.2.2 131), .int p1] (M, C, K.1, K.2.1) t.1 (M, t.2, K.1, K.2.1) := by
  refine mkI (ty := .int) (by decide) (Nat.le_of_ble_eq_true rfl) (fun p e s m a0 below meth c Q FX hw hname hret ls hl => ?_)
  have hl : lv_has ls 2 [(0, .ref (G.2.2.2 131)), (1, .int p1)] := hl
  unfold fX0_none at hf
  refine lv_aload_n FX.1 FX.2.1 dX0_none_0 rfl (lv_at hl 0 rfl) ?_
  refine lv_iload_n FX.1 FX.2.1 dX0_none_1 rfl (lv_at hl 1 rfl) ?_
  refine bd hf (fun C1 h_C1 hf => ?_)
  refine sX0_91 FX hw dX0_none_2 (fun H locs hw => ?_)
  rw [Option.some.inj h_C1] at hw
  refine lv_iconst (v := (-1)) FX.1 FX.2.1 dX0_none_5 (by decide) ?_
  exact hret _ _ rfl (congrArg (fun z => z.1) (Option.some.inj hf)) (congrArg (fun z => (M, z.2, K.1, K.2.1)) (Option.some.inj hf)) hw dX0_none_6
abbrev rmX0_four : Room := { frames := 0, cells := 0, slots := 0, locals := 0 }
set_option maxHeartbeats 4000000 in
theorem wX0_four {l : Launch} {G : GT} {M C : FS} {K : KT} {p1 : Int32} {t : FS} (hf : fX0_four C p1 = some t) : CtV l yX0_four (ws_ yX0_four cX0_four 3 none) rmX0_four G [.ref (G.2.2.2 131), .int p1] (M, C, K.1, K.2.1) (M, t, K.1, K.2.1) := by
  refine mkV (by decide) (Nat.le_of_ble_eq_true rfl) (fun p e s m a0 below meth c Q FX hw hname hret ls hl => ?_)
  have hl : lv_has ls 3 [(0, .ref (G.2.2.2 131)), (1, .int p1)] := hl
  unfold fX0_four at hf
  refine lv_bipush (v := 24) FX.1 FX.2.1 dX0_four_0 (by decide) ?_
  refine lv_istore_n (lv' := [(2, .int 24), (0, .ref (G.2.2.2 131)), (1, .int p1)]) FX.1 FX.2.1 dX0_four_2 rfl hl (by decide) rfl (fun ls hl => ?_)
  refine bd hf (fun u3 ht hf => ?_)
  obtain ⟨n, hn⟩ := lp_iff.mp ht
  have hX3 : ∀ (Ct3 : FS) (H : Heap) (locs : List Loc) (ls : Array Slot) , Ct3 = u3 → WS G (M, Ct3, K.1, K.2.1) s H locs → lv_has ls 3 [] → W p l e rmX0_four s m a0 below meth c H locs 0 0 Q (F0 m 45 ls []) := by
    intro Ct3 H locs ls he hw hl
    subst he
    exact hret _ (congrArg (fun z => (M, z, K.1, K.2.1)) (Option.some.inj hf)) hw dX0_four_45
  have hL3 : ∀ (n : Nat) (z3_2 : Int32) (Cz3 : FS) (H : Heap) (locs : List Loc) (ls : Array Slot) , lpN (fun z => fX0_four_L3 p1 z.1 z.2) n (z3_2, Cz3) = some u3 → WS G (M, Cz3, K.1, K.2.1) s H locs → lv_has ls 3 [(0, .ref (G.2.2.2 131)), (1, .int p1), (2, .int z3_2)] → W p l e rmX0_four s m a0 below meth c H locs 0 0 Q (F0 m 3 ls []) := by
    intro n
    induction n with
    | zero => intro z3_2 Cz3 H locs ls hz; cases hz
    | succ n ih =>
      intro z3_2 Cz3 H locs ls hz hw hl
      refine bd (show (fX0_four_L3 p1 z3_2 Cz3).bind _ = some u3 from hz) (fun x3 hf hk3 => ?_)
      unfold fX0_four_L3 at hf
      refine lv_iload_n FX.1 FX.2.1 dX0_four_3 rfl (lv_at hl 2 rfl) ?_
      refine lv_if_lt (tgt := 45) FX.1 FX.2.1 dX0_four_4 (by decide) (fun c_4 => ?_) (fun c_4 => ?_)
      · have hf := it_pos c_4 hf
        exact hX3 _ _ _ _ (lpe hf hk3) hw (lv_sub hl [] rfl)
      · have hf := it_neg c_4 hf
        refine lv_aload_n FX.1 FX.2.1 dX0_four_7 rfl (lv_at hl 0 rfl) ?_
        refine gX0_29 FX hw dX0_four_8 ?_
        refine gX0_178 FX hw dX0_four_11 ?_
        refine lv_aload_n FX.1 FX.2.1 dX0_four_14 rfl (lv_at hl 0 rfl) ?_
        refine gX0_29 FX hw dX0_four_15 ?_
        refine gX0_171 FX hw dX0_four_18 ?_
        refine lv_iload_n FX.1 FX.2.1 dX0_four_21 rfl (lv_at hl 1 rfl) ?_
        refine lv_iload_n FX.1 FX.2.1 dX0_four_22 rfl (lv_at hl 2 rfl) ?_
        refine lv_ishr FX.1 FX.2.1 dX0_four_23 ?_
        refine lv_i2b (v := (p1 >>> (z3_2 &&& 31)).toInt8.toInt32) FX.1 FX.2.1 dX0_four_24 rfl ?_
        refine bd hf (fun C1 h_C1 hf => ?_)
        refine as200 FX hw h_C1 dX0_four_25 (fun H locs hw => ?_)
        refine lv_aload_n FX.1 FX.2.1 dX0_four_26 rfl (lv_at hl 0 rfl) ?_
        refine gX0_29 FX hw dX0_four_27 ?_
        refine lv_dup FX.1 FX.2.1 dX0_four_30 rfl ?_
        refine gX0_171 FX hw dX0_four_31 ?_
        refine lv_iconst (v := 1) FX.1 FX.2.1 dX0_four_34 (by decide) ?_
        refine lv_iadd FX.1 FX.2.1 dX0_four_35 ?_
        refine bd hf (fun C2 h_C2 hf => ?_)
        refine sX0_171 FX hw dX0_four_36 (fun H locs hw => ?_)
        rw [Option.some.inj h_C2] at hw
        refine lv_iinc (v := (z3_2 + (-8))) (lv' := [(2, .int (z3_2 + (-8))), (0, .ref (G.2.2.2 131)), (1, .int p1)]) FX.1 FX.2.1 dX0_four_39 hl (k := 2) rfl (congrArg (fun q : Int32 => z3_2 + q) (by decide : Int32.ofInt (-8) = (-8))) (by decide) rfl (fun ls hl => ?_)
        refine lv_goto (tgt := 3) FX.1 FX.2.1 dX0_four_42 (by decide) ?_
        exact ih _ _ _ _ _ (lpc hf hk3) hw (lv_sub hl [1, 2, 0] rfl)
  exact hL3 n _ _ _ _ _ hn hw (lv_sub hl [1, 2, 0] rfl)
abbrev rmX0_feed : Room := { frames := 1, cells := 0, slots := 0, locals := 22 }
set_option maxHeartbeats 4000000 in
theorem wX0_feed {l : Launch} {G : GT} {M C : FS} {K : KT} {p1 : Int32} {p2 : Int32} {p3 : Int32} {p4 : Int32} {p5 : Int32} {t : (Int32 × FS)} (hf : fX0_feed C p1 p2 p3 p4 p5 = some t) : CtI l yX0_feed (ws_ yX0_feed cX0_feed 6 (some .int)) rmX0_feed G [.ref (G.2.2.2 131), .int p1, .int p2, .int p3, .int p4, .int p5] (M, C, K.1, K.2.1) t.1 (M, t.2, K.1, K.2.1) := by
  refine mkI (ty := .int) (by decide) (Nat.le_of_ble_eq_true rfl) (fun p e s m a0 below meth c Q FX hw hname hret ls hl => ?_)
  have hl : lv_has ls 6 [(0, .ref (G.2.2.2 131)), (1, .int p1), (2, .int p2), (3, .int p3), (4, .int p4), (5, .int p5)] := hl
  unfold fX0_feed at hf
  refine lv_aload_n FX.1 FX.2.1 dX0_feed_0 rfl (lv_at hl 0 rfl) ?_
  refine gX0_29 FX hw dX0_feed_1 ?_
  refine gX0_171 FX hw dX0_feed_4 ?_
  refine lv_bipush (v := 20) FX.1 FX.2.1 dX0_feed_7 (by decide) ?_
  refine lv_iadd FX.1 FX.2.1 dX0_feed_9 ?_
  refine lv_sipush (v := 900) FX.1 FX.2.1 dX0_feed_10 (by decide) ?_
  refine lv_icmp_le (tgt := 18) FX.1 FX.2.1 dX0_feed_13 (by decide) (fun c_13 => ?_) (fun c_13 => ?_)
  · have hf := it_pos c_13 hf
    refine lv_aload_n FX.1 FX.2.1 dX0_feed_18 rfl (lv_at hl 0 rfl) ?_
    refine lv_iload_n FX.1 FX.2.1 dX0_feed_19 rfl (lv_at hl 1 rfl) ?_
    refine bd hf (fun t1 h_t1 hf => ?_)
    refine clV_v0 (As := [.int p1]) (rest := []) FX hw (wX0_four h_t1) (cwV 1 FX.2.2.2.2 (lw_V q641 q643 qs4 q134 q644) rfl rfl rfl (by decide +kernel) ⟨Nat.le_of_ble_eq_true rfl, Nat.le_of_ble_eq_true rfl⟩) (fx_obj hw (o := (131, 0, 100, 31)) (by decide)) rfl rfl hl.1 rfl (lv_room (Nat.le_of_ble_eq_true rfl)) dX0_feed_20 ⟨rfl, rfl⟩ ⟨Nat.zero_le _, Nat.zero_le _⟩ (fun H locs hw => ?_)
    refine lv_aload_n FX.1 FX.2.1 dX0_feed_23 rfl (lv_at hl 0 rfl) ?_
    refine lv_iload_n FX.1 FX.2.1 dX0_feed_24 rfl (lv_at hl 2 rfl) ?_
    refine bd hf (fun t2 h_t2 hf => ?_)
    refine clV_v0 (As := [.int p2]) (rest := []) FX hw (wX0_four h_t2) (cwV 1 FX.2.2.2.2 (lw_V q641 q643 qs4 q134 q644) rfl rfl rfl (by decide +kernel) ⟨Nat.le_of_ble_eq_true rfl, Nat.le_of_ble_eq_true rfl⟩) (fx_obj hw (o := (131, 0, 100, 31)) (by decide)) rfl rfl hl.1 rfl (lv_room (Nat.le_of_ble_eq_true rfl)) dX0_feed_25 ⟨rfl, rfl⟩ ⟨Nat.zero_le _, Nat.zero_le _⟩ (fun H locs hw => ?_)
    refine lv_aload_n FX.1 FX.2.1 dX0_feed_28 rfl (lv_at hl 0 rfl) ?_
    refine lv_iload_n FX.1 FX.2.1 dX0_feed_29 rfl (lv_at hl 3 rfl) ?_
    refine bd hf (fun t3 h_t3 hf => ?_)
    refine clV_v0 (As := [.int p3]) (rest := []) FX hw (wX0_four h_t3) (cwV 1 FX.2.2.2.2 (lw_V q641 q643 qs4 q134 q644) rfl rfl rfl (by decide +kernel) ⟨Nat.le_of_ble_eq_true rfl, Nat.le_of_ble_eq_true rfl⟩) (fx_obj hw (o := (131, 0, 100, 31)) (by decide)) rfl rfl hl.1 rfl (lv_room (Nat.le_of_ble_eq_true rfl)) dX0_feed_30 ⟨rfl, rfl⟩ ⟨Nat.zero_le _, Nat.zero_le _⟩ (fun H locs hw => ?_)
    refine lv_aload_n FX.1 FX.2.1 dX0_feed_33 rfl (lv_at hl 0 rfl) ?_
    refine lv_iload FX.1 FX.2.1 dX0_feed_34 (lv_at hl 4 rfl) ?_
    refine bd hf (fun t4 h_t4 hf => ?_)
    refine clV_v0 (As := [.int p4]) (rest := []) FX hw (wX0_four h_t4) (cwV 1 FX.2.2.2.2 (lw_V q641 q643 qs4 q134 q644) rfl rfl rfl (by decide +kernel) ⟨Nat.le_of_ble_eq_true rfl, Nat.le_of_ble_eq_true rfl⟩) (fx_obj hw (o := (131, 0, 100, 31)) (by decide)) rfl rfl hl.1 rfl (lv_room (Nat.le_of_ble_eq_true rfl)) dX0_feed_36 ⟨rfl, rfl⟩ ⟨Nat.zero_le _, Nat.zero_le _⟩ (fun H locs hw => ?_)
    refine lv_aload_n FX.1 FX.2.1 dX0_feed_39 rfl (lv_at hl 0 rfl) ?_
    refine lv_iload FX.1 FX.2.1 dX0_feed_40 (lv_at hl 5 rfl) ?_
    refine bd hf (fun t5 h_t5 hf => ?_)
    refine clV_v0 (As := [.int p5]) (rest := []) FX hw (wX0_four h_t5) (cwV 1 FX.2.2.2.2 (lw_V q641 q643 qs4 q134 q644) rfl rfl rfl (by decide +kernel) ⟨Nat.le_of_ble_eq_true rfl, Nat.le_of_ble_eq_true rfl⟩) (fx_obj hw (o := (131, 0, 100, 31)) (by decide)) rfl rfl hl.1 rfl (lv_room (Nat.le_of_ble_eq_true rfl)) dX0_feed_42 ⟨rfl, rfl⟩ ⟨Nat.zero_le _, Nat.zero_le _⟩ (fun H locs hw => ?_)
    refine lv_aload_n FX.1 FX.2.1 dX0_feed_45 rfl (lv_at hl 0 rfl) ?_
    refine gX0_29 FX hw dX0_feed_46 ?_
    refine gX0_171 FX hw dX0_feed_49 ?_
    exact hret _ _ rfl (congrArg (fun z => z.1) (Option.some.inj hf)) (congrArg (fun z => (M, z.2, K.1, K.2.1)) (Option.some.inj hf)) hw dX0_feed_52
  · have hf := it_neg c_13 hf
    refine lv_iconst (v := (-1)) FX.1 FX.2.1 dX0_feed_16 (by decide) ?_
    exact hret _ _ rfl (congrArg (fun z => z.1) (Option.some.inj hf)) (congrArg (fun z => (M, z.2, K.1, K.2.1)) (Option.some.inj hf)) hw dX0_feed_17
abbrev rmX0_takes : Room := { frames := 0, cells := 0, slots := 0, locals := 0 }
set_option maxHeartbeats 4000000 in
theorem wX0_takes {l : Launch} {G : GT} {M C : FS} {K : KT} {p1 : Int32} {p2 : Int32} {t : (Int32 × FS)} (hf : fX0_takes C p1 p2 = some t) : CtI l yX0_takes (ws_ yX0_takes cX0_takes 3 (some .boolean)) rmX0_takes G [.ref (G.2.2.2 131), .int p1, .int p2] (M, C, K.1, K.2.1) t.1 (M, t.2, K.1, K.2.1) := by
  refine mkI (ty := .boolean) (by decide) (Nat.le_of_ble_eq_true rfl) (fun p e s m a0 below meth c Q FX hw hname hret ls hl => ?_)
  have hl : lv_has ls 3 [(0, .ref (G.2.2.2 131)), (1, .int p1), (2, .int p2)] := hl
  unfold fX0_takes at hf
  refine lv_iload_n FX.1 FX.2.1 dX0_takes_0 rfl (lv_at hl 1 rfl) ?_
  refine lv_if_lt (tgt := 20) FX.1 FX.2.1 dX0_takes_1 (by decide) (fun c_1 => ?_) (fun c_1 => ?_)
  · have hf := it_pos c_1 hf
    refine lv_iconst (v := 0) FX.1 FX.2.1 dX0_takes_20 (by decide) ?_
    exact hret _ _ rfl (congrArg (fun z => z.1) (Option.some.inj hf)) (congrArg (fun z => (M, z.2, K.1, K.2.1)) (Option.some.inj hf)) hw dX0_takes_21
  · have hf := it_neg c_1 hf
    refine lv_iload_n FX.1 FX.2.1 dX0_takes_4 rfl (lv_at hl 1 rfl) ?_
    refine lv_aload_n FX.1 FX.2.1 dX0_takes_5 rfl (lv_at hl 0 rfl) ?_
    refine gX0_29 FX hw dX0_takes_6 ?_
    refine gX0_171 FX hw dX0_takes_9 ?_
    refine lv_icmp_gt (tgt := 20) FX.1 FX.2.1 dX0_takes_12 (by decide) (fun c_12 => ?_) (fun c_12 => ?_)
    · have hf := it_pos c_12 hf
      refine lv_iconst (v := 0) FX.1 FX.2.1 dX0_takes_20 (by decide) ?_
      exact hret _ _ rfl (congrArg (fun z => z.1) (Option.some.inj hf)) (congrArg (fun z => (M, z.2, K.1, K.2.1)) (Option.some.inj hf)) hw dX0_takes_21
    · have hf := it_neg c_12 hf
      refine lv_iload_n FX.1 FX.2.1 dX0_takes_15 rfl (lv_at hl 1 rfl) ?_
      refine lv_iload_n FX.1 FX.2.1 dX0_takes_16 rfl (lv_at hl 2 rfl) ?_
      refine lv_icmp_le (tgt := 22) FX.1 FX.2.1 dX0_takes_17 (by decide) (fun c_17 => ?_) (fun c_17 => ?_)
      · have hf := it_pos c_17 hf
        refine lv_aload_n FX.1 FX.2.1 dX0_takes_22 rfl (lv_at hl 0 rfl) ?_
        refine gX0_29 FX hw dX0_takes_23 ?_
        refine lv_iconst (v := 0) FX.1 FX.2.1 dX0_takes_26 (by decide) ?_
        refine bd hf (fun C1 h_C1 hf => ?_)
        refine sX0_171 FX hw dX0_takes_27 (fun H locs hw => ?_)
        rw [Option.some.inj h_C1] at hw
        refine lv_aload_n FX.1 FX.2.1 dX0_takes_30 rfl (lv_at hl 0 rfl) ?_
        refine lv_iconst (v := 0) FX.1 FX.2.1 dX0_takes_31 (by decide) ?_
        refine bd hf (fun C2 h_C2 hf => ?_)
        refine sX0_42 FX hw dX0_takes_32 (fun H locs hw => ?_)
        rw [Option.some.inj h_C2] at hw
        refine lv_aload_n FX.1 FX.2.1 dX0_takes_35 rfl (lv_at hl 0 rfl) ?_
        refine lv_iconst (v := (-1)) FX.1 FX.2.1 dX0_takes_36 (by decide) ?_
        refine bd hf (fun C3 h_C3 hf => ?_)
        refine sX0_46 FX hw dX0_takes_37 (fun H locs hw => ?_)
        rw [Option.some.inj h_C3] at hw
        refine lv_iconst (v := 1) FX.1 FX.2.1 dX0_takes_40 (by decide) ?_
        exact hret _ _ rfl (congrArg (fun z => z.1) (Option.some.inj hf)) (congrArg (fun z => (M, z.2, K.1, K.2.1)) (Option.some.inj hf)) hw dX0_takes_41
      · have hf := it_neg c_17 hf
        refine lv_iconst (v := 0) FX.1 FX.2.1 dX0_takes_20 (by decide) ?_
        exact hret _ _ rfl (congrArg (fun z => z.1) (Option.some.inj hf)) (congrArg (fun z => (M, z.2, K.1, K.2.1)) (Option.some.inj hf)) hw dX0_takes_21
abbrev rmX0_refused : Room := { frames := 1, cells := 0, slots := 0, locals := 21 }
set_option maxHeartbeats 4000000 in
theorem wX0_refused {l : Launch} {G : GT} {M C : FS} {K : KT} {t : (Int32 × FS)} (hf : fX0_refused C = some t) : CtI l yX0_refused (ws_ yX0_refused cX0_refused 2 (some .int)) rmX0_refused G [.ref (G.2.2.2 131), .ref (G.2.2.2 308)] (M, C, K.1, K.2.1) t.1 (M, t.2, K.1, K.2.1) := by
  refine mkI (ty := .int) (by decide) (Nat.le_of_ble_eq_true rfl) (fun p e s m a0 below meth c Q FX hw hname hret ls hl => ?_)
  have hl : lv_has ls 2 [(0, .ref (G.2.2.2 131)), (1, .ref (G.2.2.2 308))] := hl
  unfold fX0_refused at hf
  refine lv_aload_n FX.1 FX.2.1 dX0_refused_0 rfl (lv_at hl 0 rfl) ?_
  refine lv_aload_n FX.1 FX.2.1 dX0_refused_1 rfl (lv_at hl 1 rfl) ?_
  refine gX0_182 FX hw dX0_refused_2 ?_
  refine bd hf (fun C1 h_C1 hf => ?_)
  refine sX0_42 FX hw dX0_refused_5 (fun H locs hw => ?_)
  rw [Option.some.inj h_C1] at hw
  refine lv_aload_n FX.1 FX.2.1 dX0_refused_8 rfl (lv_at hl 0 rfl) ?_
  refine lv_aload_n FX.1 FX.2.1 dX0_refused_9 rfl (lv_at hl 1 rfl) ?_
  refine gX0_185 FX hw dX0_refused_10 ?_
  refine bd hf (fun C2 h_C2 hf => ?_)
  refine sX0_46 FX hw dX0_refused_13 (fun H locs hw => ?_)
  rw [Option.some.inj h_C2] at hw
  refine lv_aload_n FX.1 FX.2.1 dX0_refused_16 rfl (lv_at hl 0 rfl) ?_
  refine lv_bipush (v := 10) FX.1 FX.2.1 dX0_refused_17 (by decide) ?_
  refine bd hf (fun t3 h_t3 hf => ?_)
  refine clV_i0 (As := [.int 10]) (rest := []) FX hw (wX0_none h_t3) (cwV 1 FX.2.2.2.2 (lw_V q620 q622 qs3 q134 q623) rfl rfl rfl (by decide +kernel) ⟨Nat.le_of_ble_eq_true rfl, Nat.le_of_ble_eq_true rfl⟩) (fx_obj hw (o := (131, 0, 100, 31)) (by decide)) rfl rfl hl.1 rfl (lv_room (Nat.le_of_ble_eq_true rfl)) dX0_refused_19 ⟨rfl, rfl⟩ ⟨Nat.zero_le _, Nat.zero_le _⟩ (fun H locs hw => ?_)
  exact hret _ _ rfl (congrArg (fun z => z.1) (Option.some.inj hf)) (congrArg (fun z => (M, z.2, K.1, K.2.1)) (Option.some.inj hf)) hw dX0_refused_22
abbrev rmX0_gives : Room := { frames := 0, cells := 0, slots := 0, locals := 0 }
set_option maxHeartbeats 4000000 in
theorem wX0_gives {l : Launch} {G : GT} {M C : FS} {K : KT} {p1 : Int32} {t : (Int32 × FS)} (hf : fX0_gives C p1 = some t) : CtI l yX0_gives (ws_ yX0_gives cX0_gives 2 (some .int)) rmX0_gives G [.ref (G.2.2.2 131), .int p1] (M, C, K.1, K.2.1) t.1 (M, t.2, K.1, K.2.1) := by
  refine mkI (ty := .int) (by decide) (Nat.le_of_ble_eq_true rfl) (fun p e s m a0 below meth c Q FX hw hname hret ls hl => ?_)
  have hl : lv_has ls 2 [(0, .ref (G.2.2.2 131)), (1, .int p1)] := hl
  unfold fX0_gives at hf
  refine lv_aload_n FX.1 FX.2.1 dX0_gives_0 rfl (lv_at hl 0 rfl) ?_
  refine lv_iconst (v := 0) FX.1 FX.2.1 dX0_gives_1 (by decide) ?_
  refine bd hf (fun C1 h_C1 hf => ?_)
  refine sX0_91 FX hw dX0_gives_2 (fun H locs hw => ?_)
  rw [Option.some.inj h_C1] at hw
  refine lv_iload_n FX.1 FX.2.1 dX0_gives_5 rfl (lv_at hl 1 rfl) ?_
  exact hret _ _ rfl (congrArg (fun z => z.1) (Option.some.inj hf)) (congrArg (fun z => (M, z.2, K.1, K.2.1)) (Option.some.inj hf)) hw dX0_gives_6
abbrev rmX0_fault : Room := { frames := 0, cells := 0, slots := 0, locals := 0 }
set_option maxHeartbeats 4000000 in
theorem wX0_fault {l : Launch} {G : GT} {M C : FS} {K : KT} {p1 : Int32} {t : Int32} (hf : fX0_fault C p1 = some t) : CtI l yX0_fault (ws_ yX0_fault cX0_fault 2 (some .int)) rmX0_fault G [.ref (G.2.2.2 131), .int p1] (M, C, K.1, K.2.1) t (M, C, K.1, K.2.1) := by
  refine mkI (ty := .int) (by decide) (Nat.le_of_ble_eq_true rfl) (fun p e s m a0 below meth c Q FX hw hname hret ls hl => ?_)
  have hl : lv_has ls 2 [(0, .ref (G.2.2.2 131)), (1, .int p1)] := hl
  unfold fX0_fault at hf
  refine lv_iload_n FX.1 FX.2.1 dX0_fault_0 rfl (lv_at hl 1 rfl) ?_
  refine lv_if_ne (tgt := 11) FX.1 FX.2.1 dX0_fault_1 (by decide) (fun c_1 => ?_) (fun c_1 => ?_)
  · have hf := it_neg c_1 hf
    refine lv_iload_n FX.1 FX.2.1 dX0_fault_11 rfl (lv_at hl 1 rfl) ?_
    refine lv_iconst (v := 1) FX.1 FX.2.1 dX0_fault_12 (by decide) ?_
    refine lv_icmp_ne (tgt := 23) FX.1 FX.2.1 dX0_fault_13 (by decide) (fun c_13 => ?_) (fun c_13 => ?_)
    · have hf := it_neg c_13 hf
      refine lv_iconst (v := (-1)) FX.1 FX.2.1 dX0_fault_23 (by decide) ?_
      exact hret _ _ rfl (congrArg (fun z => z) (Option.some.inj hf)) rfl hw dX0_fault_24
    · have hf := it_pos c_13 hf
      refine lv_aload_n FX.1 FX.2.1 dX0_fault_16 rfl (lv_at hl 0 rfl) ?_
      refine gX0_46 FX hw dX0_fault_17 ?_
      refine lv_goto (tgt := 24) FX.1 FX.2.1 dX0_fault_20 (by decide) ?_
      exact hret _ _ rfl (congrArg (fun z => z) (Option.some.inj hf)) rfl hw dX0_fault_24
  · have hf := it_pos c_1 hf
    refine lv_aload_n FX.1 FX.2.1 dX0_fault_4 rfl (lv_at hl 0 rfl) ?_
    refine gX0_42 FX hw dX0_fault_5 ?_
    refine lv_goto (tgt := 24) FX.1 FX.2.1 dX0_fault_8 (by decide) ?_
    exact hret _ _ rfl (congrArg (fun z => z) (Option.some.inj hf)) rfl hw dX0_fault_24
abbrev rmX4_inSet : Room := { frames := 0, cells := 0, slots := 0, locals := 0 }
set_option maxHeartbeats 4000000 in
theorem wX4_inSet {l : Launch} {G : GT} {M C : FS} {K : KT} {a : Nat} {t : Int32} (hf : fX4_inSet K a = some t) : CtI l yX4_inSet (ws_ yX4_inSet cX4_inSet 3 (some .int)) rmX4_inSet G [.ref a] (M, C, K.1, K.2.1) t (M, C, K.1, K.2.1) := by
  refine mkI (ty := .int) (by decide) (Nat.le_of_ble_eq_true rfl) (fun p e s m a0 below meth c Q FX hw hname hret ls hl => ?_)
  have hl : lv_has ls 3 [(0, .ref a)] := hl
  unfold fX4_inSet at hf
  refine lv_iconst (v := 0) FX.1 FX.2.1 dX4_inSet_0 (by decide) ?_
  refine lv_istore_n (lv' := [(1, .int 0), (0, .ref a)]) FX.1 FX.2.1 dX4_inSet_1 rfl hl (by decide) rfl (fun ls hl => ?_)
  refine lv_iconst (v := 0) FX.1 FX.2.1 dX4_inSet_2 (by decide) ?_
  refine lv_istore_n (lv' := [(2, .int 0), (1, .int 0), (0, .ref a)]) FX.1 FX.2.1 dX4_inSet_3 rfl hl (by decide) rfl (fun ls hl => ?_)
  refine bd hf (fun u4 ht hf => ?_)
  obtain ⟨n, hn⟩ := lp_iff.mp ht
  have hX4 : ∀ (t4_1 : Int32) (H : Heap) (locs : List Loc) (ls : Array Slot) , t4_1 = u4 → WS G (M, C, K.1, K.2.1) s H locs → lv_has ls 3 [(1, .int t4_1)] → W p l e rmX4_inSet s m a0 below meth c H locs 0 0 Q (F0 m 40 ls []) := by
    intro t4_1 H locs ls he hw hl
    subst he
    refine lv_iload_n FX.1 FX.2.1 dX4_inSet_40 rfl (lv_at hl 0 rfl) ?_
    exact hret _ _ rfl (congrArg (fun z => z) (Option.some.inj hf)) rfl hw dX4_inSet_41
  have hL4 : ∀ (n : Nat) (z4_1 : Int32) (z4_2 : Int32) (H : Heap) (locs : List Loc) (ls : Array Slot) , lpN (fun z => fX4_inSet_L4 K a z.1 z.2) n (z4_1, z4_2) = some u4 → WS G (M, C, K.1, K.2.1) s H locs → lv_has ls 3 [(0, .ref a), (1, .int z4_1), (2, .int z4_2)] → W p l e rmX4_inSet s m a0 below meth c H locs 0 0 Q (F0 m 4 ls []) := by
    intro n
    induction n with
    | zero => intro z4_1 z4_2 H locs ls hz; cases hz
    | succ n ih =>
      intro z4_1 z4_2 H locs ls hz hw hl
      refine bd (show (fX4_inSet_L4 K a z4_1 z4_2).bind _ = some u4 from hz) (fun x4 hf hk4 => ?_)
      unfold fX4_inSet_L4 at hf
      refine lv_iload_n FX.1 FX.2.1 dX4_inSet_4 rfl (lv_at hl 2 rfl) ?_
      refine lv_aload_n FX.1 FX.2.1 dX4_inSet_5 rfl (lv_at hl 0 rfl) ?_
      refine bd hf (fun v1 h_v1 hf => ?_)
      refine gX4_37 FX hw h_v1 dX4_inSet_6 ?_
      refine lv_icmp_ge (tgt := 40) FX.1 FX.2.1 dX4_inSet_9 (by decide) (fun c_9 => ?_) (fun c_9 => ?_)
      · have hf := it_pos c_9 hf
        exact hX4 _ _ _ _ (lpe hf hk4) hw (lv_sub hl [1] rfl)
      · have hf := it_neg c_9 hf
        refine lv_iload_n FX.1 FX.2.1 dX4_inSet_12 rfl (lv_at hl 1 rfl) ?_
        refine lv_aload_n FX.1 FX.2.1 dX4_inSet_13 rfl (lv_at hl 0 rfl) ?_
        refine bd hf (fun a2 h_a2 hf => ?_)
        refine gX4_11 FX hw h_a2 dX4_inSet_14 ?_
        refine lv_iload_n FX.1 FX.2.1 dX4_inSet_17 rfl (lv_at hl 2 rfl) ?_
        refine bd hf (fun a3 h_a3 hf => ?_)
        refine ei_aald 5 rfl FX hw h_a3 dX4_inSet_18 ?_
        refine bd hf (fun v4 h_v4 hf => ?_)
        refine gX4_70 FX hw h_v4 dX4_inSet_19 ?_
        refine lv_if_eq (tgt := 29) FX.1 FX.2.1 dX4_inSet_22 (by decide) (fun c_22 => ?_) (fun c_22 => ?_)
        · have hf := it_pos c_22 hf
          refine lv_iconst (v := 1) FX.1 FX.2.1 dX4_inSet_29 (by decide) ?_
          refine lv_iload_n FX.1 FX.2.1 dX4_inSet_30 rfl (lv_at hl 2 rfl) ?_
          refine lv_ishl FX.1 FX.2.1 dX4_inSet_31 ?_
          refine lv_ior FX.1 FX.2.1 dX4_inSet_32 ?_
          refine lv_istore_n (lv' := [(1, .int (z4_1 ||| (1 <<< (z4_2 &&& 31)))), (0, .ref a), (2, .int z4_2)]) FX.1 FX.2.1 dX4_inSet_33 rfl hl (by decide) rfl (fun ls hl => ?_)
          refine lv_iinc (v := (z4_2 + 1)) (lv' := [(2, .int (z4_2 + 1)), (1, .int (z4_1 ||| (1 <<< (z4_2 &&& 31)))), (0, .ref a)]) FX.1 FX.2.1 dX4_inSet_34 hl (k := 2) rfl (congrArg (fun q : Int32 => z4_2 + q) (by decide : Int32.ofInt 1 = 1)) (by decide) rfl (fun ls hl => ?_)
          refine lv_goto (tgt := 4) FX.1 FX.2.1 dX4_inSet_37 (by decide) ?_
          exact ih _ _ _ _ _ (lpc hf hk4) hw (lv_sub hl [2, 1, 0] rfl)
        · have hf := it_neg c_22 hf
          refine lv_iconst (v := 0) FX.1 FX.2.1 dX4_inSet_25 (by decide) ?_
          refine lv_goto (tgt := 32) FX.1 FX.2.1 dX4_inSet_26 (by decide) ?_
          refine lv_ior FX.1 FX.2.1 dX4_inSet_32 ?_
          refine lv_istore_n (lv' := [(1, .int (z4_1 ||| 0)), (0, .ref a), (2, .int z4_2)]) FX.1 FX.2.1 dX4_inSet_33 rfl hl (by decide) rfl (fun ls hl => ?_)
          refine lv_iinc (v := (z4_2 + 1)) (lv' := [(2, .int (z4_2 + 1)), (1, .int (z4_1 ||| 0)), (0, .ref a)]) FX.1 FX.2.1 dX4_inSet_34 hl (k := 2) rfl (congrArg (fun q : Int32 => z4_2 + q) (by decide : Int32.ofInt 1 = 1)) (by decide) rfl (fun ls hl => ?_)
          refine lv_goto (tgt := 4) FX.1 FX.2.1 dX4_inSet_37 (by decide) ?_
          exact ih _ _ _ _ _ (lpc hf hk4) hw (lv_sub hl [2, 1, 0] rfl)
  exact hL4 n _ _ _ _ _ hn hw (lv_sub hl [2, 1, 0] rfl)
abbrev rmX0_clipped : Room := { frames := 0, cells := 0, slots := 0, locals := 0 }
set_option maxHeartbeats 4000000 in
theorem wX0_clipped {l : Launch} {G : GT} {M C : FS} {K : KT} {t : Int32} (hf : fX0_clipped C K = some t) : CtI l yX0_clipped (ws_ yX0_clipped cX0_clipped 3 (some .int)) rmX0_clipped G [.ref (G.2.2.2 131)] (M, C, K.1, K.2.1) t (M, C, K.1, K.2.1) := by
  refine mkI (ty := .int) (by decide) (Nat.le_of_ble_eq_true rfl) (fun p e s m a0 below meth c Q FX hw hname hret ls hl => ?_)
  have hl : lv_has ls 3 [(0, .ref (G.2.2.2 131))] := hl
  unfold fX0_clipped at hf
  refine lv_iconst (v := 0) FX.1 FX.2.1 dX0_clipped_0 (by decide) ?_
  refine lv_istore_n (lv' := [(1, .int 0), (0, .ref (G.2.2.2 131))]) FX.1 FX.2.1 dX0_clipped_1 rfl hl (by decide) rfl (fun ls hl => ?_)
  refine lv_iconst (v := 0) FX.1 FX.2.1 dX0_clipped_2 (by decide) ?_
  refine lv_istore_n (lv' := [(2, .int 0), (1, .int 0), (0, .ref (G.2.2.2 131))]) FX.1 FX.2.1 dX0_clipped_3 rfl hl (by decide) rfl (fun ls hl => ?_)
  refine bd hf (fun u4 ht hf => ?_)
  obtain ⟨n, hn⟩ := lp_iff.mp ht
  have hX4 : ∀ (t4_1 : Int32) (H : Heap) (locs : List Loc) (ls : Array Slot) , t4_1 = u4 → WS G (M, C, K.1, K.2.1) s H locs → lv_has ls 3 [(1, .int t4_1)] → W p l e rmX0_clipped s m a0 below meth c H locs 0 0 Q (F0 m 61 ls []) := by
    intro t4_1 H locs ls he hw hl
    subst he
    refine lv_iload_n FX.1 FX.2.1 dX0_clipped_61 rfl (lv_at hl 0 rfl) ?_
    exact hret _ _ rfl (congrArg (fun z => z) (Option.some.inj hf)) rfl hw dX0_clipped_62
  have hL4 : ∀ (n : Nat) (z4_1 : Int32) (z4_2 : Int32) (H : Heap) (locs : List Loc) (ls : Array Slot) , lpN (fun z => fX0_clipped_L4 C K z.1 z.2) n (z4_1, z4_2) = some u4 → WS G (M, C, K.1, K.2.1) s H locs → lv_has ls 3 [(0, .ref (G.2.2.2 131)), (1, .int z4_1), (2, .int z4_2)] → W p l e rmX0_clipped s m a0 below meth c H locs 0 0 Q (F0 m 4 ls []) := by
    intro n
    induction n with
    | zero => intro z4_1 z4_2 H locs ls hz; cases hz
    | succ n ih =>
      intro z4_1 z4_2 H locs ls hz hw hl
      refine bd (show (fX0_clipped_L4 C K z4_1 z4_2).bind _ = some u4 from hz) (fun x4 hf hk4 => ?_)
      unfold fX0_clipped_L4 at hf
      refine lv_iload_n FX.1 FX.2.1 dX0_clipped_4 rfl (lv_at hl 2 rfl) ?_
      refine lv_aload_n FX.1 FX.2.1 dX0_clipped_5 rfl (lv_at hl 0 rfl) ?_
      refine gX0_38 FX hw dX0_clipped_6 ?_
      refine bd hf (fun a1 h_a1 hf => ?_)
      rw [show va_rf (C.2.2.1 103) = .ref a1 from congrArg va_rf h_a1]
      refine bd hf (fun v2 h_v2 hf => ?_)
      refine gX0_152 FX hw h_v2 dX0_clipped_9 ?_
      refine lv_icmp_ge (tgt := 61) FX.1 FX.2.1 dX0_clipped_12 (by decide) (fun c_12 => ?_) (fun c_12 => ?_)
      · have hf := it_pos c_12 hf
        exact hX4 _ _ _ _ (lpe hf hk4) hw (lv_sub hl [1] rfl)
      · have hf := it_neg c_12 hf
        refine lv_iload_n FX.1 FX.2.1 dX0_clipped_15 rfl (lv_at hl 1 rfl) ?_
        refine lv_aload_n FX.1 FX.2.1 dX0_clipped_16 rfl (lv_at hl 0 rfl) ?_
        refine gX0_38 FX hw dX0_clipped_17 ?_
        refine bd hf (fun a3 h_a3 hf => ?_)
        rw [show va_rf (C.2.2.1 103) = .ref a3 from congrArg va_rf h_a3]
        refine bd hf (fun a4 h_a4 hf => ?_)
        refine gX0_161 FX hw h_a4 dX0_clipped_20 ?_
        refine lv_iload_n FX.1 FX.2.1 dX0_clipped_23 rfl (lv_at hl 2 rfl) ?_
        refine bd hf (fun a5 h_a5 hf => ?_)
        refine ei_aald 5 rfl FX hw h_a5 dX0_clipped_24 ?_
        refine bd hf (fun v6 h_v6 hf => ?_)
        refine gX0_214 FX hw h_v6 dX0_clipped_25 ?_
        refine lv_if_eq (tgt := 52) FX.1 FX.2.1 dX0_clipped_28 (by decide) (fun c_28 => ?_) (fun c_28 => ?_)
        · have hf := it_pos c_28 hf
          refine lv_iconst (v := 0) FX.1 FX.2.1 dX0_clipped_52 (by decide) ?_
          refine lv_ior FX.1 FX.2.1 dX0_clipped_53 ?_
          refine lv_istore_n (lv' := [(1, .int (z4_1 ||| 0)), (0, .ref (G.2.2.2 131)), (2, .int z4_2)]) FX.1 FX.2.1 dX0_clipped_54 rfl hl (by decide) rfl (fun ls hl => ?_)
          refine lv_iinc (v := (z4_2 + 1)) (lv' := [(2, .int (z4_2 + 1)), (1, .int (z4_1 ||| 0)), (0, .ref (G.2.2.2 131))]) FX.1 FX.2.1 dX0_clipped_55 hl (k := 2) rfl (congrArg (fun q : Int32 => z4_2 + q) (by decide : Int32.ofInt 1 = 1)) (by decide) rfl (fun ls hl => ?_)
          refine lv_goto (tgt := 4) FX.1 FX.2.1 dX0_clipped_58 (by decide) ?_
          exact ih _ _ _ _ _ (lpc hf hk4) hw (lv_sub hl [2, 1, 0] rfl)
        · have hf := it_neg c_28 hf
          refine lv_aload_n FX.1 FX.2.1 dX0_clipped_31 rfl (lv_at hl 0 rfl) ?_
          refine gX0_38 FX hw dX0_clipped_32 ?_
          refine bd hf (fun a7 h_a7 hf => ?_)
          rw [show va_rf (C.2.2.1 103) = .ref a7 from congrArg va_rf h_a7]
          refine bd hf (fun a8 h_a8 hf => ?_)
          refine gX0_161 FX hw h_a8 dX0_clipped_35 ?_
          refine lv_iload_n FX.1 FX.2.1 dX0_clipped_38 rfl (lv_at hl 2 rfl) ?_
          refine bd hf (fun a9 h_a9 hf => ?_)
          refine ei_aald 5 rfl FX hw h_a9 dX0_clipped_39 ?_
          refine bd hf (fun v10 h_v10 hf => ?_)
          refine gX0_165 FX hw h_v10 dX0_clipped_40 ?_
          refine lv_if_ne (tgt := 52) FX.1 FX.2.1 dX0_clipped_43 (by decide) (fun c_43 => ?_) (fun c_43 => ?_)
          · have hf := it_neg c_43 hf
            refine lv_iconst (v := 0) FX.1 FX.2.1 dX0_clipped_52 (by decide) ?_
            refine lv_ior FX.1 FX.2.1 dX0_clipped_53 ?_
            refine lv_istore_n (lv' := [(1, .int (z4_1 ||| 0)), (0, .ref (G.2.2.2 131)), (2, .int z4_2)]) FX.1 FX.2.1 dX0_clipped_54 rfl hl (by decide) rfl (fun ls hl => ?_)
            refine lv_iinc (v := (z4_2 + 1)) (lv' := [(2, .int (z4_2 + 1)), (1, .int (z4_1 ||| 0)), (0, .ref (G.2.2.2 131))]) FX.1 FX.2.1 dX0_clipped_55 hl (k := 2) rfl (congrArg (fun q : Int32 => z4_2 + q) (by decide : Int32.ofInt 1 = 1)) (by decide) rfl (fun ls hl => ?_)
            refine lv_goto (tgt := 4) FX.1 FX.2.1 dX0_clipped_58 (by decide) ?_
            exact ih _ _ _ _ _ (lpc hf hk4) hw (lv_sub hl [2, 1, 0] rfl)
          · have hf := it_pos c_43 hf
            refine lv_iconst (v := 1) FX.1 FX.2.1 dX0_clipped_46 (by decide) ?_
            refine lv_iload_n FX.1 FX.2.1 dX0_clipped_47 rfl (lv_at hl 2 rfl) ?_
            refine lv_ishl FX.1 FX.2.1 dX0_clipped_48 ?_
            refine lv_goto (tgt := 53) FX.1 FX.2.1 dX0_clipped_49 (by decide) ?_
            refine lv_ior FX.1 FX.2.1 dX0_clipped_53 ?_
            refine lv_istore_n (lv' := [(1, .int (z4_1 ||| (1 <<< (z4_2 &&& 31)))), (0, .ref (G.2.2.2 131)), (2, .int z4_2)]) FX.1 FX.2.1 dX0_clipped_54 rfl hl (by decide) rfl (fun ls hl => ?_)
            refine lv_iinc (v := (z4_2 + 1)) (lv' := [(2, .int (z4_2 + 1)), (1, .int (z4_1 ||| (1 <<< (z4_2 &&& 31)))), (0, .ref (G.2.2.2 131))]) FX.1 FX.2.1 dX0_clipped_55 hl (k := 2) rfl (congrArg (fun q : Int32 => z4_2 + q) (by decide : Int32.ofInt 1 = 1)) (by decide) rfl (fun ls hl => ?_)
            refine lv_goto (tgt := 4) FX.1 FX.2.1 dX0_clipped_58 (by decide) ?_
            exact ih _ _ _ _ _ (lpc hf hk4) hw (lv_sub hl [2, 1, 0] rfl)
  exact hL4 n _ _ _ _ _ hn hw (lv_sub hl [2, 1, 0] rfl)
abbrev rmX0_many : Room := { frames := 1, cells := 0, slots := 0, locals := 22 }
set_option maxHeartbeats 4000000 in
theorem wX0_many {l : Launch} {G : GT} {M C : FS} {K : KT} {p1 : Int32} {t : (Int32 × FS)} (hf : fX0_many C K p1 = some t) : CtI l yX0_many (ws_ yX0_many cX0_many 2 (some .int)) rmX0_many G [.ref (G.2.2.2 131), .int p1] (M, C, K.1, K.2.1) t.1 (M, t.2, K.1, K.2.1) := by
  refine mkI (ty := .int) (by decide) (Nat.le_of_ble_eq_true rfl) (fun p e s m a0 below meth c Q FX hw hname hret ls hl => ?_)
  have hl : lv_has ls 2 [(0, .ref (G.2.2.2 131)), (1, .int p1)] := hl
  unfold fX0_many at hf
  refine lv_iload_n FX.1 FX.2.1 dX0_many_0 rfl (lv_at hl 1 rfl) ?_
  by_cases c_1 : p1 < 0 ∨ 7 < p1
  · have hf := it_pos c_1 hf
    refine lv_tableOut (tgt := 141) FX.1 FX.2.1 dX0_many_1 (sw_out (lo := 0) (hi := 7) rfl rfl c_1) (by decide) ?_
    refine lv_aload_n FX.1 FX.2.1 dX0_many_141 rfl (lv_at hl 0 rfl) ?_
    refine lv_iconst (v := 5) FX.1 FX.2.1 dX0_many_142 (by decide) ?_
    refine bd hf (fun t1 h_t1 hf => ?_)
    refine clV_i0 (As := [.int 5]) (rest := []) FX hw (wX0_none h_t1) (cwV 1 FX.2.2.2.2 (lw_V q620 q622 qs3 q134 q623) rfl rfl rfl (by decide +kernel) ⟨Nat.le_of_ble_eq_true rfl, Nat.le_of_ble_eq_true rfl⟩) (fx_obj hw (o := (131, 0, 100, 31)) (by decide)) rfl rfl hl.1 rfl (lv_room (Nat.le_of_ble_eq_true rfl)) dX0_many_143 ⟨rfl, rfl⟩ ⟨Nat.zero_le _, Nat.zero_le _⟩ (fun H locs hw => ?_)
    exact hret _ _ rfl (congrArg (fun z => z.1) (Option.some.inj hf)) (congrArg (fun z => (M, z.2, K.1, K.2.1)) (Option.some.inj hf)) hw dX0_many_146
  · have hf := it_neg c_1 hf
    by_cases c_1_0 : p1 = 0
    · have hf := it_pos c_1_0 hf
      refine lv_tableIn (off := 47) (tgt := 48) FX.1 FX.2.1 dX0_many_1 (by rw [c_1_0]; decide) (by rw [c_1_0]; decide) (by rw [c_1_0]; rfl) (by decide) ?_
      refine lv_aload_n FX.1 FX.2.1 dX0_many_48 rfl (lv_at hl 0 rfl) ?_
      refine lv_aload_n FX.1 FX.2.1 dX0_many_49 rfl (lv_at hl 0 rfl) ?_
      refine gX0_38 FX hw dX0_many_50 ?_
      refine bd hf (fun a2 h_a2 hf => ?_)
      rw [show va_rf (C.2.2.1 103) = .ref a2 from congrArg va_rf h_a2]
      refine bd hf (fun v3 h_v3 hf => ?_)
      refine gX0_152 FX hw h_v3 dX0_many_53 ?_
      refine bd hf (fun t4 h_t4 hf => ?_)
      refine clV_i0 (As := [.int v3]) (rest := []) FX hw (wX0_gives h_t4) (cwV 1 FX.2.2.2.2 (lw_V q962 q964 qs16 q134 q965) rfl rfl rfl (by decide +kernel) ⟨Nat.le_of_ble_eq_true rfl, Nat.le_of_ble_eq_true rfl⟩) (fx_obj hw (o := (131, 0, 100, 31)) (by decide)) rfl rfl hl.1 rfl (lv_room (Nat.le_of_ble_eq_true rfl)) dX0_many_56 ⟨rfl, rfl⟩ ⟨Nat.zero_le _, Nat.zero_le _⟩ (fun H locs hw => ?_)
      exact hret _ _ rfl (congrArg (fun z => z.1) (Option.some.inj hf)) (congrArg (fun z => (M, z.2, K.1, K.2.1)) (Option.some.inj hf)) hw dX0_many_59
    · have hf := it_neg c_1_0 hf
      by_cases c_1_1 : p1 = 1
      · have hf := it_pos c_1_1 hf
        refine lv_tableIn (off := 59) (tgt := 60) FX.1 FX.2.1 dX0_many_1 (by rw [c_1_1]; decide) (by rw [c_1_1]; decide) (by rw [c_1_1]; rfl) (by decide) ?_
        refine lv_aload_n FX.1 FX.2.1 dX0_many_60 rfl (lv_at hl 0 rfl) ?_
        refine lv_aload_n FX.1 FX.2.1 dX0_many_61 rfl (lv_at hl 0 rfl) ?_
        refine gX0_38 FX hw dX0_many_62 ?_
        refine bd hf (fun a5 h_a5 hf => ?_)
        rw [show va_rf (C.2.2.1 103) = .ref a5 from congrArg va_rf h_a5]
        refine bd hf (fun v6 h_v6 hf => ?_)
        refine gX0_217 FX hw h_v6 dX0_many_65 ?_
        refine bd hf (fun t7 h_t7 hf => ?_)
        refine clV_i0 (As := [.int v6]) (rest := []) FX hw (wX0_gives h_t7) (cwV 1 FX.2.2.2.2 (lw_V q962 q964 qs16 q134 q965) rfl rfl rfl (by decide +kernel) ⟨Nat.le_of_ble_eq_true rfl, Nat.le_of_ble_eq_true rfl⟩) (fx_obj hw (o := (131, 0, 100, 31)) (by decide)) rfl rfl hl.1 rfl (lv_room (Nat.le_of_ble_eq_true rfl)) dX0_many_68 ⟨rfl, rfl⟩ ⟨Nat.zero_le _, Nat.zero_le _⟩ (fun H locs hw => ?_)
        exact hret _ _ rfl (congrArg (fun z => z.1) (Option.some.inj hf)) (congrArg (fun z => (M, z.2, K.1, K.2.1)) (Option.some.inj hf)) hw dX0_many_71
      · have hf := it_neg c_1_1 hf
        by_cases c_1_2 : p1 = 2
        · have hf := it_pos c_1_2 hf
          refine lv_tableIn (off := 71) (tgt := 72) FX.1 FX.2.1 dX0_many_1 (by rw [c_1_2]; decide) (by rw [c_1_2]; decide) (by rw [c_1_2]; rfl) (by decide) ?_
          refine lv_aload_n FX.1 FX.2.1 dX0_many_72 rfl (lv_at hl 0 rfl) ?_
          refine lv_aload_n FX.1 FX.2.1 dX0_many_73 rfl (lv_at hl 0 rfl) ?_
          refine gX0_38 FX hw dX0_many_74 ?_
          refine bd hf (fun a8 h_a8 hf => ?_)
          rw [show va_rf (C.2.2.1 103) = .ref a8 from congrArg va_rf h_a8]
          refine bd hf (fun v9 h_v9 hf => ?_)
          refine gX0_155 FX hw h_v9 dX0_many_77 ?_
          refine bd hf (fun t10 h_t10 hf => ?_)
          refine clV_i0 (As := [.int v9]) (rest := []) FX hw (wX0_gives h_t10) (cwV 1 FX.2.2.2.2 (lw_V q962 q964 qs16 q134 q965) rfl rfl rfl (by decide +kernel) ⟨Nat.le_of_ble_eq_true rfl, Nat.le_of_ble_eq_true rfl⟩) (fx_obj hw (o := (131, 0, 100, 31)) (by decide)) rfl rfl hl.1 rfl (lv_room (Nat.le_of_ble_eq_true rfl)) dX0_many_80 ⟨rfl, rfl⟩ ⟨Nat.zero_le _, Nat.zero_le _⟩ (fun H locs hw => ?_)
          exact hret _ _ rfl (congrArg (fun z => z.1) (Option.some.inj hf)) (congrArg (fun z => (M, z.2, K.1, K.2.1)) (Option.some.inj hf)) hw dX0_many_83
        · have hf := it_neg c_1_2 hf
          by_cases c_1_3 : p1 = 3
          · have hf := it_pos c_1_3 hf
            refine lv_tableIn (off := 83) (tgt := 84) FX.1 FX.2.1 dX0_many_1 (by rw [c_1_3]; decide) (by rw [c_1_3]; decide) (by rw [c_1_3]; rfl) (by decide) ?_
            refine lv_aload_n FX.1 FX.2.1 dX0_many_84 rfl (lv_at hl 0 rfl) ?_
            refine lv_aload_n FX.1 FX.2.1 dX0_many_85 rfl (lv_at hl 0 rfl) ?_
            refine gX0_38 FX hw dX0_many_86 ?_
            refine bd hf (fun a11 h_a11 hf => ?_)
            rw [show va_rf (C.2.2.1 103) = .ref a11 from congrArg va_rf h_a11]
            refine bd hf (fun g12 h_g12 hf => ?_)
            refine bd hf (fun t13 h_t13 hf => ?_)
            obtain ⟨fs_g12, he_g12⟩ := dC_some (gC_some h_g12)
            refine clV_i0 (As := []) (rest := [.ref (G.2.2.2 131)]) FX hw (wX4_inSet h_t13) (cwV 0 FX.2.2.2.2 (lw_V q1025 q1026 q1027 q141 q1028) rfl rfl rfl (by decide +kernel) ⟨Nat.le_of_ble_eq_true rfl, Nat.le_of_ble_eq_true rfl⟩) (dyn_he hw he_g12) rfl rfl hl.1 rfl (lv_room (Nat.le_of_ble_eq_true rfl)) dX0_many_89 ⟨rfl, rfl⟩ ⟨Nat.zero_le _, Nat.zero_le _⟩ (fun H locs hw => ?_)
            refine bd hf (fun t14 h_t14 hf => ?_)
            refine clV_i0 (As := [.int t13]) (rest := []) FX hw (wX0_gives h_t14) (cwV 1 FX.2.2.2.2 (lw_V q962 q964 qs16 q134 q965) rfl rfl rfl (by decide +kernel) ⟨Nat.le_of_ble_eq_true rfl, Nat.le_of_ble_eq_true rfl⟩) (fx_obj hw (o := (131, 0, 100, 31)) (by decide)) rfl rfl hl.1 rfl (lv_room (Nat.le_of_ble_eq_true rfl)) dX0_many_92 ⟨rfl, rfl⟩ ⟨Nat.zero_le _, Nat.zero_le _⟩ (fun H locs hw => ?_)
            exact hret _ _ rfl (congrArg (fun z => z.1) (Option.some.inj hf)) (congrArg (fun z => (M, z.2, K.1, K.2.1)) (Option.some.inj hf)) hw dX0_many_95
          · have hf := it_neg c_1_3 hf
            by_cases c_1_4 : p1 = 4
            · have hf := it_pos c_1_4 hf
              refine lv_tableIn (off := 95) (tgt := 96) FX.1 FX.2.1 dX0_many_1 (by rw [c_1_4]; decide) (by rw [c_1_4]; decide) (by rw [c_1_4]; rfl) (by decide) ?_
              refine lv_aload_n FX.1 FX.2.1 dX0_many_96 rfl (lv_at hl 0 rfl) ?_
              refine lv_aload_n FX.1 FX.2.1 dX0_many_97 rfl (lv_at hl 0 rfl) ?_
              refine bd hf (fun t15 h_t15 hf => ?_)
              refine clV_i0 (As := []) (rest := [.ref (G.2.2.2 131)]) FX hw (wX0_clipped h_t15) (cwV 0 FX.2.2.2.2 (lw_V q1029 q1031 qs19 q134 q1032) rfl rfl rfl (by decide +kernel) ⟨Nat.le_of_ble_eq_true rfl, Nat.le_of_ble_eq_true rfl⟩) (fx_obj hw (o := (131, 0, 100, 31)) (by decide)) rfl rfl hl.1 rfl (lv_room (Nat.le_of_ble_eq_true rfl)) dX0_many_98 ⟨rfl, rfl⟩ ⟨Nat.zero_le _, Nat.zero_le _⟩ (fun H locs hw => ?_)
              refine bd hf (fun t16 h_t16 hf => ?_)
              refine clV_i0 (As := [.int t15]) (rest := []) FX hw (wX0_gives h_t16) (cwV 1 FX.2.2.2.2 (lw_V q962 q964 qs16 q134 q965) rfl rfl rfl (by decide +kernel) ⟨Nat.le_of_ble_eq_true rfl, Nat.le_of_ble_eq_true rfl⟩) (fx_obj hw (o := (131, 0, 100, 31)) (by decide)) rfl rfl hl.1 rfl (lv_room (Nat.le_of_ble_eq_true rfl)) dX0_many_101 ⟨rfl, rfl⟩ ⟨Nat.zero_le _, Nat.zero_le _⟩ (fun H locs hw => ?_)
              exact hret _ _ rfl (congrArg (fun z => z.1) (Option.some.inj hf)) (congrArg (fun z => (M, z.2, K.1, K.2.1)) (Option.some.inj hf)) hw dX0_many_104
            · have hf := it_neg c_1_4 hf
              by_cases c_1_5 : p1 = 5
              · have hf := it_pos c_1_5 hf
                refine lv_tableIn (off := 104) (tgt := 105) FX.1 FX.2.1 dX0_many_1 (by rw [c_1_5]; decide) (by rw [c_1_5]; decide) (by rw [c_1_5]; rfl) (by decide) ?_
                refine lv_aload_n FX.1 FX.2.1 dX0_many_105 rfl (lv_at hl 0 rfl) ?_
                refine lv_aload_n FX.1 FX.2.1 dX0_many_106 rfl (lv_at hl 0 rfl) ?_
                refine gX0_38 FX hw dX0_many_107 ?_
                refine bd hf (fun a17 h_a17 hf => ?_)
                rw [show va_rf (C.2.2.1 103) = .ref a17 from congrArg va_rf h_a17]
                refine bd hf (fun v18 h_v18 hf => ?_)
                refine gX0_227 FX hw h_v18 dX0_many_110 ?_
                refine bd hf (fun t19 h_t19 hf => ?_)
                refine clV_i0 (As := [.int v18]) (rest := []) FX hw (wX0_gives h_t19) (cwV 1 FX.2.2.2.2 (lw_V q962 q964 qs16 q134 q965) rfl rfl rfl (by decide +kernel) ⟨Nat.le_of_ble_eq_true rfl, Nat.le_of_ble_eq_true rfl⟩) (fx_obj hw (o := (131, 0, 100, 31)) (by decide)) rfl rfl hl.1 rfl (lv_room (Nat.le_of_ble_eq_true rfl)) dX0_many_113 ⟨rfl, rfl⟩ ⟨Nat.zero_le _, Nat.zero_le _⟩ (fun H locs hw => ?_)
                exact hret _ _ rfl (congrArg (fun z => z.1) (Option.some.inj hf)) (congrArg (fun z => (M, z.2, K.1, K.2.1)) (Option.some.inj hf)) hw dX0_many_116
              · have hf := it_neg c_1_5 hf
                by_cases c_1_6 : p1 = 6
                · have hf := it_pos c_1_6 hf
                  refine lv_tableIn (off := 116) (tgt := 117) FX.1 FX.2.1 dX0_many_1 (by rw [c_1_6]; decide) (by rw [c_1_6]; decide) (by rw [c_1_6]; rfl) (by decide) ?_
                  refine lv_aload_n FX.1 FX.2.1 dX0_many_117 rfl (lv_at hl 0 rfl) ?_
                  refine lv_aload_n FX.1 FX.2.1 dX0_many_118 rfl (lv_at hl 0 rfl) ?_
                  refine gX0_38 FX hw dX0_many_119 ?_
                  refine bd hf (fun a20 h_a20 hf => ?_)
                  rw [show va_rf (C.2.2.1 103) = .ref a20 from congrArg va_rf h_a20]
                  refine bd hf (fun v21 h_v21 hf => ?_)
                  refine gX0_230 FX hw h_v21 dX0_many_122 ?_
                  refine bd hf (fun t22 h_t22 hf => ?_)
                  refine clV_i0 (As := [.int v21]) (rest := []) FX hw (wX0_gives h_t22) (cwV 1 FX.2.2.2.2 (lw_V q962 q964 qs16 q134 q965) rfl rfl rfl (by decide +kernel) ⟨Nat.le_of_ble_eq_true rfl, Nat.le_of_ble_eq_true rfl⟩) (fx_obj hw (o := (131, 0, 100, 31)) (by decide)) rfl rfl hl.1 rfl (lv_room (Nat.le_of_ble_eq_true rfl)) dX0_many_125 ⟨rfl, rfl⟩ ⟨Nat.zero_le _, Nat.zero_le _⟩ (fun H locs hw => ?_)
                  exact hret _ _ rfl (congrArg (fun z => z.1) (Option.some.inj hf)) (congrArg (fun z => (M, z.2, K.1, K.2.1)) (Option.some.inj hf)) hw dX0_many_128
                · have hf := it_neg c_1_6 hf
                  by_cases c_1_7 : p1 = 7
                  · have hf := it_pos c_1_7 hf
                    refine lv_tableIn (off := 128) (tgt := 129) FX.1 FX.2.1 dX0_many_1 (by rw [c_1_7]; decide) (by rw [c_1_7]; decide) (by rw [c_1_7]; rfl) (by decide) ?_
                    refine lv_aload_n FX.1 FX.2.1 dX0_many_129 rfl (lv_at hl 0 rfl) ?_
                    refine lv_aload_n FX.1 FX.2.1 dX0_many_130 rfl (lv_at hl 0 rfl) ?_
                    refine gX0_38 FX hw dX0_many_131 ?_
                    refine bd hf (fun a23 h_a23 hf => ?_)
                    rw [show va_rf (C.2.2.1 103) = .ref a23 from congrArg va_rf h_a23]
                    refine bd hf (fun v24 h_v24 hf => ?_)
                    refine gX0_233 FX hw h_v24 dX0_many_134 ?_
                    refine bd hf (fun t25 h_t25 hf => ?_)
                    refine clV_i0 (As := [.int v24]) (rest := []) FX hw (wX0_gives h_t25) (cwV 1 FX.2.2.2.2 (lw_V q962 q964 qs16 q134 q965) rfl rfl rfl (by decide +kernel) ⟨Nat.le_of_ble_eq_true rfl, Nat.le_of_ble_eq_true rfl⟩) (fx_obj hw (o := (131, 0, 100, 31)) (by decide)) rfl rfl hl.1 rfl (lv_room (Nat.le_of_ble_eq_true rfl)) dX0_many_137 ⟨rfl, rfl⟩ ⟨Nat.zero_le _, Nat.zero_le _⟩ (fun H locs hw => ?_)
                    exact hret _ _ rfl (congrArg (fun z => z.1) (Option.some.inj hf)) (congrArg (fun z => (M, z.2, K.1, K.2.1)) (Option.some.inj hf)) hw dX0_many_140
                  · have hf := it_neg c_1_7 hf
                    cases hf
abbrev rmX0_isLead : Room := { frames := 0, cells := 0, slots := 0, locals := 0 }
set_option maxHeartbeats 4000000 in
theorem wX0_isLead {l : Launch} {G : GT} {M C : FS} {K : KT} {p1 : Int32} {t : Int32} (hf : fX0_isLead C K p1 = some t) : CtI l yX0_isLead (ws_ yX0_isLead cX0_isLead 2 (some .boolean)) rmX0_isLead G [.ref (G.2.2.2 131), .int p1] (M, C, K.1, K.2.1) t (M, C, K.1, K.2.1) := by
  refine mkI (ty := .boolean) (by decide) (Nat.le_of_ble_eq_true rfl) (fun p e s m a0 below meth c Q FX hw hname hret ls hl => ?_)
  have hl : lv_has ls 2 [(0, .ref (G.2.2.2 131)), (1, .int p1)] := hl
  unfold fX0_isLead at hf
  refine lv_iload_n FX.1 FX.2.1 dX0_isLead_0 rfl (lv_at hl 1 rfl) ?_
  refine lv_if_lt (tgt := 19) FX.1 FX.2.1 dX0_isLead_1 (by decide) (fun c_1 => ?_) (fun c_1 => ?_)
  · have hf := it_pos c_1 hf
    refine lv_iconst (v := 0) FX.1 FX.2.1 dX0_isLead_19 (by decide) ?_
    exact hret _ _ rfl (congrArg (fun z => z) (Option.some.inj hf)) rfl hw dX0_isLead_20
  · have hf := it_neg c_1 hf
    refine lv_iload_n FX.1 FX.2.1 dX0_isLead_4 rfl (lv_at hl 1 rfl) ?_
    refine lv_aload_n FX.1 FX.2.1 dX0_isLead_5 rfl (lv_at hl 0 rfl) ?_
    refine gX0_38 FX hw dX0_isLead_6 ?_
    refine bd hf (fun a1 h_a1 hf => ?_)
    rw [show va_rf (C.2.2.1 103) = .ref a1 from congrArg va_rf h_a1]
    refine bd hf (fun v2 h_v2 hf => ?_)
    refine gX0_152 FX hw h_v2 dX0_isLead_9 ?_
    refine lv_icmp_ge (tgt := 19) FX.1 FX.2.1 dX0_isLead_12 (by decide) (fun c_12 => ?_) (fun c_12 => ?_)
    · have hf := it_pos c_12 hf
      refine lv_iconst (v := 0) FX.1 FX.2.1 dX0_isLead_19 (by decide) ?_
      exact hret _ _ rfl (congrArg (fun z => z) (Option.some.inj hf)) rfl hw dX0_isLead_20
    · have hf := it_neg c_12 hf
      refine lv_iconst (v := 1) FX.1 FX.2.1 dX0_isLead_15 (by decide) ?_
      refine lv_goto (tgt := 20) FX.1 FX.2.1 dX0_isLead_16 (by decide) ?_
      exact hret _ _ rfl (congrArg (fun z => z) (Option.some.inj hf)) rfl hw dX0_isLead_20
abbrev rmX4_crossings : Room := { frames := 6, cells := 0, slots := 0, locals := 400 }
set_option maxHeartbeats 4000000 in
theorem wX4_crossings {l : Launch} {G : GT} {M C : FS} {K : KT} {a : Nat} {p1 : Int32} {t : Int32} (hf : fX4_crossings K a p1 = some t) : CtI l yX4_crossings (ws_ yX4_crossings cX4_crossings 4 (some .int)) rmX4_crossings G [.ref a, .int p1] (M, C, K.1, K.2.1) t (M, C, K.1, K.2.1) := by
  refine mkI (ty := .int) (by decide) (Nat.le_of_ble_eq_true rfl) (fun p e s m a0 below meth c Q FX hw hname hret ls hl => ?_)
  have hl : lv_has ls 4 [(0, .ref a), (1, .int p1)] := hl
  unfold fX4_crossings at hf
  refine lv_iconst (v := 0) FX.1 FX.2.1 dX4_crossings_0 (by decide) ?_
  refine lv_istore_n (lv' := [(2, .int 0), (0, .ref a), (1, .int p1)]) FX.1 FX.2.1 dX4_crossings_1 rfl hl (by decide) rfl (fun ls hl => ?_)
  refine lv_iconst (v := 0) FX.1 FX.2.1 dX4_crossings_2 (by decide) ?_
  refine lv_istore_n (lv' := [(3, .int 0), (2, .int 0), (0, .ref a), (1, .int p1)]) FX.1 FX.2.1 dX4_crossings_3 rfl hl (by decide) rfl (fun ls hl => ?_)
  refine bd hf (fun u4 ht hf => ?_)
  obtain ⟨n, hn⟩ := lp_iff.mp ht
  have hX4 : ∀ (t4_2 : Int32) (H : Heap) (locs : List Loc) (ls : Array Slot) , t4_2 = u4 → WS G (M, C, K.1, K.2.1) s H locs → lv_has ls 4 [(2, .int t4_2)] → W p l e rmX4_crossings s m a0 below meth c H locs 0 0 Q (F0 m 39 ls []) := by
    intro t4_2 H locs ls he hw hl
    subst he
    refine lv_iload_n FX.1 FX.2.1 dX4_crossings_39 rfl (lv_at hl 0 rfl) ?_
    exact hret _ _ rfl (congrArg (fun z => z) (Option.some.inj hf)) rfl hw dX4_crossings_40
  have hL4 : ∀ (n : Nat) (z4_2 : Int32) (z4_3 : Int32) (H : Heap) (locs : List Loc) (ls : Array Slot) , lpN (fun z => fX4_crossings_L4 K a p1 z.1 z.2) n (z4_2, z4_3) = some u4 → WS G (M, C, K.1, K.2.1) s H locs → lv_has ls 4 [(0, .ref a), (1, .int p1), (2, .int z4_2), (3, .int z4_3)] → W p l e rmX4_crossings s m a0 below meth c H locs 0 0 Q (F0 m 4 ls []) := by
    intro n
    induction n with
    | zero => intro z4_2 z4_3 H locs ls hz; cases hz
    | succ n ih =>
      intro z4_2 z4_3 H locs ls hz hw hl
      refine bd (show (fX4_crossings_L4 K a p1 z4_2 z4_3).bind _ = some u4 from hz) (fun x4 hf hk4 => ?_)
      unfold fX4_crossings_L4 at hf
      refine lv_iload_n FX.1 FX.2.1 dX4_crossings_4 rfl (lv_at hl 3 rfl) ?_
      refine lv_aload_n FX.1 FX.2.1 dX4_crossings_5 rfl (lv_at hl 0 rfl) ?_
      refine bd hf (fun v1 h_v1 hf => ?_)
      refine gX4_51 FX hw h_v1 dX4_crossings_6 ?_
      refine lv_icmp_ge (tgt := 39) FX.1 FX.2.1 dX4_crossings_9 (by decide) (fun c_9 => ?_) (fun c_9 => ?_)
      · have hf := it_pos c_9 hf
        exact hX4 _ _ _ _ (lpe hf hk4) hw (lv_sub hl [2] rfl)
      · have hf := it_neg c_9 hf
        refine lv_iload_n FX.1 FX.2.1 dX4_crossings_12 rfl (lv_at hl 2 rfl) ?_
        refine lv_aload_n FX.1 FX.2.1 dX4_crossings_13 rfl (lv_at hl 0 rfl) ?_
        refine bd hf (fun a2 h_a2 hf => ?_)
        refine gX4_19 FX hw h_a2 dX4_crossings_14 ?_
        refine lv_iload_n FX.1 FX.2.1 dX4_crossings_17 rfl (lv_at hl 3 rfl) ?_
        refine bd hf (fun a3 h_a3 hf => ?_)
        refine ei_aald 4 rfl FX hw h_a3 dX4_crossings_18 ?_
        refine lv_iload_n FX.1 FX.2.1 dX4_crossings_19 rfl (lv_at hl 1 rfl) ?_
        refine bd hf (fun t4 h_t4 hf => ?_)
        refine vc_isOf (rest := [.int z4_2]) FX hw h_t4 q1045 hl.1 rfl (lv_room (Nat.le_of_ble_eq_true rfl)) dX4_crossings_20 ⟨Nat.le_of_ble_eq_true rfl, Nat.le_of_ble_eq_true rfl⟩ ⟨Nat.zero_le _, Nat.zero_le _⟩ (fun H locs hw => ?_)
        refine lv_if_eq (tgt := 30) FX.1 FX.2.1 dX4_crossings_23 (by decide) (fun c_23 => ?_) (fun c_23 => ?_)
        · have hf := it_pos c_23 hf
          refine lv_iconst (v := 0) FX.1 FX.2.1 dX4_crossings_30 (by decide) ?_
          refine lv_iadd FX.1 FX.2.1 dX4_crossings_31 ?_
          refine lv_istore_n (lv' := [(2, .int (z4_2 + 0)), (0, .ref a), (1, .int p1), (3, .int z4_3)]) FX.1 FX.2.1 dX4_crossings_32 rfl hl (by decide) rfl (fun ls hl => ?_)
          refine lv_iinc (v := (z4_3 + 1)) (lv' := [(3, .int (z4_3 + 1)), (2, .int (z4_2 + 0)), (0, .ref a), (1, .int p1)]) FX.1 FX.2.1 dX4_crossings_33 hl (k := 3) rfl (congrArg (fun q : Int32 => z4_3 + q) (by decide : Int32.ofInt 1 = 1)) (by decide) rfl (fun ls hl => ?_)
          refine lv_goto (tgt := 4) FX.1 FX.2.1 dX4_crossings_36 (by decide) ?_
          exact ih _ _ _ _ _ (lpc hf hk4) hw (lv_sub hl [2, 3, 1, 0] rfl)
        · have hf := it_neg c_23 hf
          refine lv_iconst (v := 1) FX.1 FX.2.1 dX4_crossings_26 (by decide) ?_
          refine lv_goto (tgt := 31) FX.1 FX.2.1 dX4_crossings_27 (by decide) ?_
          refine lv_iadd FX.1 FX.2.1 dX4_crossings_31 ?_
          refine lv_istore_n (lv' := [(2, .int (z4_2 + 1)), (0, .ref a), (1, .int p1), (3, .int z4_3)]) FX.1 FX.2.1 dX4_crossings_32 rfl hl (by decide) rfl (fun ls hl => ?_)
          refine lv_iinc (v := (z4_3 + 1)) (lv' := [(3, .int (z4_3 + 1)), (2, .int (z4_2 + 1)), (0, .ref a), (1, .int p1)]) FX.1 FX.2.1 dX4_crossings_33 hl (k := 3) rfl (congrArg (fun q : Int32 => z4_3 + q) (by decide : Int32.ofInt 1 = 1)) (by decide) rfl (fun ls hl => ?_)
          refine lv_goto (tgt := 4) FX.1 FX.2.1 dX4_crossings_36 (by decide) ?_
          exact ih _ _ _ _ _ (lpc hf hk4) hw (lv_sub hl [2, 3, 1, 0] rfl)
  exact hL4 n _ _ _ _ _ hn hw (lv_sub hl [2, 3, 1, 0] rfl)
abbrev rmX7_risk : Room := { frames := 1, cells := 0, slots := 0, locals := 60 }
set_option maxHeartbeats 4000000 in
theorem wX7_risk {l : Launch} {G : GT} {M C : FS} {K : KT} {a : Nat} {t : Int32} (hf : fX7_risk K a = some t) : CtI l yX7_risk (ws_ yX7_risk cX7_risk 1 (some .int)) rmX7_risk G [.ref a] (M, C, K.1, K.2.1) t (M, C, K.1, K.2.1) := by
  refine mkI (ty := .int) (by decide) (Nat.le_of_ble_eq_true rfl) (fun p e s m a0 below meth c Q FX hw hname hret ls hl => ?_)
  have hl : lv_has ls 1 [(0, .ref a)] := hl
  unfold fX7_risk at hf
  refine lv_iconst (v := 0) FX.1 FX.2.1 dX7_risk_0 (by decide) ?_
  refine lv_bipush (v := 15) FX.1 FX.2.1 dX7_risk_1 (by decide) ?_
  refine lv_aload_n FX.1 FX.2.1 dX7_risk_3 rfl (lv_at hl 0 rfl) ?_
  refine bd hf (fun v1 h_v1 hf => ?_)
  refine gX7_25 FX hw h_v1 dX7_risk_4 ?_
  refine lv_iconst (v := 2) FX.1 FX.2.1 dX7_risk_7 (by decide) ?_
  refine lv_idiv FX.1 FX.2.1 dX7_risk_8 (by decide) ?_
  refine lv_aload_n FX.1 FX.2.1 dX7_risk_9 rfl (lv_at hl 0 rfl) ?_
  refine bd hf (fun v2 h_v2 hf => ?_)
  refine gX7_28 FX hw h_v2 dX7_risk_10 ?_
  refine lv_isub FX.1 FX.2.1 dX7_risk_13 ?_
  refine va_mmin FX.1 FX.2.1 (FX.2.2.1.trans hl.1.symm) FX.2.2.2.1 (FX.2.2.2.2 _ q1057) (FX.2.2.2.2 _ q682) (FX.2.2.2.2 _ q150) (FX.2.2.2.2 _ q683) (Nat.le_of_ble_eq_true rfl) (Nat.le_of_ble_eq_true rfl) (Nat.le_of_ble_eq_true rfl) (Nat.le_of_ble_eq_true rfl) dX7_risk_14 ?_
  refine va_mmax FX.1 FX.2.1 (FX.2.2.1.trans hl.1.symm) FX.2.2.2.1 (FX.2.2.2.2 _ q1058) (FX.2.2.2.2 _ q1059) (FX.2.2.2.2 _ q150) (FX.2.2.2.2 _ q1060) (Nat.le_of_ble_eq_true rfl) (Nat.le_of_ble_eq_true rfl) (Nat.le_of_ble_eq_true rfl) (Nat.le_of_ble_eq_true rfl) dX7_risk_17 ?_
  exact hret _ _ rfl (congrArg (fun z => z) (Option.some.inj hf)) rfl hw dX7_risk_20
abbrev rmX0_lead : Room := { frames := 7, cells := 0, slots := 0, locals := 423 }
set_option maxHeartbeats 4000000 in
theorem wX0_lead {l : Launch} {G : GT} {M C : FS} {K : KT} {p1 : Int32} {p2 : Int32} {t : (Int32 × FS)} (hf : fX0_lead C K p1 p2 = some t) : CtI l yX0_lead (ws_ yX0_lead cX0_lead 4 (some .int)) rmX0_lead G [.ref (G.2.2.2 131), .int p1, .int p2] (M, C, K.1, K.2.1) t.1 (M, t.2, K.1, K.2.1) := by
  refine mkI (ty := .int) (by decide) (Nat.le_of_ble_eq_true rfl) (fun p e s m a0 below meth c Q FX hw hname hret ls hl => ?_)
  have hl : lv_has ls 4 [(0, .ref (G.2.2.2 131)), (1, .int p1), (2, .int p2)] := hl
  unfold fX0_lead at hf
  refine lv_aload_n FX.1 FX.2.1 dX0_lead_0 rfl (lv_at hl 0 rfl) ?_
  refine lv_iload_n FX.1 FX.2.1 dX0_lead_1 rfl (lv_at hl 1 rfl) ?_
  refine bd hf (fun t1 h_t1 hf => ?_)
  refine clV_i0 (As := [.int p1]) (rest := []) FX hw (wX0_isLead h_t1) (cwV 1 FX.2.2.2.2 (lw_V q1037 q1039 qs20 q134 q1040) rfl rfl rfl (by decide +kernel) ⟨Nat.le_of_ble_eq_true rfl, Nat.le_of_ble_eq_true rfl⟩) (fx_obj hw (o := (131, 0, 100, 31)) (by decide)) rfl rfl hl.1 rfl (lv_room (Nat.le_of_ble_eq_true rfl)) dX0_lead_2 ⟨rfl, rfl⟩ ⟨Nat.zero_le _, Nat.zero_le _⟩ (fun H locs hw => ?_)
  refine lv_if_ne (tgt := 14) FX.1 FX.2.1 dX0_lead_5 (by decide) (fun c_5 => ?_) (fun c_5 => ?_)
  · have hf := it_neg c_5 hf
    refine lv_aload_n FX.1 FX.2.1 dX0_lead_14 rfl (lv_at hl 0 rfl) ?_
    refine gX0_38 FX hw dX0_lead_15 ?_
    refine bd hf (fun a2 h_a2 hf => ?_)
    rw [show va_rf (C.2.2.1 103) = .ref a2 from congrArg va_rf h_a2]
    refine bd hf (fun a3 h_a3 hf => ?_)
    refine gX0_161 FX hw h_a3 dX0_lead_18 ?_
    refine lv_iload_n FX.1 FX.2.1 dX0_lead_21 rfl (lv_at hl 1 rfl) ?_
    refine bd hf (fun a4 h_a4 hf => ?_)
    refine ei_aald 5 rfl FX hw h_a4 dX0_lead_22 ?_
    refine lv_astore_n (lv' := [(3, .ref a4), (0, .ref (G.2.2.2 131)), (1, .int p1), (2, .int p2)]) FX.1 FX.2.1 dX0_lead_23 rfl hl (by decide) rfl (fun ls hl => ?_)
    refine lv_iload_n FX.1 FX.2.1 dX0_lead_24 rfl (lv_at hl 3 rfl) ?_
    by_cases c_25 : p2 < 0 ∨ 7 < p2
    · have hf := it_pos c_25 hf
      refine lv_tableOut (tgt := 148) FX.1 FX.2.1 dX0_lead_25 (sw_out (lo := 0) (hi := 7) rfl rfl c_25) (by decide) ?_
      refine lv_aload_n FX.1 FX.2.1 dX0_lead_148 rfl (lv_at hl 1 rfl) ?_
      refine lv_iconst (v := 5) FX.1 FX.2.1 dX0_lead_149 (by decide) ?_
      refine bd hf (fun t5 h_t5 hf => ?_)
      refine clV_i0 (As := [.int 5]) (rest := []) FX hw (wX0_none h_t5) (cwV 1 FX.2.2.2.2 (lw_V q620 q622 qs3 q134 q623) rfl rfl rfl (by decide +kernel) ⟨Nat.le_of_ble_eq_true rfl, Nat.le_of_ble_eq_true rfl⟩) (fx_obj hw (o := (131, 0, 100, 31)) (by decide)) rfl rfl hl.1 rfl (lv_room (Nat.le_of_ble_eq_true rfl)) dX0_lead_150 ⟨rfl, rfl⟩ ⟨Nat.zero_le _, Nat.zero_le _⟩ (fun H locs hw => ?_)
      exact hret _ _ rfl (congrArg (fun z => z.1) (Option.some.inj hf)) (congrArg (fun z => (M, z.2, K.1, K.2.1)) (Option.some.inj hf)) hw dX0_lead_153
    · have hf := it_neg c_25 hf
      by_cases c_25_0 : p2 = 0
      · have hf := it_pos c_25_0 hf
        refine lv_tableIn (off := 47) (tgt := 72) FX.1 FX.2.1 dX0_lead_25 (by rw [c_25_0]; decide) (by rw [c_25_0]; decide) (by rw [c_25_0]; rfl) (by decide) ?_
        refine lv_aload_n FX.1 FX.2.1 dX0_lead_72 rfl (lv_at hl 1 rfl) ?_
        refine lv_aload_n FX.1 FX.2.1 dX0_lead_73 rfl (lv_at hl 0 rfl) ?_
        refine bd hf (fun v6 h_v6 hf => ?_)
        refine gX0_236 FX hw h_v6 dX0_lead_74 ?_
        refine bd hf (fun t7 h_t7 hf => ?_)
        refine clV_i0 (As := [.int v6]) (rest := []) FX hw (wX0_gives h_t7) (cwV 1 FX.2.2.2.2 (lw_V q962 q964 qs16 q134 q965) rfl rfl rfl (by decide +kernel) ⟨Nat.le_of_ble_eq_true rfl, Nat.le_of_ble_eq_true rfl⟩) (fx_obj hw (o := (131, 0, 100, 31)) (by decide)) rfl rfl hl.1 rfl (lv_room (Nat.le_of_ble_eq_true rfl)) dX0_lead_77 ⟨rfl, rfl⟩ ⟨Nat.zero_le _, Nat.zero_le _⟩ (fun H locs hw => ?_)
        exact hret _ _ rfl (congrArg (fun z => z.1) (Option.some.inj hf)) (congrArg (fun z => (M, z.2, K.1, K.2.1)) (Option.some.inj hf)) hw dX0_lead_80
      · have hf := it_neg c_25_0 hf
        by_cases c_25_1 : p2 = 1
        · have hf := it_pos c_25_1 hf
          refine lv_tableIn (off := 56) (tgt := 81) FX.1 FX.2.1 dX0_lead_25 (by rw [c_25_1]; decide) (by rw [c_25_1]; decide) (by rw [c_25_1]; rfl) (by decide) ?_
          refine lv_aload_n FX.1 FX.2.1 dX0_lead_81 rfl (lv_at hl 1 rfl) ?_
          refine lv_aload_n FX.1 FX.2.1 dX0_lead_82 rfl (lv_at hl 0 rfl) ?_
          refine bd hf (fun v8 h_v8 hf => ?_)
          refine gX0_239 FX hw h_v8 dX0_lead_83 ?_
          refine bd hf (fun t9 h_t9 hf => ?_)
          refine clV_i0 (As := [.int v8]) (rest := []) FX hw (wX0_gives h_t9) (cwV 1 FX.2.2.2.2 (lw_V q962 q964 qs16 q134 q965) rfl rfl rfl (by decide +kernel) ⟨Nat.le_of_ble_eq_true rfl, Nat.le_of_ble_eq_true rfl⟩) (fx_obj hw (o := (131, 0, 100, 31)) (by decide)) rfl rfl hl.1 rfl (lv_room (Nat.le_of_ble_eq_true rfl)) dX0_lead_86 ⟨rfl, rfl⟩ ⟨Nat.zero_le _, Nat.zero_le _⟩ (fun H locs hw => ?_)
          exact hret _ _ rfl (congrArg (fun z => z.1) (Option.some.inj hf)) (congrArg (fun z => (M, z.2, K.1, K.2.1)) (Option.some.inj hf)) hw dX0_lead_89
        · have hf := it_neg c_25_1 hf
          by_cases c_25_2 : p2 = 2
          · have hf := it_pos c_25_2 hf
            refine lv_tableIn (off := 65) (tgt := 90) FX.1 FX.2.1 dX0_lead_25 (by rw [c_25_2]; decide) (by rw [c_25_2]; decide) (by rw [c_25_2]; rfl) (by decide) ?_
            refine lv_aload_n FX.1 FX.2.1 dX0_lead_90 rfl (lv_at hl 1 rfl) ?_
            refine lv_aload_n FX.1 FX.2.1 dX0_lead_91 rfl (lv_at hl 0 rfl) ?_
            refine bd hf (fun v10 h_v10 hf => ?_)
            refine gX0_242 FX hw h_v10 dX0_lead_92 ?_
            refine bd hf (fun t11 h_t11 hf => ?_)
            refine clV_i0 (As := [.int v10]) (rest := []) FX hw (wX0_gives h_t11) (cwV 1 FX.2.2.2.2 (lw_V q962 q964 qs16 q134 q965) rfl rfl rfl (by decide +kernel) ⟨Nat.le_of_ble_eq_true rfl, Nat.le_of_ble_eq_true rfl⟩) (fx_obj hw (o := (131, 0, 100, 31)) (by decide)) rfl rfl hl.1 rfl (lv_room (Nat.le_of_ble_eq_true rfl)) dX0_lead_95 ⟨rfl, rfl⟩ ⟨Nat.zero_le _, Nat.zero_le _⟩ (fun H locs hw => ?_)
            exact hret _ _ rfl (congrArg (fun z => z.1) (Option.some.inj hf)) (congrArg (fun z => (M, z.2, K.1, K.2.1)) (Option.some.inj hf)) hw dX0_lead_98
          · have hf := it_neg c_25_2 hf
            by_cases c_25_3 : p2 = 3
            · have hf := it_pos c_25_3 hf
              refine lv_tableIn (off := 74) (tgt := 99) FX.1 FX.2.1 dX0_lead_25 (by rw [c_25_3]; decide) (by rw [c_25_3]; decide) (by rw [c_25_3]; rfl) (by decide) ?_
              refine lv_aload_n FX.1 FX.2.1 dX0_lead_99 rfl (lv_at hl 1 rfl) ?_
              refine lv_aload_n FX.1 FX.2.1 dX0_lead_100 rfl (lv_at hl 0 rfl) ?_
              refine bd hf (fun v12 h_v12 hf => ?_)
              refine gX0_245 FX hw h_v12 dX0_lead_101 ?_
              refine bd hf (fun t13 h_t13 hf => ?_)
              refine clV_i0 (As := [.int v12]) (rest := []) FX hw (wX0_gives h_t13) (cwV 1 FX.2.2.2.2 (lw_V q962 q964 qs16 q134 q965) rfl rfl rfl (by decide +kernel) ⟨Nat.le_of_ble_eq_true rfl, Nat.le_of_ble_eq_true rfl⟩) (fx_obj hw (o := (131, 0, 100, 31)) (by decide)) rfl rfl hl.1 rfl (lv_room (Nat.le_of_ble_eq_true rfl)) dX0_lead_104 ⟨rfl, rfl⟩ ⟨Nat.zero_le _, Nat.zero_le _⟩ (fun H locs hw => ?_)
              exact hret _ _ rfl (congrArg (fun z => z.1) (Option.some.inj hf)) (congrArg (fun z => (M, z.2, K.1, K.2.1)) (Option.some.inj hf)) hw dX0_lead_107
            · have hf := it_neg c_25_3 hf
              by_cases c_25_4 : p2 = 4
              · have hf := it_pos c_25_4 hf
                refine lv_tableIn (off := 83) (tgt := 108) FX.1 FX.2.1 dX0_lead_25 (by rw [c_25_4]; decide) (by rw [c_25_4]; decide) (by rw [c_25_4]; rfl) (by decide) ?_
                refine lv_aload_n FX.1 FX.2.1 dX0_lead_108 rfl (lv_at hl 1 rfl) ?_
                refine lv_aload_n FX.1 FX.2.1 dX0_lead_109 rfl (lv_at hl 0 rfl) ?_
                refine bd hf (fun v14 h_v14 hf => ?_)
                refine gX0_248 FX hw h_v14 dX0_lead_110 ?_
                refine bd hf (fun t15 h_t15 hf => ?_)
                refine clV_i0 (As := [.int v14]) (rest := []) FX hw (wX0_gives h_t15) (cwV 1 FX.2.2.2.2 (lw_V q962 q964 qs16 q134 q965) rfl rfl rfl (by decide +kernel) ⟨Nat.le_of_ble_eq_true rfl, Nat.le_of_ble_eq_true rfl⟩) (fx_obj hw (o := (131, 0, 100, 31)) (by decide)) rfl rfl hl.1 rfl (lv_room (Nat.le_of_ble_eq_true rfl)) dX0_lead_113 ⟨rfl, rfl⟩ ⟨Nat.zero_le _, Nat.zero_le _⟩ (fun H locs hw => ?_)
                exact hret _ _ rfl (congrArg (fun z => z.1) (Option.some.inj hf)) (congrArg (fun z => (M, z.2, K.1, K.2.1)) (Option.some.inj hf)) hw dX0_lead_116
              · have hf := it_neg c_25_4 hf
                by_cases c_25_5 : p2 = 5
                · have hf := it_pos c_25_5 hf
                  refine lv_tableIn (off := 92) (tgt := 117) FX.1 FX.2.1 dX0_lead_25 (by rw [c_25_5]; decide) (by rw [c_25_5]; decide) (by rw [c_25_5]; rfl) (by decide) ?_
                  refine lv_aload_n FX.1 FX.2.1 dX0_lead_117 rfl (lv_at hl 1 rfl) ?_
                  refine lv_aload_n FX.1 FX.2.1 dX0_lead_118 rfl (lv_at hl 0 rfl) ?_
                  refine bd hf (fun v16 h_v16 hf => ?_)
                  refine gX0_251 FX hw h_v16 dX0_lead_119 ?_
                  refine bd hf (fun t17 h_t17 hf => ?_)
                  refine clV_i0 (As := [.int v16]) (rest := []) FX hw (wX0_gives h_t17) (cwV 1 FX.2.2.2.2 (lw_V q962 q964 qs16 q134 q965) rfl rfl rfl (by decide +kernel) ⟨Nat.le_of_ble_eq_true rfl, Nat.le_of_ble_eq_true rfl⟩) (fx_obj hw (o := (131, 0, 100, 31)) (by decide)) rfl rfl hl.1 rfl (lv_room (Nat.le_of_ble_eq_true rfl)) dX0_lead_122 ⟨rfl, rfl⟩ ⟨Nat.zero_le _, Nat.zero_le _⟩ (fun H locs hw => ?_)
                  exact hret _ _ rfl (congrArg (fun z => z.1) (Option.some.inj hf)) (congrArg (fun z => (M, z.2, K.1, K.2.1)) (Option.some.inj hf)) hw dX0_lead_125
                · have hf := it_neg c_25_5 hf
                  by_cases c_25_6 : p2 = 6
                  · have hf := it_pos c_25_6 hf
                    refine lv_tableIn (off := 101) (tgt := 126) FX.1 FX.2.1 dX0_lead_25 (by rw [c_25_6]; decide) (by rw [c_25_6]; decide) (by rw [c_25_6]; rfl) (by decide) ?_
                    refine lv_aload_n FX.1 FX.2.1 dX0_lead_126 rfl (lv_at hl 1 rfl) ?_
                    refine lv_aload_n FX.1 FX.2.1 dX0_lead_127 rfl (lv_at hl 1 rfl) ?_
                    refine gX0_38 FX hw dX0_lead_128 ?_
                    refine bd hf (fun a18 h_a18 hf => ?_)
                    rw [show va_rf (C.2.2.1 103) = .ref a18 from congrArg va_rf h_a18]
                    refine lv_iload_n FX.1 FX.2.1 dX0_lead_131 rfl (lv_at hl 2 rfl) ?_
                    refine bd hf (fun g19 h_g19 hf => ?_)
                    refine bd hf (fun t20 h_t20 hf => ?_)
                    obtain ⟨fs_g19, he_g19⟩ := dC_some (gC_some h_g19)
                    refine clV_i0 (As := [.int p1]) (rest := [.ref (G.2.2.2 131)]) FX hw (wX4_crossings h_t20) (cwV 1 FX.2.2.2.2 (lw_V q1041 q1042 q1043 q141 q1044) rfl rfl rfl (by decide +kernel) ⟨Nat.le_of_ble_eq_true rfl, Nat.le_of_ble_eq_true rfl⟩) (dyn_he hw he_g19) rfl rfl hl.1 rfl (lv_room (Nat.le_of_ble_eq_true rfl)) dX0_lead_132 ⟨rfl, rfl⟩ ⟨Nat.zero_le _, Nat.zero_le _⟩ (fun H locs hw => ?_)
                    refine bd hf (fun t21 h_t21 hf => ?_)
                    refine clV_i0 (As := [.int t20]) (rest := []) FX hw (wX0_gives h_t21) (cwV 1 FX.2.2.2.2 (lw_V q962 q964 qs16 q134 q965) rfl rfl rfl (by decide +kernel) ⟨Nat.le_of_ble_eq_true rfl, Nat.le_of_ble_eq_true rfl⟩) (fx_obj hw (o := (131, 0, 100, 31)) (by decide)) rfl rfl hl.1 rfl (lv_room (Nat.le_of_ble_eq_true rfl)) dX0_lead_135 ⟨rfl, rfl⟩ ⟨Nat.zero_le _, Nat.zero_le _⟩ (fun H locs hw => ?_)
                    exact hret _ _ rfl (congrArg (fun z => z.1) (Option.some.inj hf)) (congrArg (fun z => (M, z.2, K.1, K.2.1)) (Option.some.inj hf)) hw dX0_lead_138
                  · have hf := it_neg c_25_6 hf
                    by_cases c_25_7 : p2 = 7
                    · have hf := it_pos c_25_7 hf
                      refine lv_tableIn (off := 114) (tgt := 139) FX.1 FX.2.1 dX0_lead_25 (by rw [c_25_7]; decide) (by rw [c_25_7]; decide) (by rw [c_25_7]; rfl) (by decide) ?_
                      refine lv_aload_n FX.1 FX.2.1 dX0_lead_139 rfl (lv_at hl 1 rfl) ?_
                      refine lv_aload_n FX.1 FX.2.1 dX0_lead_140 rfl (lv_at hl 0 rfl) ?_
                      refine bd hf (fun g22 h_g22 hf => ?_)
                      refine bd hf (fun t23 h_t23 hf => ?_)
                      obtain ⟨fs_g22, he_g22⟩ := dC_some (gC_some h_g22)
                      refine clV_i0 (As := []) (rest := [.ref (G.2.2.2 131)]) FX hw (wX7_risk h_t23) (cwV 0 FX.2.2.2.2 (lw_V q1053 q1054 q1055 q154 q1056) rfl rfl rfl (by decide +kernel) ⟨Nat.le_of_ble_eq_true rfl, Nat.le_of_ble_eq_true rfl⟩) (dyn_he hw he_g22) rfl rfl hl.1 rfl (lv_room (Nat.le_of_ble_eq_true rfl)) dX0_lead_141 ⟨rfl, rfl⟩ ⟨Nat.zero_le _, Nat.zero_le _⟩ (fun H locs hw => ?_)
                      refine bd hf (fun t24 h_t24 hf => ?_)
                      refine clV_i0 (As := [.int t23]) (rest := []) FX hw (wX0_gives h_t24) (cwV 1 FX.2.2.2.2 (lw_V q962 q964 qs16 q134 q965) rfl rfl rfl (by decide +kernel) ⟨Nat.le_of_ble_eq_true rfl, Nat.le_of_ble_eq_true rfl⟩) (fx_obj hw (o := (131, 0, 100, 31)) (by decide)) rfl rfl hl.1 rfl (lv_room (Nat.le_of_ble_eq_true rfl)) dX0_lead_144 ⟨rfl, rfl⟩ ⟨Nat.zero_le _, Nat.zero_le _⟩ (fun H locs hw => ?_)
                      exact hret _ _ rfl (congrArg (fun z => z.1) (Option.some.inj hf)) (congrArg (fun z => (M, z.2, K.1, K.2.1)) (Option.some.inj hf)) hw dX0_lead_147
                    · have hf := it_neg c_25_7 hf
                      cases hf
  · have hf := it_pos c_5 hf
    refine lv_aload_n FX.1 FX.2.1 dX0_lead_8 rfl (lv_at hl 0 rfl) ?_
    refine lv_iconst (v := 2) FX.1 FX.2.1 dX0_lead_9 (by decide) ?_
    refine bd hf (fun t25 h_t25 hf => ?_)
    refine clV_i0 (As := [.int 2]) (rest := []) FX hw (wX0_none h_t25) (cwV 1 FX.2.2.2.2 (lw_V q620 q622 qs3 q134 q623) rfl rfl rfl (by decide +kernel) ⟨Nat.le_of_ble_eq_true rfl, Nat.le_of_ble_eq_true rfl⟩) (fx_obj hw (o := (131, 0, 100, 31)) (by decide)) rfl rfl hl.1 rfl (lv_room (Nat.le_of_ble_eq_true rfl)) dX0_lead_10 ⟨rfl, rfl⟩ ⟨Nat.zero_le _, Nat.zero_le _⟩ (fun H locs hw => ?_)
    exact hret _ _ rfl (congrArg (fun z => z.1) (Option.some.inj hf)) (congrArg (fun z => (M, z.2, K.1, K.2.1)) (Option.some.inj hf)) hw dX0_lead_13
abbrev rmX0_crossing : Room := { frames := 6, cells := 0, slots := 0, locals := 400 }
set_option maxHeartbeats 4000000 in
theorem wX0_crossing {l : Launch} {G : GT} {M C : FS} {K : KT} {p1 : Int32} {p2 : Int32} {t : (Int32 × FS)} (hf : fX0_crossing C K p1 p2 = some t) : CtI l yX0_crossing (ws_ yX0_crossing cX0_crossing 4 (some .int)) rmX0_crossing G [.ref (G.2.2.2 131), .int p1, .int p2] (M, C, K.1, K.2.1) t.1 (M, t.2, K.1, K.2.1) := by
  refine mkI (ty := .int) (by decide) (Nat.le_of_ble_eq_true rfl) (fun p e s m a0 below meth c Q FX hw hname hret ls hl => ?_)
  have hl : lv_has ls 4 [(0, .ref (G.2.2.2 131)), (1, .int p1), (2, .int p2)] := hl
  unfold fX0_crossing at hf
  refine lv_iload_n FX.1 FX.2.1 dX0_crossing_0 rfl (lv_at hl 2 rfl) ?_
  refine lv_if_lt (tgt := 9) FX.1 FX.2.1 dX0_crossing_1 (by decide) (fun c_1 => ?_) (fun c_1 => ?_)
  · have hf := it_pos c_1 hf
    refine lv_aload_n FX.1 FX.2.1 dX0_crossing_9 rfl (lv_at hl 0 rfl) ?_
    refine lv_iconst (v := 5) FX.1 FX.2.1 dX0_crossing_10 (by decide) ?_
    refine bd hf (fun t1 h_t1 hf => ?_)
    refine clV_i0 (As := [.int 5]) (rest := []) FX hw (wX0_none h_t1) (cwV 1 FX.2.2.2.2 (lw_V q620 q622 qs3 q134 q623) rfl rfl rfl (by decide +kernel) ⟨Nat.le_of_ble_eq_true rfl, Nat.le_of_ble_eq_true rfl⟩) (fx_obj hw (o := (131, 0, 100, 31)) (by decide)) rfl rfl hl.1 rfl (lv_room (Nat.le_of_ble_eq_true rfl)) dX0_crossing_11 ⟨rfl, rfl⟩ ⟨Nat.zero_le _, Nat.zero_le _⟩ (fun H locs hw => ?_)
    exact hret _ _ rfl (congrArg (fun z => z.1) (Option.some.inj hf)) (congrArg (fun z => (M, z.2, K.1, K.2.1)) (Option.some.inj hf)) hw dX0_crossing_14
  · have hf := it_neg c_1 hf
    refine lv_iload_n FX.1 FX.2.1 dX0_crossing_4 rfl (lv_at hl 2 rfl) ?_
    refine lv_iconst (v := 2) FX.1 FX.2.1 dX0_crossing_5 (by decide) ?_
    refine lv_icmp_le (tgt := 15) FX.1 FX.2.1 dX0_crossing_6 (by decide) (fun c_6 => ?_) (fun c_6 => ?_)
    · have hf := it_pos c_6 hf
      refine lv_iload_n FX.1 FX.2.1 dX0_crossing_15 rfl (lv_at hl 1 rfl) ?_
      refine lv_if_lt (tgt := 30) FX.1 FX.2.1 dX0_crossing_16 (by decide) (fun c_16 => ?_) (fun c_16 => ?_)
      · have hf := it_pos c_16 hf
        refine lv_aload_n FX.1 FX.2.1 dX0_crossing_30 rfl (lv_at hl 0 rfl) ?_
        refine lv_bipush (v := 8) FX.1 FX.2.1 dX0_crossing_31 (by decide) ?_
        refine bd hf (fun t2 h_t2 hf => ?_)
        refine clV_i0 (As := [.int 8]) (rest := []) FX hw (wX0_none h_t2) (cwV 1 FX.2.2.2.2 (lw_V q620 q622 qs3 q134 q623) rfl rfl rfl (by decide +kernel) ⟨Nat.le_of_ble_eq_true rfl, Nat.le_of_ble_eq_true rfl⟩) (fx_obj hw (o := (131, 0, 100, 31)) (by decide)) rfl rfl hl.1 rfl (lv_room (Nat.le_of_ble_eq_true rfl)) dX0_crossing_33 ⟨rfl, rfl⟩ ⟨Nat.zero_le _, Nat.zero_le _⟩ (fun H locs hw => ?_)
        exact hret _ _ rfl (congrArg (fun z => z.1) (Option.some.inj hf)) (congrArg (fun z => (M, z.2, K.1, K.2.1)) (Option.some.inj hf)) hw dX0_crossing_36
      · have hf := it_neg c_16 hf
        refine lv_iload_n FX.1 FX.2.1 dX0_crossing_19 rfl (lv_at hl 1 rfl) ?_
        refine lv_aload_n FX.1 FX.2.1 dX0_crossing_20 rfl (lv_at hl 0 rfl) ?_
        refine gX0_38 FX hw dX0_crossing_21 ?_
        refine bd hf (fun a3 h_a3 hf => ?_)
        rw [show va_rf (C.2.2.1 103) = .ref a3 from congrArg va_rf h_a3]
        refine bd hf (fun v4 h_v4 hf => ?_)
        refine gX0_217 FX hw h_v4 dX0_crossing_24 ?_
        refine lv_icmp_lt (tgt := 37) FX.1 FX.2.1 dX0_crossing_27 (by decide) (fun c_27 => ?_) (fun c_27 => ?_)
        · have hf := it_pos c_27 hf
          refine lv_aload_n FX.1 FX.2.1 dX0_crossing_37 rfl (lv_at hl 0 rfl) ?_
          refine gX0_38 FX hw dX0_crossing_38 ?_
          refine bd hf (fun a5 h_a5 hf => ?_)
          rw [show va_rf (C.2.2.1 103) = .ref a5 from congrArg va_rf h_a5]
          refine bd hf (fun a6 h_a6 hf => ?_)
          refine gX0_260 FX hw h_a6 dX0_crossing_41 ?_
          refine lv_iload_n FX.1 FX.2.1 dX0_crossing_44 rfl (lv_at hl 1 rfl) ?_
          refine bd hf (fun a7 h_a7 hf => ?_)
          refine ei_aald 4 rfl FX hw h_a7 dX0_crossing_45 ?_
          refine lv_astore_n (lv' := [(3, .ref a7), (0, .ref (G.2.2.2 131)), (1, .int p1), (2, .int p2)]) FX.1 FX.2.1 dX0_crossing_46 rfl hl (by decide) rfl (fun ls hl => ?_)
          refine lv_aload_n FX.1 FX.2.1 dX0_crossing_47 rfl (lv_at hl 1 rfl) ?_
          refine lv_iload_n FX.1 FX.2.1 dX0_crossing_48 rfl (lv_at hl 3 rfl) ?_
          refine lv_if_ne (tgt := 59) FX.1 FX.2.1 dX0_crossing_49 (by decide) (fun c_49 => ?_) (fun c_49 => ?_)
          · have hf := it_neg c_49 hf
            refine lv_iload_n FX.1 FX.2.1 dX0_crossing_59 rfl (lv_at hl 3 rfl) ?_
            refine lv_iconst (v := 1) FX.1 FX.2.1 dX0_crossing_60 (by decide) ?_
            refine lv_icmp_ne (tgt := 71) FX.1 FX.2.1 dX0_crossing_61 (by decide) (fun c_61 => ?_) (fun c_61 => ?_)
            · have hf := it_neg c_61 hf
              refine lv_aload_n FX.1 FX.2.1 dX0_crossing_71 rfl (lv_at hl 0 rfl) ?_
              refine bd hf (fun t8 h_t8 hf => ?_)
              refine vc_state (rest := [.ref (G.2.2.2 131)]) FX hw h_t8 q1065 hl.1 rfl (lv_room (Nat.le_of_ble_eq_true rfl)) dX0_crossing_72 ⟨Nat.le_of_ble_eq_true rfl, Nat.le_of_ble_eq_true rfl⟩ ⟨Nat.zero_le _, Nat.zero_le _⟩ (fun H locs hw => ?_)
              refine bd hf (fun t9 h_t9 hf => ?_)
              refine clV_i0 (As := [.int t8]) (rest := []) FX hw (wX0_gives h_t9) (cwV 1 FX.2.2.2.2 (lw_V q962 q964 qs16 q134 q965) rfl rfl rfl (by decide +kernel) ⟨Nat.le_of_ble_eq_true rfl, Nat.le_of_ble_eq_true rfl⟩) (fx_obj hw (o := (131, 0, 100, 31)) (by decide)) rfl rfl hl.1 rfl (lv_room (Nat.le_of_ble_eq_true rfl)) dX0_crossing_75 ⟨rfl, rfl⟩ ⟨Nat.zero_le _, Nat.zero_le _⟩ (fun H locs hw => ?_)
              exact hret _ _ rfl (congrArg (fun z => z.1) (Option.some.inj hf)) (congrArg (fun z => (M, z.2, K.1, K.2.1)) (Option.some.inj hf)) hw dX0_crossing_78
            · have hf := it_pos c_61 hf
              refine lv_aload_n FX.1 FX.2.1 dX0_crossing_64 rfl (lv_at hl 0 rfl) ?_
              refine bd hf (fun v10 h_v10 hf => ?_)
              refine gX0_265 FX hw h_v10 dX0_crossing_65 ?_
              refine lv_goto (tgt := 75) FX.1 FX.2.1 dX0_crossing_68 (by decide) ?_
              refine bd hf (fun t11 h_t11 hf => ?_)
              refine clV_i0 (As := [.int v10]) (rest := []) FX hw (wX0_gives h_t11) (cwV 1 FX.2.2.2.2 (lw_V q962 q964 qs16 q134 q965) rfl rfl rfl (by decide +kernel) ⟨Nat.le_of_ble_eq_true rfl, Nat.le_of_ble_eq_true rfl⟩) (fx_obj hw (o := (131, 0, 100, 31)) (by decide)) rfl rfl hl.1 rfl (lv_room (Nat.le_of_ble_eq_true rfl)) dX0_crossing_75 ⟨rfl, rfl⟩ ⟨Nat.zero_le _, Nat.zero_le _⟩ (fun H locs hw => ?_)
              exact hret _ _ rfl (congrArg (fun z => z.1) (Option.some.inj hf)) (congrArg (fun z => (M, z.2, K.1, K.2.1)) (Option.some.inj hf)) hw dX0_crossing_78
          · have hf := it_pos c_49 hf
            refine lv_aload_n FX.1 FX.2.1 dX0_crossing_52 rfl (lv_at hl 0 rfl) ?_
            refine bd hf (fun v12 h_v12 hf => ?_)
            refine gX0_262 FX hw h_v12 dX0_crossing_53 ?_
            refine lv_goto (tgt := 75) FX.1 FX.2.1 dX0_crossing_56 (by decide) ?_
            refine bd hf (fun t13 h_t13 hf => ?_)
            refine clV_i0 (As := [.int v12]) (rest := []) FX hw (wX0_gives h_t13) (cwV 1 FX.2.2.2.2 (lw_V q962 q964 qs16 q134 q965) rfl rfl rfl (by decide +kernel) ⟨Nat.le_of_ble_eq_true rfl, Nat.le_of_ble_eq_true rfl⟩) (fx_obj hw (o := (131, 0, 100, 31)) (by decide)) rfl rfl hl.1 rfl (lv_room (Nat.le_of_ble_eq_true rfl)) dX0_crossing_75 ⟨rfl, rfl⟩ ⟨Nat.zero_le _, Nat.zero_le _⟩ (fun H locs hw => ?_)
            exact hret _ _ rfl (congrArg (fun z => z.1) (Option.some.inj hf)) (congrArg (fun z => (M, z.2, K.1, K.2.1)) (Option.some.inj hf)) hw dX0_crossing_78
        · have hf := it_neg c_27 hf
          refine lv_aload_n FX.1 FX.2.1 dX0_crossing_30 rfl (lv_at hl 0 rfl) ?_
          refine lv_bipush (v := 8) FX.1 FX.2.1 dX0_crossing_31 (by decide) ?_
          refine bd hf (fun t14 h_t14 hf => ?_)
          refine clV_i0 (As := [.int 8]) (rest := []) FX hw (wX0_none h_t14) (cwV 1 FX.2.2.2.2 (lw_V q620 q622 qs3 q134 q623) rfl rfl rfl (by decide +kernel) ⟨Nat.le_of_ble_eq_true rfl, Nat.le_of_ble_eq_true rfl⟩) (fx_obj hw (o := (131, 0, 100, 31)) (by decide)) rfl rfl hl.1 rfl (lv_room (Nat.le_of_ble_eq_true rfl)) dX0_crossing_33 ⟨rfl, rfl⟩ ⟨Nat.zero_le _, Nat.zero_le _⟩ (fun H locs hw => ?_)
          exact hret _ _ rfl (congrArg (fun z => z.1) (Option.some.inj hf)) (congrArg (fun z => (M, z.2, K.1, K.2.1)) (Option.some.inj hf)) hw dX0_crossing_36
    · have hf := it_neg c_6 hf
      refine lv_aload_n FX.1 FX.2.1 dX0_crossing_9 rfl (lv_at hl 0 rfl) ?_
      refine lv_iconst (v := 5) FX.1 FX.2.1 dX0_crossing_10 (by decide) ?_
      refine bd hf (fun t15 h_t15 hf => ?_)
      refine clV_i0 (As := [.int 5]) (rest := []) FX hw (wX0_none h_t15) (cwV 1 FX.2.2.2.2 (lw_V q620 q622 qs3 q134 q623) rfl rfl rfl (by decide +kernel) ⟨Nat.le_of_ble_eq_true rfl, Nat.le_of_ble_eq_true rfl⟩) (fx_obj hw (o := (131, 0, 100, 31)) (by decide)) rfl rfl hl.1 rfl (lv_room (Nat.le_of_ble_eq_true rfl)) dX0_crossing_11 ⟨rfl, rfl⟩ ⟨Nat.zero_le _, Nat.zero_le _⟩ (fun H locs hw => ?_)
      exact hret _ _ rfl (congrArg (fun z => z.1) (Option.some.inj hf)) (congrArg (fun z => (M, z.2, K.1, K.2.1)) (Option.some.inj hf)) hw dX0_crossing_14
abbrev rmX4_along : Room := { frames := 6, cells := 0, slots := 0, locals := 400 }
set_option maxHeartbeats 4000000 in
theorem wX4_along {l : Launch} {G : GT} {M C : FS} {K : KT} {a : Nat} {p1 : Int32} {p2 : Int32} {t : Int32} (hf : fX4_along K a p1 p2 = some t) : CtI l yX4_along (ws_ yX4_along cX4_along 5 (some .int)) rmX4_along G [.ref a, .int p1, .int p2] (M, C, K.1, K.2.1) t (M, C, K.1, K.2.1) := by
  refine mkI (ty := .int) (by decide) (Nat.le_of_ble_eq_true rfl) (fun p e s m a0 below meth c Q FX hw hname hret ls hl => ?_)
  have hl : lv_has ls 5 [(0, .ref a), (1, .int p1), (2, .int p2)] := hl
  unfold fX4_along at hf
  refine lv_iload_n FX.1 FX.2.1 dX4_along_0 rfl (lv_at hl 2 rfl) ?_
  refine lv_istore_n (lv' := [(3, .int p2), (0, .ref a), (1, .int p1), (2, .int p2)]) FX.1 FX.2.1 dX4_along_1 rfl hl (by decide) rfl (fun ls hl => ?_)
  refine lv_iconst (v := 0) FX.1 FX.2.1 dX4_along_2 (by decide) ?_
  refine lv_istore (lv' := [(4, .int 0), (3, .int p2), (0, .ref a), (1, .int p1), (2, .int p2)]) FX.1 FX.2.1 dX4_along_3 hl (by decide) rfl (fun ls hl => ?_)
  refine bd hf (fun u5 ht hf => ?_)
  obtain ⟨n, hn⟩ := lp_iff.mp ht
  have hR5 : ∀ v, Sum.inl v = u5 → _ := fun v he => ell hf he
  have hX5 : ∀ (H : Heap) (locs : List Loc) (ls : Array Slot) , Sum.inr () = u5 → WS G (M, C, K.1, K.2.1) s H locs → lv_has ls 5 [] → W p l e rmX4_along s m a0 below meth c H locs 0 0 Q (F0 m 51 ls []) := by
    intro H locs ls he hw hl
    have hf := elr hf he
    refine lv_iconst (v := (-1)) FX.1 FX.2.1 dX4_along_51 (by decide) ?_
    exact hret _ _ rfl (congrArg (fun z => z) (Option.some.inj hf)) rfl hw dX4_along_52
  have hL5 : ∀ (n : Nat) (z5_3 : Int32) (z5_4 : Int32) (H : Heap) (locs : List Loc) (ls : Array Slot) , lpN (fun z => fX4_along_L5 K a p1 p2 z.1 z.2) n (z5_3, z5_4) = some u5 → WS G (M, C, K.1, K.2.1) s H locs → lv_has ls 5 [(0, .ref a), (1, .int p1), (2, .int p2), (3, .int z5_3), (4, .int z5_4)] → W p l e rmX4_along s m a0 below meth c H locs 0 0 Q (F0 m 5 ls []) := by
    intro n
    induction n with
    | zero => intro z5_3 z5_4 H locs ls hz; cases hz
    | succ n ih =>
      intro z5_3 z5_4 H locs ls hz hw hl
      refine bd (show (fX4_along_L5 K a p1 p2 z5_3 z5_4).bind _ = some u5 from hz) (fun x5 hf hk5 => ?_)
      unfold fX4_along_L5 at hf
      refine lv_iload FX.1 FX.2.1 dX4_along_5 (lv_at hl 4 rfl) ?_
      refine lv_aload_n FX.1 FX.2.1 dX4_along_7 rfl (lv_at hl 0 rfl) ?_
      refine bd hf (fun v1 h_v1 hf => ?_)
      refine gX4_51 FX hw h_v1 dX4_along_8 ?_
      refine lv_icmp_ge (tgt := 51) FX.1 FX.2.1 dX4_along_11 (by decide) (fun c_11 => ?_) (fun c_11 => ?_)
      · have hf := it_pos c_11 hf
        exact hX5 _ _ _ (lpe hf hk5) hw (lv_sub hl [] rfl)
      · have hf := it_neg c_11 hf
        refine lv_iload_n FX.1 FX.2.1 dX4_along_14 rfl (lv_at hl 2 rfl) ?_
        refine lv_if_lt (tgt := 51) FX.1 FX.2.1 dX4_along_15 (by decide) (fun c_15 => ?_) (fun c_15 => ?_)
        · have hf := it_pos c_15 hf
          exact hX5 _ _ _ (lpe hf hk5) hw (lv_sub hl [] rfl)
        · have hf := it_neg c_15 hf
          refine lv_aload_n FX.1 FX.2.1 dX4_along_18 rfl (lv_at hl 0 rfl) ?_
          refine bd hf (fun a2 h_a2 hf => ?_)
          refine gX4_19 FX hw h_a2 dX4_along_19 ?_
          refine lv_iload FX.1 FX.2.1 dX4_along_22 (lv_at hl 4 rfl) ?_
          refine bd hf (fun a3 h_a3 hf => ?_)
          refine ei_aald 4 rfl FX hw h_a3 dX4_along_24 ?_
          refine lv_iload_n FX.1 FX.2.1 dX4_along_25 rfl (lv_at hl 1 rfl) ?_
          refine bd hf (fun t4 h_t4 hf => ?_)
          refine vc_isOf (rest := []) FX hw h_t4 q1045 hl.1 rfl (lv_room (Nat.le_of_ble_eq_true rfl)) dX4_along_26 ⟨Nat.le_of_ble_eq_true rfl, Nat.le_of_ble_eq_true rfl⟩ ⟨Nat.zero_le _, Nat.zero_le _⟩ (fun H locs hw => ?_)
          refine lv_if_ne (tgt := 35) FX.1 FX.2.1 dX4_along_29 (by decide) (fun c_29 => ?_) (fun c_29 => ?_)
          · have hf := it_neg c_29 hf
            refine lv_iload_n FX.1 FX.2.1 dX4_along_35 rfl (lv_at hl 3 rfl) ?_
            refine lv_if_ne (tgt := 42) FX.1 FX.2.1 dX4_along_36 (by decide) (fun c_36 => ?_) (fun c_36 => ?_)
            · have hf := it_neg c_36 hf
              refine lv_iinc (v := (z5_3 + (-1))) (lv' := [(3, .int (z5_3 + (-1))), (0, .ref a), (1, .int p1), (2, .int p2), (4, .int z5_4)]) FX.1 FX.2.1 dX4_along_42 hl (k := 3) rfl (congrArg (fun q : Int32 => z5_3 + q) (by decide : Int32.ofInt (-1) = (-1))) (by decide) rfl (fun ls hl => ?_)
              refine lv_iinc (v := (z5_4 + 1)) (lv' := [(4, .int (z5_4 + 1)), (3, .int (z5_3 + (-1))), (0, .ref a), (1, .int p1), (2, .int p2)]) FX.1 FX.2.1 dX4_along_45 hl (k := 4) rfl (congrArg (fun q : Int32 => z5_4 + q) (by decide : Int32.ofInt 1 = 1)) (by decide) rfl (fun ls hl => ?_)
              refine lv_goto (tgt := 5) FX.1 FX.2.1 dX4_along_48 (by decide) ?_
              exact ih _ _ _ _ _ (lpc hf hk5) hw (lv_sub hl [2, 3, 4, 1, 0] rfl)
            · have hf := it_pos c_36 hf
              refine lv_iload FX.1 FX.2.1 dX4_along_39 (lv_at hl 4 rfl) ?_
              have hf := hR5 _ (lpe hf hk5)
              exact hret _ _ rfl (congrArg (fun z => z) (Option.some.inj hf)) rfl hw dX4_along_41
          · have hf := it_pos c_29 hf
            refine lv_goto (tgt := 45) FX.1 FX.2.1 dX4_along_32 (by decide) ?_
            refine lv_iinc (v := (z5_4 + 1)) (lv' := [(4, .int (z5_4 + 1)), (0, .ref a), (1, .int p1), (2, .int p2), (3, .int z5_3)]) FX.1 FX.2.1 dX4_along_45 hl (k := 4) rfl (congrArg (fun q : Int32 => z5_4 + q) (by decide : Int32.ofInt 1 = 1)) (by decide) rfl (fun ls hl => ?_)
            refine lv_goto (tgt := 5) FX.1 FX.2.1 dX4_along_48 (by decide) ?_
            exact ih _ _ _ _ _ (lpc hf hk5) hw (lv_sub hl [1, 2, 3, 4, 0] rfl)
  exact hL5 n _ _ _ _ _ hn hw (lv_sub hl [2, 3, 4, 1, 0] rfl)
abbrev rmX0_orNothing : Room := { frames := 1, cells := 0, slots := 0, locals := 21 }
set_option maxHeartbeats 4000000 in
theorem wX0_orNothing {l : Launch} {G : GT} {M C : FS} {K : KT} {p1 : Int32} {t : (Int32 × FS)} (hf : fX0_orNothing C p1 = some t) : CtI l yX0_orNothing (ws_ yX0_orNothing cX0_orNothing 2 (some .int)) rmX0_orNothing G [.ref (G.2.2.2 131), .int p1] (M, C, K.1, K.2.1) t.1 (M, t.2, K.1, K.2.1) := by
  refine mkI (ty := .int) (by decide) (Nat.le_of_ble_eq_true rfl) (fun p e s m a0 below meth c Q FX hw hname hret ls hl => ?_)
  have hl : lv_has ls 2 [(0, .ref (G.2.2.2 131)), (1, .int p1)] := hl
  unfold fX0_orNothing at hf
  refine lv_iload_n FX.1 FX.2.1 dX0_orNothing_0 rfl (lv_at hl 1 rfl) ?_
  refine lv_iconst (v := (-1)) FX.1 FX.2.1 dX0_orNothing_1 (by decide) ?_
  refine lv_icmp_ne (tgt := 14) FX.1 FX.2.1 dX0_orNothing_2 (by decide) (fun c_2 => ?_) (fun c_2 => ?_)
  · have hf := it_neg c_2 hf
    refine lv_aload_n FX.1 FX.2.1 dX0_orNothing_14 rfl (lv_at hl 0 rfl) ?_
    refine lv_iload_n FX.1 FX.2.1 dX0_orNothing_15 rfl (lv_at hl 1 rfl) ?_
    refine bd hf (fun t1 h_t1 hf => ?_)
    refine clV_i0 (As := [.int p1]) (rest := []) FX hw (wX0_gives h_t1) (cwV 1 FX.2.2.2.2 (lw_V q962 q964 qs16 q134 q965) rfl rfl rfl (by decide +kernel) ⟨Nat.le_of_ble_eq_true rfl, Nat.le_of_ble_eq_true rfl⟩) (fx_obj hw (o := (131, 0, 100, 31)) (by decide)) rfl rfl hl.1 rfl (lv_room (Nat.le_of_ble_eq_true rfl)) dX0_orNothing_16 ⟨rfl, rfl⟩ ⟨Nat.zero_le _, Nat.zero_le _⟩ (fun H locs hw => ?_)
    exact hret _ _ rfl (congrArg (fun z => z.1) (Option.some.inj hf)) (congrArg (fun z => (M, z.2, K.1, K.2.1)) (Option.some.inj hf)) hw dX0_orNothing_19
  · have hf := it_pos c_2 hf
    refine lv_aload_n FX.1 FX.2.1 dX0_orNothing_5 rfl (lv_at hl 0 rfl) ?_
    refine lv_bipush (v := 8) FX.1 FX.2.1 dX0_orNothing_6 (by decide) ?_
    refine bd hf (fun t2 h_t2 hf => ?_)
    refine clV_i0 (As := [.int 8]) (rest := []) FX hw (wX0_none h_t2) (cwV 1 FX.2.2.2.2 (lw_V q620 q622 qs3 q134 q623) rfl rfl rfl (by decide +kernel) ⟨Nat.le_of_ble_eq_true rfl, Nat.le_of_ble_eq_true rfl⟩) (fx_obj hw (o := (131, 0, 100, 31)) (by decide)) rfl rfl hl.1 rfl (lv_room (Nat.le_of_ble_eq_true rfl)) dX0_orNothing_8 ⟨rfl, rfl⟩ ⟨Nat.zero_le _, Nat.zero_le _⟩ (fun H locs hw => ?_)
    refine lv_goto (tgt := 19) FX.1 FX.2.1 dX0_orNothing_11 (by decide) ?_
    exact hret _ _ rfl (congrArg (fun z => z.1) (Option.some.inj hf)) (congrArg (fun z => (M, z.2, K.1, K.2.1)) (Option.some.inj hf)) hw dX0_orNothing_19
abbrev rmX0_along : Room := { frames := 7, cells := 0, slots := 0, locals := 424 }
set_option maxHeartbeats 4000000 in
theorem wX0_along {l : Launch} {G : GT} {M C : FS} {K : KT} {p1 : Int32} {p2 : Int32} {t : (Int32 × FS)} (hf : fX0_along C K p1 p2 = some t) : CtI l yX0_along (ws_ yX0_along cX0_along 3 (some .int)) rmX0_along G [.ref (G.2.2.2 131), .int p1, .int p2] (M, C, K.1, K.2.1) t.1 (M, t.2, K.1, K.2.1) := by
  refine mkI (ty := .int) (by decide) (Nat.le_of_ble_eq_true rfl) (fun p e s m a0 below meth c Q FX hw hname hret ls hl => ?_)
  have hl : lv_has ls 3 [(0, .ref (G.2.2.2 131)), (1, .int p1), (2, .int p2)] := hl
  unfold fX0_along at hf
  refine lv_aload_n FX.1 FX.2.1 dX0_along_0 rfl (lv_at hl 0 rfl) ?_
  refine lv_iload_n FX.1 FX.2.1 dX0_along_1 rfl (lv_at hl 1 rfl) ?_
  refine bd hf (fun t1 h_t1 hf => ?_)
  refine clV_i0 (As := [.int p1]) (rest := []) FX hw (wX0_isLead h_t1) (cwV 1 FX.2.2.2.2 (lw_V q1037 q1039 qs20 q134 q1040) rfl rfl rfl (by decide +kernel) ⟨Nat.le_of_ble_eq_true rfl, Nat.le_of_ble_eq_true rfl⟩) (fx_obj hw (o := (131, 0, 100, 31)) (by decide)) rfl rfl hl.1 rfl (lv_room (Nat.le_of_ble_eq_true rfl)) dX0_along_2 ⟨rfl, rfl⟩ ⟨Nat.zero_le _, Nat.zero_le _⟩ (fun H locs hw => ?_)
  refine lv_if_eq (tgt := 24) FX.1 FX.2.1 dX0_along_5 (by decide) (fun c_5 => ?_) (fun c_5 => ?_)
  · have hf := it_pos c_5 hf
    refine lv_aload_n FX.1 FX.2.1 dX0_along_24 rfl (lv_at hl 0 rfl) ?_
    refine lv_iconst (v := 2) FX.1 FX.2.1 dX0_along_25 (by decide) ?_
    refine bd hf (fun t2 h_t2 hf => ?_)
    refine clV_i0 (As := [.int 2]) (rest := []) FX hw (wX0_none h_t2) (cwV 1 FX.2.2.2.2 (lw_V q620 q622 qs3 q134 q623) rfl rfl rfl (by decide +kernel) ⟨Nat.le_of_ble_eq_true rfl, Nat.le_of_ble_eq_true rfl⟩) (fx_obj hw (o := (131, 0, 100, 31)) (by decide)) rfl rfl hl.1 rfl (lv_room (Nat.le_of_ble_eq_true rfl)) dX0_along_26 ⟨rfl, rfl⟩ ⟨Nat.zero_le _, Nat.zero_le _⟩ (fun H locs hw => ?_)
    exact hret _ _ rfl (congrArg (fun z => z.1) (Option.some.inj hf)) (congrArg (fun z => (M, z.2, K.1, K.2.1)) (Option.some.inj hf)) hw dX0_along_29
  · have hf := it_neg c_5 hf
    refine lv_aload_n FX.1 FX.2.1 dX0_along_8 rfl (lv_at hl 0 rfl) ?_
    refine lv_aload_n FX.1 FX.2.1 dX0_along_9 rfl (lv_at hl 0 rfl) ?_
    refine gX0_38 FX hw dX0_along_10 ?_
    refine bd hf (fun a3 h_a3 hf => ?_)
    rw [show va_rf (C.2.2.1 103) = .ref a3 from congrArg va_rf h_a3]
    refine lv_iload_n FX.1 FX.2.1 dX0_along_13 rfl (lv_at hl 1 rfl) ?_
    refine lv_iload_n FX.1 FX.2.1 dX0_along_14 rfl (lv_at hl 2 rfl) ?_
    refine bd hf (fun g4 h_g4 hf => ?_)
    refine bd hf (fun t5 h_t5 hf => ?_)
    obtain ⟨fs_g4, he_g4⟩ := dC_some (gC_some h_g4)
    refine clV_i0 (As := [.int p1, .int p2]) (rest := [.ref (G.2.2.2 131)]) FX hw (wX4_along h_t5) (cwV 2 FX.2.2.2.2 (lw_V q1086 q1087 q1088 q141 q1089) rfl rfl rfl (by decide +kernel) ⟨Nat.le_of_ble_eq_true rfl, Nat.le_of_ble_eq_true rfl⟩) (dyn_he hw he_g4) rfl rfl hl.1 rfl (lv_room (Nat.le_of_ble_eq_true rfl)) dX0_along_15 ⟨rfl, rfl⟩ ⟨Nat.zero_le _, Nat.zero_le _⟩ (fun H locs hw => ?_)
    refine bd hf (fun t6 h_t6 hf => ?_)
    refine clV_i0 (As := [.int t5]) (rest := []) FX hw (wX0_orNothing h_t6) (cwV 1 FX.2.2.2.2 (lw_V q1090 q1092 qs21 q134 q1093) rfl rfl rfl (by decide +kernel) ⟨Nat.le_of_ble_eq_true rfl, Nat.le_of_ble_eq_true rfl⟩) (fx_obj hw (o := (131, 0, 100, 31)) (by decide)) rfl rfl hl.1 rfl (lv_room (Nat.le_of_ble_eq_true rfl)) dX0_along_18 ⟨rfl, rfl⟩ ⟨Nat.zero_le _, Nat.zero_le _⟩ (fun H locs hw => ?_)
    refine lv_goto (tgt := 29) FX.1 FX.2.1 dX0_along_21 (by decide) ?_
    exact hret _ _ rfl (congrArg (fun z => z.1) (Option.some.inj hf)) (congrArg (fun z => (M, z.2, K.1, K.2.1)) (Option.some.inj hf)) hw dX0_along_29
abbrev rmX0_isLook : Room := { frames := 0, cells := 0, slots := 0, locals := 0 }
set_option maxHeartbeats 4000000 in
theorem wX0_isLook {l : Launch} {G : GT} {M C : FS} {K : KT} {p1 : Int32} {t : Int32} (hf : fX0_isLook C K p1 = some t) : CtI l yX0_isLook (ws_ yX0_isLook cX0_isLook 2 (some .boolean)) rmX0_isLook G [.ref (G.2.2.2 131), .int p1] (M, C, K.1, K.2.1) t (M, C, K.1, K.2.1) := by
  refine mkI (ty := .boolean) (by decide) (Nat.le_of_ble_eq_true rfl) (fun p e s m a0 below meth c Q FX hw hname hret ls hl => ?_)
  have hl : lv_has ls 2 [(0, .ref (G.2.2.2 131)), (1, .int p1)] := hl
  unfold fX0_isLook at hf
  refine lv_iload_n FX.1 FX.2.1 dX0_isLook_0 rfl (lv_at hl 1 rfl) ?_
  refine lv_if_lt (tgt := 19) FX.1 FX.2.1 dX0_isLook_1 (by decide) (fun c_1 => ?_) (fun c_1 => ?_)
  · have hf := it_pos c_1 hf
    refine lv_iconst (v := 0) FX.1 FX.2.1 dX0_isLook_19 (by decide) ?_
    exact hret _ _ rfl (congrArg (fun z => z) (Option.some.inj hf)) rfl hw dX0_isLook_20
  · have hf := it_neg c_1 hf
    refine lv_iload_n FX.1 FX.2.1 dX0_isLook_4 rfl (lv_at hl 1 rfl) ?_
    refine lv_aload_n FX.1 FX.2.1 dX0_isLook_5 rfl (lv_at hl 0 rfl) ?_
    refine gX0_38 FX hw dX0_isLook_6 ?_
    refine bd hf (fun a1 h_a1 hf => ?_)
    rw [show va_rf (C.2.2.1 103) = .ref a1 from congrArg va_rf h_a1]
    refine bd hf (fun v2 h_v2 hf => ?_)
    refine gX0_155 FX hw h_v2 dX0_isLook_9 ?_
    refine lv_icmp_ge (tgt := 19) FX.1 FX.2.1 dX0_isLook_12 (by decide) (fun c_12 => ?_) (fun c_12 => ?_)
    · have hf := it_pos c_12 hf
      refine lv_iconst (v := 0) FX.1 FX.2.1 dX0_isLook_19 (by decide) ?_
      exact hret _ _ rfl (congrArg (fun z => z) (Option.some.inj hf)) rfl hw dX0_isLook_20
    · have hf := it_neg c_12 hf
      refine lv_iconst (v := 1) FX.1 FX.2.1 dX0_isLook_15 (by decide) ?_
      refine lv_goto (tgt := 20) FX.1 FX.2.1 dX0_isLook_16 (by decide) ?_
      exact hret _ _ rfl (congrArg (fun z => z) (Option.some.inj hf)) rfl hw dX0_isLook_20
abbrev rmX0_look : Room := { frames := 1, cells := 0, slots := 0, locals := 21 }
set_option maxHeartbeats 4000000 in
theorem wX0_look {l : Launch} {G : GT} {M C : FS} {K : KT} {p1 : Int32} {t : (Int32 × FS)} (hf : fX0_look C K p1 = some t) : CtI l yX0_look (ws_ yX0_look cX0_look 2 (some .int)) rmX0_look G [.ref (G.2.2.2 131), .int p1] (M, C, K.1, K.2.1) t.1 (M, t.2, K.1, K.2.1) := by
  refine mkI (ty := .int) (by decide) (Nat.le_of_ble_eq_true rfl) (fun p e s m a0 below meth c Q FX hw hname hret ls hl => ?_)
  have hl : lv_has ls 2 [(0, .ref (G.2.2.2 131)), (1, .int p1)] := hl
  unfold fX0_look at hf
  refine lv_aload_n FX.1 FX.2.1 dX0_look_0 rfl (lv_at hl 0 rfl) ?_
  refine lv_iload_n FX.1 FX.2.1 dX0_look_1 rfl (lv_at hl 1 rfl) ?_
  refine bd hf (fun t1 h_t1 hf => ?_)
  refine clV_i0 (As := [.int p1]) (rest := []) FX hw (wX0_isLook h_t1) (cwV 1 FX.2.2.2.2 (lw_V q1098 q1100 qs22 q134 q1101) rfl rfl rfl (by decide +kernel) ⟨Nat.le_of_ble_eq_true rfl, Nat.le_of_ble_eq_true rfl⟩) (fx_obj hw (o := (131, 0, 100, 31)) (by decide)) rfl rfl hl.1 rfl (lv_room (Nat.le_of_ble_eq_true rfl)) dX0_look_2 ⟨rfl, rfl⟩ ⟨Nat.zero_le _, Nat.zero_le _⟩ (fun H locs hw => ?_)
  refine lv_if_eq (tgt := 24) FX.1 FX.2.1 dX0_look_5 (by decide) (fun c_5 => ?_) (fun c_5 => ?_)
  · have hf := it_pos c_5 hf
    refine lv_aload_n FX.1 FX.2.1 dX0_look_24 rfl (lv_at hl 0 rfl) ?_
    refine lv_iconst (v := 2) FX.1 FX.2.1 dX0_look_25 (by decide) ?_
    refine bd hf (fun t2 h_t2 hf => ?_)
    refine clV_i0 (As := [.int 2]) (rest := []) FX hw (wX0_none h_t2) (cwV 1 FX.2.2.2.2 (lw_V q620 q622 qs3 q134 q623) rfl rfl rfl (by decide +kernel) ⟨Nat.le_of_ble_eq_true rfl, Nat.le_of_ble_eq_true rfl⟩) (fx_obj hw (o := (131, 0, 100, 31)) (by decide)) rfl rfl hl.1 rfl (lv_room (Nat.le_of_ble_eq_true rfl)) dX0_look_26 ⟨rfl, rfl⟩ ⟨Nat.zero_le _, Nat.zero_le _⟩ (fun H locs hw => ?_)
    exact hret _ _ rfl (congrArg (fun z => z.1) (Option.some.inj hf)) (congrArg (fun z => (M, z.2, K.1, K.2.1)) (Option.some.inj hf)) hw dX0_look_29
  · have hf := it_neg c_5 hf
    refine lv_aload_n FX.1 FX.2.1 dX0_look_8 rfl (lv_at hl 0 rfl) ?_
    refine lv_aload_n FX.1 FX.2.1 dX0_look_9 rfl (lv_at hl 0 rfl) ?_
    refine gX0_38 FX hw dX0_look_10 ?_
    refine bd hf (fun a3 h_a3 hf => ?_)
    rw [show va_rf (C.2.2.1 103) = .ref a3 from congrArg va_rf h_a3]
    refine bd hf (fun a4 h_a4 hf => ?_)
    refine gX0_281 FX hw h_a4 dX0_look_13 ?_
    refine lv_iload_n FX.1 FX.2.1 dX0_look_16 rfl (lv_at hl 1 rfl) ?_
    refine bd hf (fun v5 h_v5 hf => ?_)
    refine ei_ald FX hw h_v5 dX0_look_17 ?_
    refine bd hf (fun t6 h_t6 hf => ?_)
    refine clV_i0 (As := [.int v5]) (rest := []) FX hw (wX0_gives h_t6) (cwV 1 FX.2.2.2.2 (lw_V q962 q964 qs16 q134 q965) rfl rfl rfl (by decide +kernel) ⟨Nat.le_of_ble_eq_true rfl, Nat.le_of_ble_eq_true rfl⟩) (fx_obj hw (o := (131, 0, 100, 31)) (by decide)) rfl rfl hl.1 rfl (lv_room (Nat.le_of_ble_eq_true rfl)) dX0_look_18 ⟨rfl, rfl⟩ ⟨Nat.zero_le _, Nat.zero_le _⟩ (fun H locs hw => ?_)
    refine lv_goto (tgt := 29) FX.1 FX.2.1 dX0_look_21 (by decide) ?_
    exact hret _ _ rfl (congrArg (fun z => z.1) (Option.some.inj hf)) (congrArg (fun z => (M, z.2, K.1, K.2.1)) (Option.some.inj hf)) hw dX0_look_29
abbrev rmX0_between : Room := { frames := 6, cells := 0, slots := 0, locals := 400 }
set_option maxHeartbeats 4000000 in
theorem wX0_between {l : Launch} {G : GT} {M C : FS} {K : KT} {p1 : Int32} {p2 : Int32} {t : (Int32 × FS)} (hf : fX0_between C K p1 p2 = some t) : CtI l yX0_between (ws_ yX0_between cX0_between 5 (some .int)) rmX0_between G [.ref (G.2.2.2 131), .int p1, .int p2] (M, C, K.1, K.2.1) t.1 (M, t.2, K.1, K.2.1) := by
  refine mkI (ty := .int) (by decide) (Nat.le_of_ble_eq_true rfl) (fun p e s m a0 below meth c Q FX hw hname hret ls hl => ?_)
  have hl : lv_has ls 5 [(0, .ref (G.2.2.2 131)), (1, .int p1), (2, .int p2)] := hl
  unfold fX0_between at hf
  refine lv_aload_n FX.1 FX.2.1 dX0_between_0 rfl (lv_at hl 0 rfl) ?_
  refine lv_iload_n FX.1 FX.2.1 dX0_between_1 rfl (lv_at hl 1 rfl) ?_
  refine bd hf (fun t1 h_t1 hf => ?_)
  refine clV_i0 (As := [.int p1]) (rest := []) FX hw (wX0_isLead h_t1) (cwV 1 FX.2.2.2.2 (lw_V q1037 q1039 qs20 q134 q1040) rfl rfl rfl (by decide +kernel) ⟨Nat.le_of_ble_eq_true rfl, Nat.le_of_ble_eq_true rfl⟩) (fx_obj hw (o := (131, 0, 100, 31)) (by decide)) rfl rfl hl.1 rfl (lv_room (Nat.le_of_ble_eq_true rfl)) dX0_between_2 ⟨rfl, rfl⟩ ⟨Nat.zero_le _, Nat.zero_le _⟩ (fun H locs hw => ?_)
  refine lv_if_eq (tgt := 16) FX.1 FX.2.1 dX0_between_5 (by decide) (fun c_5 => ?_) (fun c_5 => ?_)
  · have hf := it_pos c_5 hf
    refine lv_aload_n FX.1 FX.2.1 dX0_between_16 rfl (lv_at hl 0 rfl) ?_
    refine lv_iconst (v := 2) FX.1 FX.2.1 dX0_between_17 (by decide) ?_
    refine bd hf (fun t2 h_t2 hf => ?_)
    refine clV_i0 (As := [.int 2]) (rest := []) FX hw (wX0_none h_t2) (cwV 1 FX.2.2.2.2 (lw_V q620 q622 qs3 q134 q623) rfl rfl rfl (by decide +kernel) ⟨Nat.le_of_ble_eq_true rfl, Nat.le_of_ble_eq_true rfl⟩) (fx_obj hw (o := (131, 0, 100, 31)) (by decide)) rfl rfl hl.1 rfl (lv_room (Nat.le_of_ble_eq_true rfl)) dX0_between_18 ⟨rfl, rfl⟩ ⟨Nat.zero_le _, Nat.zero_le _⟩ (fun H locs hw => ?_)
    exact hret _ _ rfl (congrArg (fun z => z.1) (Option.some.inj hf)) (congrArg (fun z => (M, z.2, K.1, K.2.1)) (Option.some.inj hf)) hw dX0_between_21
  · have hf := it_neg c_5 hf
    refine lv_aload_n FX.1 FX.2.1 dX0_between_8 rfl (lv_at hl 0 rfl) ?_
    refine lv_iload_n FX.1 FX.2.1 dX0_between_9 rfl (lv_at hl 2 rfl) ?_
    refine bd hf (fun t3 h_t3 hf => ?_)
    refine clV_i0 (As := [.int p2]) (rest := []) FX hw (wX0_isLead h_t3) (cwV 1 FX.2.2.2.2 (lw_V q1037 q1039 qs20 q134 q1040) rfl rfl rfl (by decide +kernel) ⟨Nat.le_of_ble_eq_true rfl, Nat.le_of_ble_eq_true rfl⟩) (fx_obj hw (o := (131, 0, 100, 31)) (by decide)) rfl rfl hl.1 rfl (lv_room (Nat.le_of_ble_eq_true rfl)) dX0_between_10 ⟨rfl, rfl⟩ ⟨Nat.zero_le _, Nat.zero_le _⟩ (fun H locs hw => ?_)
    refine lv_if_ne (tgt := 22) FX.1 FX.2.1 dX0_between_13 (by decide) (fun c_13 => ?_) (fun c_13 => ?_)
    · have hf := it_neg c_13 hf
      refine lv_iload_n FX.1 FX.2.1 dX0_between_22 rfl (lv_at hl 1 rfl) ?_
      refine lv_iload_n FX.1 FX.2.1 dX0_between_23 rfl (lv_at hl 2 rfl) ?_
      refine lv_icmp_ne (tgt := 33) FX.1 FX.2.1 dX0_between_24 (by decide) (fun c_24 => ?_) (fun c_24 => ?_)
      · have hf := it_neg c_24 hf
        refine lv_iconst (v := 0) FX.1 FX.2.1 dX0_between_33 (by decide) ?_
        refine lv_istore_n (lv' := [(3, .int 0), (0, .ref (G.2.2.2 131)), (1, .int p1), (2, .int p2)]) FX.1 FX.2.1 dX0_between_34 rfl hl (by decide) rfl (fun ls hl => ?_)
        refine lv_iconst (v := 0) FX.1 FX.2.1 dX0_between_35 (by decide) ?_
        refine lv_istore (lv' := [(4, .int 0), (3, .int 0), (0, .ref (G.2.2.2 131)), (1, .int p1), (2, .int p2)]) FX.1 FX.2.1 dX0_between_36 hl (by decide) rfl (fun ls hl => ?_)
        refine bd hf (fun u38 ht hf => ?_)
        obtain ⟨n, hn⟩ := lp_iff.mp ht
        have hX38 : ∀ (t38_3 : Int32) (H : Heap) (locs : List Loc) (ls : Array Slot) , t38_3 = u38 → WS G (M, C, K.1, K.2.1) s H locs → lv_has ls 5 [(0, .ref (G.2.2.2 131)), (3, .int t38_3)] → W p l e rmX0_between s m a0 below meth c H locs 0 0 Q (F0 m 98 ls []) := by
          intro t38_3 H locs ls he hw hl
          subst he
          refine lv_aload_n FX.1 FX.2.1 dX0_between_98 rfl (lv_at hl 0 rfl) ?_
          refine lv_iload_n FX.1 FX.2.1 dX0_between_99 rfl (lv_at hl 1 rfl) ?_
          refine bd hf (fun t14 h_t14 hf => ?_)
          refine clV_i0 (As := [.int t38_3]) (rest := []) FX hw (wX0_gives h_t14) (cwV 1 FX.2.2.2.2 (lw_V q962 q964 qs16 q134 q965) rfl rfl rfl (by decide +kernel) ⟨Nat.le_of_ble_eq_true rfl, Nat.le_of_ble_eq_true rfl⟩) (fx_obj hw (o := (131, 0, 100, 31)) (by decide)) rfl rfl hl.1 rfl (lv_room (Nat.le_of_ble_eq_true rfl)) dX0_between_100 ⟨rfl, rfl⟩ ⟨Nat.zero_le _, Nat.zero_le _⟩ (fun H locs hw => ?_)
          exact hret _ _ rfl (congrArg (fun z => z.1) (Option.some.inj hf)) (congrArg (fun z => (M, z.2, K.1, K.2.1)) (Option.some.inj hf)) hw dX0_between_103
        have hL38 : ∀ (n : Nat) (z38_3 : Int32) (z38_4 : Int32) (H : Heap) (locs : List Loc) (ls : Array Slot) , lpN (fun z => fX0_between_L38 C K p1 p2 z.1 z.2) n (z38_3, z38_4) = some u38 → WS G (M, C, K.1, K.2.1) s H locs → lv_has ls 5 [(0, .ref (G.2.2.2 131)), (1, .int p1), (2, .int p2), (3, .int z38_3), (4, .int z38_4)] → W p l e rmX0_between s m a0 below meth c H locs 0 0 Q (F0 m 38 ls []) := by
          intro n
          induction n with
          | zero => intro z38_3 z38_4 H locs ls hz; cases hz
          | succ n ih =>
            intro z38_3 z38_4 H locs ls hz hw hl
            refine bd (show (fX0_between_L38 C K p1 p2 z38_3 z38_4).bind _ = some u38 from hz) (fun x38 hf hk38 => ?_)
            unfold fX0_between_L38 at hf
            refine lv_iload FX.1 FX.2.1 dX0_between_38 (lv_at hl 4 rfl) ?_
            refine lv_aload_n FX.1 FX.2.1 dX0_between_40 rfl (lv_at hl 0 rfl) ?_
            refine gX0_38 FX hw dX0_between_41 ?_
            refine bd hf (fun a4 h_a4 hf => ?_)
            rw [show va_rf (C.2.2.1 103) = .ref a4 from congrArg va_rf h_a4]
            refine bd hf (fun v5 h_v5 hf => ?_)
            refine gX0_217 FX hw h_v5 dX0_between_44 ?_
            refine lv_icmp_ge (tgt := 98) FX.1 FX.2.1 dX0_between_47 (by decide) (fun c_47 => ?_) (fun c_47 => ?_)
            · have hf := it_pos c_47 hf
              exact hX38 _ _ _ _ (lpe hf hk38) hw (lv_sub hl [0, 3] rfl)
            · have hf := it_neg c_47 hf
              refine lv_iload_n FX.1 FX.2.1 dX0_between_50 rfl (lv_at hl 3 rfl) ?_
              refine lv_aload_n FX.1 FX.2.1 dX0_between_51 rfl (lv_at hl 0 rfl) ?_
              refine gX0_38 FX hw dX0_between_52 ?_
              refine bd hf (fun a6 h_a6 hf => ?_)
              rw [show va_rf (C.2.2.1 103) = .ref a6 from congrArg va_rf h_a6]
              refine bd hf (fun a7 h_a7 hf => ?_)
              refine gX0_260 FX hw h_a7 dX0_between_55 ?_
              refine lv_iload FX.1 FX.2.1 dX0_between_58 (lv_at hl 4 rfl) ?_
              refine bd hf (fun a8 h_a8 hf => ?_)
              refine ei_aald 4 rfl FX hw h_a8 dX0_between_60 ?_
              refine lv_iload_n FX.1 FX.2.1 dX0_between_61 rfl (lv_at hl 1 rfl) ?_
              refine bd hf (fun t9 h_t9 hf => ?_)
              refine vc_isOf (rest := [.int z38_3]) FX hw h_t9 q1106 hl.1 rfl (lv_room (Nat.le_of_ble_eq_true rfl)) dX0_between_62 ⟨Nat.le_of_ble_eq_true rfl, Nat.le_of_ble_eq_true rfl⟩ ⟨Nat.zero_le _, Nat.zero_le _⟩ (fun H locs hw => ?_)
              refine lv_if_eq (tgt := 89) FX.1 FX.2.1 dX0_between_65 (by decide) (fun c_65 => ?_) (fun c_65 => ?_)
              · have hf := it_pos c_65 hf
                refine lv_iconst (v := 0) FX.1 FX.2.1 dX0_between_89 (by decide) ?_
                refine lv_iadd FX.1 FX.2.1 dX0_between_90 ?_
                refine lv_istore_n (lv' := [(3, .int (z38_3 + 0)), (0, .ref (G.2.2.2 131)), (1, .int p1), (2, .int p2), (4, .int z38_4)]) FX.1 FX.2.1 dX0_between_91 rfl hl (by decide) rfl (fun ls hl => ?_)
                refine lv_iinc (v := (z38_4 + 1)) (lv' := [(4, .int (z38_4 + 1)), (3, .int (z38_3 + 0)), (0, .ref (G.2.2.2 131)), (1, .int p1), (2, .int p2)]) FX.1 FX.2.1 dX0_between_92 hl (k := 4) rfl (congrArg (fun q : Int32 => z38_4 + q) (by decide : Int32.ofInt 1 = 1)) (by decide) rfl (fun ls hl => ?_)
                refine lv_goto (tgt := 38) FX.1 FX.2.1 dX0_between_95 (by decide) ?_
                exact ih _ _ _ _ _ (lpc hf hk38) hw (lv_sub hl [2, 3, 4, 1, 0] rfl)
              · have hf := it_neg c_65 hf
                refine lv_aload_n FX.1 FX.2.1 dX0_between_68 rfl (lv_at hl 0 rfl) ?_
                refine gX0_38 FX hw dX0_between_69 ?_
                refine bd hf (fun a10 h_a10 hf => ?_)
                rw [show va_rf (C.2.2.1 103) = .ref a10 from congrArg va_rf h_a10]
                refine bd hf (fun a11 h_a11 hf => ?_)
                refine gX0_260 FX hw h_a11 dX0_between_72 ?_
                refine lv_iload FX.1 FX.2.1 dX0_between_75 (lv_at hl 4 rfl) ?_
                refine bd hf (fun a12 h_a12 hf => ?_)
                refine ei_aald 4 rfl FX hw h_a12 dX0_between_77 ?_
                refine lv_iload_n FX.1 FX.2.1 dX0_between_78 rfl (lv_at hl 2 rfl) ?_
                refine bd hf (fun t13 h_t13 hf => ?_)
                refine vc_isOf (rest := [.int z38_3]) FX hw h_t13 q1106 hl.1 rfl (lv_room (Nat.le_of_ble_eq_true rfl)) dX0_between_79 ⟨Nat.le_of_ble_eq_true rfl, Nat.le_of_ble_eq_true rfl⟩ ⟨Nat.zero_le _, Nat.zero_le _⟩ (fun H locs hw => ?_)
                refine lv_if_eq (tgt := 89) FX.1 FX.2.1 dX0_between_82 (by decide) (fun c_82 => ?_) (fun c_82 => ?_)
                · have hf := it_pos c_82 hf
                  refine lv_iconst (v := 0) FX.1 FX.2.1 dX0_between_89 (by decide) ?_
                  refine lv_iadd FX.1 FX.2.1 dX0_between_90 ?_
                  refine lv_istore_n (lv' := [(3, .int (z38_3 + 0)), (0, .ref (G.2.2.2 131)), (1, .int p1), (2, .int p2), (4, .int z38_4)]) FX.1 FX.2.1 dX0_between_91 rfl hl (by decide) rfl (fun ls hl => ?_)
                  refine lv_iinc (v := (z38_4 + 1)) (lv' := [(4, .int (z38_4 + 1)), (3, .int (z38_3 + 0)), (0, .ref (G.2.2.2 131)), (1, .int p1), (2, .int p2)]) FX.1 FX.2.1 dX0_between_92 hl (k := 4) rfl (congrArg (fun q : Int32 => z38_4 + q) (by decide : Int32.ofInt 1 = 1)) (by decide) rfl (fun ls hl => ?_)
                  refine lv_goto (tgt := 38) FX.1 FX.2.1 dX0_between_95 (by decide) ?_
                  exact ih _ _ _ _ _ (lpc hf hk38) hw (lv_sub hl [2, 3, 4, 1, 0] rfl)
                · have hf := it_neg c_82 hf
                  refine lv_iconst (v := 1) FX.1 FX.2.1 dX0_between_85 (by decide) ?_
                  refine lv_goto (tgt := 90) FX.1 FX.2.1 dX0_between_86 (by decide) ?_
                  refine lv_iadd FX.1 FX.2.1 dX0_between_90 ?_
                  refine lv_istore_n (lv' := [(3, .int (z38_3 + 1)), (0, .ref (G.2.2.2 131)), (1, .int p1), (2, .int p2), (4, .int z38_4)]) FX.1 FX.2.1 dX0_between_91 rfl hl (by decide) rfl (fun ls hl => ?_)
                  refine lv_iinc (v := (z38_4 + 1)) (lv' := [(4, .int (z38_4 + 1)), (3, .int (z38_3 + 1)), (0, .ref (G.2.2.2 131)), (1, .int p1), (2, .int p2)]) FX.1 FX.2.1 dX0_between_92 hl (k := 4) rfl (congrArg (fun q : Int32 => z38_4 + q) (by decide : Int32.ofInt 1 = 1)) (by decide) rfl (fun ls hl => ?_)
                  refine lv_goto (tgt := 38) FX.1 FX.2.1 dX0_between_95 (by decide) ?_
                  exact ih _ _ _ _ _ (lpc hf hk38) hw (lv_sub hl [2, 3, 4, 1, 0] rfl)
        exact hL38 n _ _ _ _ _ hn hw (lv_sub hl [2, 3, 4, 1, 0] rfl)
      · have hf := it_pos c_24 hf
        refine lv_aload_n FX.1 FX.2.1 dX0_between_27 rfl (lv_at hl 0 rfl) ?_
        refine lv_iconst (v := 5) FX.1 FX.2.1 dX0_between_28 (by decide) ?_
        refine bd hf (fun t15 h_t15 hf => ?_)
        refine clV_i0 (As := [.int 5]) (rest := []) FX hw (wX0_none h_t15) (cwV 1 FX.2.2.2.2 (lw_V q620 q622 qs3 q134 q623) rfl rfl rfl (by decide +kernel) ⟨Nat.le_of_ble_eq_true rfl, Nat.le_of_ble_eq_true rfl⟩) (fx_obj hw (o := (131, 0, 100, 31)) (by decide)) rfl rfl hl.1 rfl (lv_room (Nat.le_of_ble_eq_true rfl)) dX0_between_29 ⟨rfl, rfl⟩ ⟨Nat.zero_le _, Nat.zero_le _⟩ (fun H locs hw => ?_)
        exact hret _ _ rfl (congrArg (fun z => z.1) (Option.some.inj hf)) (congrArg (fun z => (M, z.2, K.1, K.2.1)) (Option.some.inj hf)) hw dX0_between_32
    · have hf := it_pos c_13 hf
      refine lv_aload_n FX.1 FX.2.1 dX0_between_16 rfl (lv_at hl 0 rfl) ?_
      refine lv_iconst (v := 2) FX.1 FX.2.1 dX0_between_17 (by decide) ?_
      refine bd hf (fun t16 h_t16 hf => ?_)
      refine clV_i0 (As := [.int 2]) (rest := []) FX hw (wX0_none h_t16) (cwV 1 FX.2.2.2.2 (lw_V q620 q622 qs3 q134 q623) rfl rfl rfl (by decide +kernel) ⟨Nat.le_of_ble_eq_true rfl, Nat.le_of_ble_eq_true rfl⟩) (fx_obj hw (o := (131, 0, 100, 31)) (by decide)) rfl rfl hl.1 rfl (lv_room (Nat.le_of_ble_eq_true rfl)) dX0_between_18 ⟨rfl, rfl⟩ ⟨Nat.zero_le _, Nat.zero_le _⟩ (fun H locs hw => ?_)
      exact hret _ _ rfl (congrArg (fun z => z.1) (Option.some.inj hf)) (congrArg (fun z => (M, z.2, K.1, K.2.1)) (Option.some.inj hf)) hw dX0_between_21
abbrev rmX0_isFrom : Room := { frames := 0, cells := 0, slots := 0, locals := 0 }
set_option maxHeartbeats 4000000 in
theorem wX0_isFrom {l : Launch} {G : GT} {M C : FS} {K : KT} {p1 : Int64} {p2 : Int64} {p3 : Int64} {t : Int32} (hf : fX0_isFrom p1 p2 p3 = some t) : CtI l yX0_isFrom (ws_ yX0_isFrom cX0_isFrom 6 (some .boolean)) rmX0_isFrom G [.long p1, .long p2, .long p3] (M, C, K.1, K.2.1) t (M, C, K.1, K.2.1) := by
  refine mkI (ty := .boolean) (by decide) (Nat.le_of_ble_eq_true rfl) (fun p e s m a0 below meth c Q FX hw hname hret ls hl => ?_)
  have hl : lv_has ls 6 [(0, .long p1), (2, .long p2), (4, .long p3)] := hl
  unfold fX0_isFrom at hf
  refine lv_lload_n FX.1 FX.2.1 dX0_isFrom_0 rfl (lv_at hl 0 rfl) ?_
  refine lv_lload_n FX.1 FX.2.1 dX0_isFrom_1 rfl (lv_at hl 1 rfl) ?_
  refine W.lcmp FX.1 FX.2.1 dX0_isFrom_2 ?_
  refine lv_if_lt (tgt := 17) FX.1 FX.2.1 dX0_isFrom_3 (by decide) (fun c_3 => ?_) (fun c_3 => ?_)
  · have c_3 := (lg_cmp_lt _ _).mp c_3
    have hf := it_pos c_3 hf
    refine lv_iconst (v := 0) FX.1 FX.2.1 dX0_isFrom_17 (by decide) ?_
    exact hret _ _ rfl (congrArg (fun z => z) (Option.some.inj hf)) rfl hw dX0_isFrom_18
  · have c_3 := mt (lg_cmp_lt _ _).mpr c_3
    have hf := it_neg c_3 hf
    refine lv_lload_n FX.1 FX.2.1 dX0_isFrom_6 rfl (lv_at hl 0 rfl) ?_
    refine lv_lload FX.1 FX.2.1 dX0_isFrom_7 (lv_at hl 2 rfl) ?_
    refine W.lcmp FX.1 FX.2.1 dX0_isFrom_9 ?_
    refine lv_if_gt (tgt := 17) FX.1 FX.2.1 dX0_isFrom_10 (by decide) (fun c_10 => ?_) (fun c_10 => ?_)
    · have c_10 := (lg_cmp_gt _ _).mp c_10
      have hf := it_pos c_10 hf
      refine lv_iconst (v := 0) FX.1 FX.2.1 dX0_isFrom_17 (by decide) ?_
      exact hret _ _ rfl (congrArg (fun z => z) (Option.some.inj hf)) rfl hw dX0_isFrom_18
    · have c_10 := mt (lg_cmp_gt _ _).mpr c_10
      have hf := it_neg c_10 hf
      refine lv_iconst (v := 1) FX.1 FX.2.1 dX0_isFrom_13 (by decide) ?_
      refine lv_goto (tgt := 18) FX.1 FX.2.1 dX0_isFrom_14 (by decide) ?_
      exact hret _ _ rfl (congrArg (fun z => z) (Option.some.inj hf)) rfl hw dX0_isFrom_18
abbrev rmX4_secondsOf : Room := { frames := 6, cells := 0, slots := 0, locals := 400 }
set_option maxHeartbeats 4000000 in
theorem wX4_secondsOf {l : Launch} {G : GT} {M C : FS} {K : KT} {a : Nat} {p1 : Nat} {p2 : Int32} {t : Int32} (hf : fX4_secondsOf K a p1 p2 = some t) : CtI l yX4_secondsOf (ws_ yX4_secondsOf cX4_secondsOf 3 (some .int)) rmX4_secondsOf G [.ref a, .ref p1, .int p2] (M, C, K.1, K.2.1) t (M, C, K.1, K.2.1) := by
  refine mkI (ty := .int) (by decide) (Nat.le_of_ble_eq_true rfl) (fun p e s m a0 below meth c Q FX hw hname hret ls hl => ?_)
  have hl : lv_has ls 3 [(0, .ref a), (1, .ref p1), (2, .int p2)] := hl
  unfold fX4_secondsOf at hf
  refine lv_aload_n FX.1 FX.2.1 dX4_secondsOf_0 rfl (lv_at hl 1 rfl) ?_
  refine bd hf (fun t1 h_t1 hf => ?_)
  refine vc_seconds (rest := []) FX hw h_t1 q1132 hl.1 rfl (lv_room (Nat.le_of_ble_eq_true rfl)) dX4_secondsOf_1 ⟨Nat.le_of_ble_eq_true rfl, Nat.le_of_ble_eq_true rfl⟩ ⟨Nat.zero_le _, Nat.zero_le _⟩ (fun H locs hw => ?_)
  refine lv_aload_n FX.1 FX.2.1 dX4_secondsOf_4 rfl (lv_at hl 0 rfl) ?_
  refine bd hf (fun a2 h_a2 hf => ?_)
  refine gX4_11 FX hw h_a2 dX4_secondsOf_5 ?_
  refine lv_aload_n FX.1 FX.2.1 dX4_secondsOf_8 rfl (lv_at hl 1 rfl) ?_
  refine lv_iload_n FX.1 FX.2.1 dX4_secondsOf_9 rfl (lv_at hl 2 rfl) ?_
  refine bd hf (fun t3 h_t3 hf => ?_)
  refine vc_other (rest := [.ref a2, .int t1]) FX hw h_t3 q1149 hl.1 rfl (lv_room (Nat.le_of_ble_eq_true rfl)) dX4_secondsOf_10 ⟨Nat.le_of_ble_eq_true rfl, Nat.le_of_ble_eq_true rfl⟩ ⟨Nat.zero_le _, Nat.zero_le _⟩ (fun H locs hw => ?_)
  refine bd hf (fun a4 h_a4 hf => ?_)
  refine ei_aald 5 rfl FX hw h_a4 dX4_secondsOf_13 ?_
  refine bd hf (fun v5 h_v5 hf => ?_)
  refine gX4_99 FX hw h_v5 dX4_secondsOf_14 ?_
  refine lv_iadd FX.1 FX.2.1 dX4_secondsOf_17 ?_
  exact hret _ _ rfl (congrArg (fun z => z) (Option.some.inj hf)) rfl hw dX4_secondsOf_18
abbrev rmX4_drops : Room := { frames := 0, cells := 0, slots := 0, locals := 0 }
set_option maxHeartbeats 4000000 in
theorem wX4_drops {l : Launch} {G : GT} {M C : FS} {K : KT} {a : Nat} {p1 : Int32} {t : KT} (hf : fX4_drops K a p1 = some t) : CtV l yX4_drops (ws_ yX4_drops cX4_drops 3 none) rmX4_drops G [.ref a, .int p1] (M, C, K.1, K.2.1) (M, C, t.1, t.2.1) := by
  refine mkV (by decide) (Nat.le_of_ble_eq_true rfl) (fun p e s m a0 below meth c Q FX hw hname hret ls hl => ?_)
  have hl : lv_has ls 3 [(0, .ref a), (1, .int p1)] := hl
  unfold fX4_drops at hf
  refine lv_aload_n FX.1 FX.2.1 dX4_drops_0 rfl (lv_at hl 0 rfl) ?_
  refine lv_dup FX.1 FX.2.1 dX4_drops_1 rfl ?_
  refine bd hf (fun v1 h_v1 hf => ?_)
  refine gX4_51 FX hw h_v1 dX4_drops_2 ?_
  refine lv_iconst (v := 1) FX.1 FX.2.1 dX4_drops_5 (by decide) ?_
  refine lv_isub FX.1 FX.2.1 dX4_drops_6 ?_
  refine bd hf (fun K2 h_K2 hf => ?_)
  refine sX4_51 FX hw h_K2 dX4_drops_7 (fun H locs hw => ?_)
  refine lv_iload_n FX.1 FX.2.1 dX4_drops_10 rfl (lv_at hl 1 rfl) ?_
  refine lv_istore_n (lv' := [(2, .int p1), (0, .ref a), (1, .int p1)]) FX.1 FX.2.1 dX4_drops_11 rfl hl (by decide) rfl (fun ls hl => ?_)
  refine bd hf (fun u12 ht hf => ?_)
  obtain ⟨n, hn⟩ := lp_iff.mp ht
  have hX12 : ∀ (Kt12 : KT) (H : Heap) (locs : List Loc) (ls : Array Slot) , Kt12 = u12 → WS G (M, C, Kt12.1, Kt12.2.1) s H locs → lv_has ls 3 [] → W p l e rmX4_drops s m a0 below meth c H locs 0 0 Q (F0 m 40 ls []) := by
    intro Kt12 H locs ls he hw hl
    subst he
    exact hret _ (congrArg (fun z => (M, C, z.1, z.2.1)) (Option.some.inj hf)) hw dX4_drops_40
  have hL12 : ∀ (n : Nat) (z12_2 : Int32) (Kz12 : KT) (H : Heap) (locs : List Loc) (ls : Array Slot) , lpN (fun z => fX4_drops_L12 a z.1 z.2) n (z12_2, Kz12) = some u12 → WS G (M, C, Kz12.1, Kz12.2.1) s H locs → lv_has ls 3 [(0, .ref a), (2, .int z12_2)] → W p l e rmX4_drops s m a0 below meth c H locs 0 0 Q (F0 m 12 ls []) := by
    intro n
    induction n with
    | zero => intro z12_2 Kz12 H locs ls hz; cases hz
    | succ n ih =>
      intro z12_2 Kz12 H locs ls hz hw hl
      refine bd (show (fX4_drops_L12 a z12_2 Kz12).bind _ = some u12 from hz) (fun x12 hf hk12 => ?_)
      unfold fX4_drops_L12 at hf
      refine lv_iload_n FX.1 FX.2.1 dX4_drops_12 rfl (lv_at hl 1 rfl) ?_
      refine lv_aload_n FX.1 FX.2.1 dX4_drops_13 rfl (lv_at hl 0 rfl) ?_
      refine bd hf (fun v3 h_v3 hf => ?_)
      refine gX4_51 FX hw h_v3 dX4_drops_14 ?_
      refine lv_icmp_ge (tgt := 40) FX.1 FX.2.1 dX4_drops_17 (by decide) (fun c_17 => ?_) (fun c_17 => ?_)
      · have hf := it_pos c_17 hf
        exact hX12 _ _ _ _ (lpe hf hk12) hw (lv_sub hl [] rfl)
      · have hf := it_neg c_17 hf
        refine lv_aload_n FX.1 FX.2.1 dX4_drops_20 rfl (lv_at hl 0 rfl) ?_
        refine bd hf (fun a4 h_a4 hf => ?_)
        refine gX4_19 FX hw h_a4 dX4_drops_21 ?_
        refine lv_iload_n FX.1 FX.2.1 dX4_drops_24 rfl (lv_at hl 1 rfl) ?_
        refine lv_aload_n FX.1 FX.2.1 dX4_drops_25 rfl (lv_at hl 0 rfl) ?_
        refine bd hf (fun a5 h_a5 hf => ?_)
        refine gX4_19 FX hw h_a5 dX4_drops_26 ?_
        refine lv_iload_n FX.1 FX.2.1 dX4_drops_29 rfl (lv_at hl 1 rfl) ?_
        refine lv_iconst (v := 1) FX.1 FX.2.1 dX4_drops_30 (by decide) ?_
        refine lv_iadd FX.1 FX.2.1 dX4_drops_31 ?_
        refine bd hf (fun a6 h_a6 hf => ?_)
        refine ei_aald 4 rfl FX hw h_a6 dX4_drops_32 ?_
        refine bd hf (fun K7 h_K7 hf => ?_)
        refine ei_rast FX hw h_K7 dX4_drops_33 (fun H locs hw => ?_)
        refine lv_iinc (v := (z12_2 + 1)) (lv' := [(2, .int (z12_2 + 1)), (0, .ref a)]) FX.1 FX.2.1 dX4_drops_34 hl (k := 1) rfl (congrArg (fun q : Int32 => z12_2 + q) (by decide : Int32.ofInt 1 = 1)) (by decide) rfl (fun ls hl => ?_)
        refine lv_goto (tgt := 12) FX.1 FX.2.1 dX4_drops_37 (by decide) ?_
        exact ih _ _ _ _ _ (lpc hf hk12) hw (lv_sub hl [1, 0] rfl)
  exact hL12 n _ _ _ _ _ hn hw (lv_sub hl [1, 0] rfl)
abbrev rmX4_follows : Room := { frames := 7, cells := 0, slots := 0, locals := 424 }
set_option maxHeartbeats 4000000 in
theorem wX4_follows {l : Launch} {G : GT} {M C : FS} {K : KT} {a : Nat} {p1 : Int32} {p2 : Int32} {t : (Int32 × KT)} (hf : fX4_follows K a p1 p2 = some t) : CtI l yX4_follows (ws_ yX4_follows cX4_follows 5 (some .int)) rmX4_follows G [.ref a, .int p1, .int p2] (M, C, K.1, K.2.1) t.1 (M, C, t.2.1, t.2.2.1) := by
  refine mkI (ty := .int) (by decide) (Nat.le_of_ble_eq_true rfl) (fun p e s m a0 below meth c Q FX hw hname hret ls hl => ?_)
  have hl : lv_has ls 5 [(0, .ref a), (1, .int p1), (2, .int p2)] := hl
  unfold fX4_follows at hf
  refine lv_aload_n FX.1 FX.2.1 dX4_follows_0 rfl (lv_at hl 0 rfl) ?_
  refine lv_iload_n FX.1 FX.2.1 dX4_follows_1 rfl (lv_at hl 1 rfl) ?_
  refine lv_iload_n FX.1 FX.2.1 dX4_follows_2 rfl (lv_at hl 2 rfl) ?_
  have hK17 : ∀ (y2_17 : Int32) (H : Heap) (locs : List Loc) (ls : Array Slot) , fX4_follows_J17 K a p1 y2_17 = some t → WS G (M, C, K.1, K.2.1) s H locs → lv_has ls 5 [(0, .ref a), (1, .int p1)] → W p l e rmX4_follows s m a0 below meth c H locs 0 0 Q (F0 m 17 ls [.int y2_17, .int p1, .ref a]) := by
    intro y2_17 H locs ls hf hw hl
    unfold fX4_follows_J17 at hf
    refine bd hf (fun g1 h_g1 hf => ?_)
    refine bd hf (fun t2 h_t2 hf => ?_)
    obtain ⟨fs_g1, he_g1⟩ := dC_some (gC_some h_g1)
    refine clV_i0 (As := [.int p1, .int y2_17]) (rest := []) FX hw (wX4_along h_t2) (cwV 2 FX.2.2.2.2 (lw_V q1127 q1087 q1088 q141 q1089) rfl rfl rfl (by decide +kernel) ⟨Nat.le_of_ble_eq_true rfl, Nat.le_of_ble_eq_true rfl⟩) (dyn_he hw he_g1) rfl rfl hl.1 rfl (lv_room (Nat.le_of_ble_eq_true rfl)) dX4_follows_17 ⟨rfl, rfl⟩ ⟨Nat.zero_le _, Nat.zero_le _⟩ (fun H locs hw => ?_)
    refine lv_istore_n (lv' := [(3, .int t2), (0, .ref a), (1, .int p1)]) FX.1 FX.2.1 dX4_follows_20 rfl hl (by decide) rfl (fun ls hl => ?_)
    refine lv_aload_n FX.1 FX.2.1 dX4_follows_21 rfl (lv_at hl 1 rfl) ?_
    refine lv_aload_n FX.1 FX.2.1 dX4_follows_22 rfl (lv_at hl 1 rfl) ?_
    refine bd hf (fun a3 h_a3 hf => ?_)
    refine gX4_19 FX hw h_a3 dX4_follows_23 ?_
    refine lv_iload_n FX.1 FX.2.1 dX4_follows_26 rfl (lv_at hl 0 rfl) ?_
    refine bd hf (fun a4 h_a4 hf => ?_)
    refine ei_aald 4 rfl FX hw h_a4 dX4_follows_27 ?_
    refine lv_iload_n FX.1 FX.2.1 dX4_follows_28 rfl (lv_at hl 2 rfl) ?_
    refine bd hf (fun g5 h_g5 hf => ?_)
    refine bd hf (fun t6 h_t6 hf => ?_)
    obtain ⟨fs_g5, he_g5⟩ := dC_some (gC_some h_g5)
    refine clV_i0 (As := [.ref a4, .int p1]) (rest := []) FX hw (wX4_secondsOf h_t6) (cwV 2 FX.2.2.2.2 (lw_V q1128 q1129 q1130 q141 q1131) rfl rfl rfl (by decide +kernel) ⟨Nat.le_of_ble_eq_true rfl, Nat.le_of_ble_eq_true rfl⟩) (dyn_he hw he_g5) rfl rfl hl.1 rfl (lv_room (Nat.le_of_ble_eq_true rfl)) dX4_follows_29 ⟨rfl, rfl⟩ ⟨Nat.zero_le _, Nat.zero_le _⟩ (fun H locs hw => ?_)
    refine lv_istore (lv' := [(4, .int t6), (3, .int t2), (0, .ref a), (1, .int p1)]) FX.1 FX.2.1 dX4_follows_32 hl (by decide) rfl (fun ls hl => ?_)
    refine lv_aload_n FX.1 FX.2.1 dX4_follows_34 rfl (lv_at hl 2 rfl) ?_
    refine lv_iload_n FX.1 FX.2.1 dX4_follows_35 rfl (lv_at hl 1 rfl) ?_
    refine bd hf (fun g7 h_g7 hf => ?_)
    refine bd hf (fun t8 h_t8 hf => ?_)
    obtain ⟨fs_g7, he_g7⟩ := dC_some (gC_some h_g7)
    refine clV_v0 (As := [.int t2]) (rest := []) FX hw (wX4_drops h_t8) (cwV 1 FX.2.2.2.2 (lw_V q1157 q1158 q1159 q141 q1160) rfl rfl rfl (by decide +kernel) ⟨Nat.le_of_ble_eq_true rfl, Nat.le_of_ble_eq_true rfl⟩) (dyn_he hw he_g7) rfl rfl hl.1 rfl (lv_room (Nat.le_of_ble_eq_true rfl)) dX4_follows_36 ⟨rfl, rfl⟩ ⟨Nat.zero_le _, Nat.zero_le _⟩ (fun H locs hw => ?_)
    refine lv_aload_n FX.1 FX.2.1 dX4_follows_39 rfl (lv_at hl 2 rfl) ?_
    refine lv_dup FX.1 FX.2.1 dX4_follows_40 rfl ?_
    refine bd hf (fun v9 h_v9 hf => ?_)
    refine gX4_57 FX hw h_v9 dX4_follows_41 ?_
    refine lv_iload FX.1 FX.2.1 dX4_follows_44 (lv_at hl 0 rfl) ?_
    refine lv_iadd FX.1 FX.2.1 dX4_follows_46 ?_
    refine bd hf (fun K10 h_K10 hf => ?_)
    refine sX4_57 FX hw h_K10 dX4_follows_47 (fun H locs hw => ?_)
    refine lv_iload FX.1 FX.2.1 dX4_follows_50 (lv_at hl 0 rfl) ?_
    exact hret _ _ rfl (congrArg (fun z => z.1) (Option.some.inj hf)) (congrArg (fun z => (M, C, z.2.1, z.2.2.1)) (Option.some.inj hf)) hw dX4_follows_52
  refine lv_if_ne (tgt := 10) FX.1 FX.2.1 dX4_follows_3 (by decide) (fun c_3 => ?_) (fun c_3 => ?_)
  · have hf := it_neg c_3 hf
    refine lv_aload_n FX.1 FX.2.1 dX4_follows_10 rfl (lv_at hl 0 rfl) ?_
    refine lv_iload_n FX.1 FX.2.1 dX4_follows_11 rfl (lv_at hl 1 rfl) ?_
    refine bd hf (fun g11 h_g11 hf => ?_)
    refine bd hf (fun t12 h_t12 hf => ?_)
    obtain ⟨fs_g11, he_g11⟩ := dC_some (gC_some h_g11)
    refine clV_i0 (As := [.int p1]) (rest := [.int p1, .ref a]) FX hw (wX4_crossings h_t12) (cwV 1 FX.2.2.2.2 (lw_V q1126 q1042 q1043 q141 q1044) rfl rfl rfl (by decide +kernel) ⟨Nat.le_of_ble_eq_true rfl, Nat.le_of_ble_eq_true rfl⟩) (dyn_he hw he_g11) rfl rfl hl.1 rfl (lv_room (Nat.le_of_ble_eq_true rfl)) dX4_follows_12 ⟨rfl, rfl⟩ ⟨Nat.zero_le _, Nat.zero_le _⟩ (fun H locs hw => ?_)
    refine lv_iconst (v := 1) FX.1 FX.2.1 dX4_follows_15 (by decide) ?_
    refine lv_isub FX.1 FX.2.1 dX4_follows_16 ?_
    exact hK17 _ _ _ _ hf hw (lv_sub hl [0, 1] rfl)
  · have hf := it_pos c_3 hf
    refine lv_iconst (v := 0) FX.1 FX.2.1 dX4_follows_6 (by decide) ?_
    refine lv_goto (tgt := 17) FX.1 FX.2.1 dX4_follows_7 (by decide) ?_
    exact hK17 _ _ _ _ hf hw (lv_sub hl [0, 1] rfl)
abbrev rmX0_follow : Room := { frames := 8, cells := 0, slots := 0, locals := 448 }
set_option maxHeartbeats 4000000 in
theorem wX0_follow {l : Launch} {G : GT} {M C : FS} {K : KT} {p1 : Int32} {p2 : Int32} {t : (Int32 × FS × KT)} (hf : fX0_follow C K p1 p2 = some t) : CtI l yX0_follow (ws_ yX0_follow cX0_follow 3 (some .int)) rmX0_follow G [.ref (G.2.2.2 131), .int p1, .int p2] (M, C, K.1, K.2.1) t.1 (M, t.2.1, t.2.2.1, t.2.2.2.1) := by
  refine mkI (ty := .int) (by decide) (Nat.le_of_ble_eq_true rfl) (fun p e s m a0 below meth c Q FX hw hname hret ls hl => ?_)
  have hl : lv_has ls 3 [(0, .ref (G.2.2.2 131)), (1, .int p1), (2, .int p2)] := hl
  unfold fX0_follow at hf
  refine lv_aload_n FX.1 FX.2.1 dX0_follow_0 rfl (lv_at hl 0 rfl) ?_
  refine lv_iload_n FX.1 FX.2.1 dX0_follow_1 rfl (lv_at hl 1 rfl) ?_
  refine bd hf (fun t1 h_t1 hf => ?_)
  refine clV_i0 (As := [.int p1]) (rest := []) FX hw (wX0_isLead h_t1) (cwV 1 FX.2.2.2.2 (lw_V q1037 q1039 qs20 q134 q1040) rfl rfl rfl (by decide +kernel) ⟨Nat.le_of_ble_eq_true rfl, Nat.le_of_ble_eq_true rfl⟩) (fx_obj hw (o := (131, 0, 100, 31)) (by decide)) rfl rfl hl.1 rfl (lv_room (Nat.le_of_ble_eq_true rfl)) dX0_follow_2 ⟨rfl, rfl⟩ ⟨Nat.zero_le _, Nat.zero_le _⟩ (fun H locs hw => ?_)
  refine lv_if_ne (tgt := 14) FX.1 FX.2.1 dX0_follow_5 (by decide) (fun c_5 => ?_) (fun c_5 => ?_)
  · have hf := it_neg c_5 hf
    refine lv_iload_n FX.1 FX.2.1 dX0_follow_14 rfl (lv_at hl 2 rfl) ?_
    refine lv_i2l (v := p2.toInt64) FX.1 FX.2.1 dX0_follow_15 rfl ?_
    refine lv_lconst (v := 0) FX.1 FX.2.1 dX0_follow_16 (by decide) ?_
    refine lv_lconst (v := 1) FX.1 FX.2.1 dX0_follow_17 (by decide) ?_
    refine bd hf (fun t2 h_t2 hf => ?_)
    refine clS_i0 (As := [.long p2.toInt64, .long 0, .long 1]) (rest := []) FX hw (wX0_isFrom h_t2) (va_cwS 3 FX.2.2.2.2 (lw_S q1119 q1120 q134 q1121) rfl rfl rfl (by decide +kernel) ⟨Nat.le_of_ble_eq_true rfl, Nat.le_of_ble_eq_true rfl⟩) rfl hl.1 rfl (lv_room (Nat.le_of_ble_eq_true rfl)) dX0_follow_18 ⟨rfl, rfl⟩ ⟨Nat.zero_le _, Nat.zero_le _⟩ (fun H locs hw => ?_)
    refine lv_if_ne (tgt := 30) FX.1 FX.2.1 dX0_follow_21 (by decide) (fun c_21 => ?_) (fun c_21 => ?_)
    · have hf := it_neg c_21 hf
      refine lv_aload_n FX.1 FX.2.1 dX0_follow_30 rfl (lv_at hl 0 rfl) ?_
      refine gX0_38 FX hw dX0_follow_31 ?_
      refine bd hf (fun a3 h_a3 hf => ?_)
      rw [show va_rf (C.2.2.1 103) = .ref a3 from congrArg va_rf h_a3]
      refine bd hf (fun a4 h_a4 hf => ?_)
      refine gX0_161 FX hw h_a4 dX0_follow_34 ?_
      refine lv_iload_n FX.1 FX.2.1 dX0_follow_37 rfl (lv_at hl 1 rfl) ?_
      refine bd hf (fun a5 h_a5 hf => ?_)
      refine ei_aald 5 rfl FX hw h_a5 dX0_follow_38 ?_
      refine bd hf (fun v6 h_v6 hf => ?_)
      refine gX0_165 FX hw h_v6 dX0_follow_39 ?_
      refine lv_if_eq (tgt := 52) FX.1 FX.2.1 dX0_follow_42 (by decide) (fun c_42 => ?_) (fun c_42 => ?_)
      · have hf := it_pos c_42 hf
        refine lv_aload_n FX.1 FX.2.1 dX0_follow_52 rfl (lv_at hl 0 rfl) ?_
        refine gX0_38 FX hw dX0_follow_53 ?_
        refine bd hf (fun a7 h_a7 hf => ?_)
        rw [show va_rf (C.2.2.1 103) = .ref a7 from congrArg va_rf h_a7]
        refine lv_iload_n FX.1 FX.2.1 dX0_follow_56 rfl (lv_at hl 1 rfl) ?_
        refine bd hf (fun g8 h_g8 hf => ?_)
        refine bd hf (fun t9 h_t9 hf => ?_)
        obtain ⟨fs_g8, he_g8⟩ := dC_some (gC_some h_g8)
        refine clV_i0 (As := [.int p1]) (rest := []) FX hw (wX4_crossings h_t9) (cwV 1 FX.2.2.2.2 (lw_V q1041 q1042 q1043 q141 q1044) rfl rfl rfl (by decide +kernel) ⟨Nat.le_of_ble_eq_true rfl, Nat.le_of_ble_eq_true rfl⟩) (dyn_he hw he_g8) rfl rfl hl.1 rfl (lv_room (Nat.le_of_ble_eq_true rfl)) dX0_follow_57 ⟨rfl, rfl⟩ ⟨Nat.zero_le _, Nat.zero_le _⟩ (fun H locs hw => ?_)
        refine lv_if_ne (tgt := 72) FX.1 FX.2.1 dX0_follow_60 (by decide) (fun c_60 => ?_) (fun c_60 => ?_)
        · have hf := it_neg c_60 hf
          refine lv_aload_n FX.1 FX.2.1 dX0_follow_72 rfl (lv_at hl 0 rfl) ?_
          refine lv_aload_n FX.1 FX.2.1 dX0_follow_73 rfl (lv_at hl 0 rfl) ?_
          refine gX0_38 FX hw dX0_follow_74 ?_
          refine bd hf (fun a10 h_a10 hf => ?_)
          rw [show va_rf (C.2.2.1 103) = .ref a10 from congrArg va_rf h_a10]
          refine lv_iload_n FX.1 FX.2.1 dX0_follow_77 rfl (lv_at hl 1 rfl) ?_
          refine lv_iload_n FX.1 FX.2.1 dX0_follow_78 rfl (lv_at hl 2 rfl) ?_
          refine bd hf (fun g11 h_g11 hf => ?_)
          refine bd hf (fun t12 h_t12 hf => ?_)
          obtain ⟨fs_g11, he_g11⟩ := dC_some (gC_some h_g11)
          refine clV_i0 (As := [.int p1, .int p2]) (rest := [.ref (G.2.2.2 131)]) FX hw (wX4_follows h_t12) (cwV 2 FX.2.2.2.2 (lw_V q1122 q1123 q1124 q141 q1125) rfl rfl rfl (by decide +kernel) ⟨Nat.le_of_ble_eq_true rfl, Nat.le_of_ble_eq_true rfl⟩) (dyn_he hw he_g11) rfl rfl hl.1 rfl (lv_room (Nat.le_of_ble_eq_true rfl)) dX0_follow_79 ⟨rfl, rfl⟩ ⟨Nat.zero_le _, Nat.zero_le _⟩ (fun H locs hw => ?_)
          refine bd hf (fun t13 h_t13 hf => ?_)
          refine clV_i0 (As := [.int t12.1]) (rest := []) FX hw (wX0_gives h_t13) (cwV 1 FX.2.2.2.2 (lw_V q962 q964 qs16 q134 q965) rfl rfl rfl (by decide +kernel) ⟨Nat.le_of_ble_eq_true rfl, Nat.le_of_ble_eq_true rfl⟩) (fx_obj hw (o := (131, 0, 100, 31)) (by decide)) rfl rfl hl.1 rfl (lv_room (Nat.le_of_ble_eq_true rfl)) dX0_follow_82 ⟨rfl, rfl⟩ ⟨Nat.zero_le _, Nat.zero_le _⟩ (fun H locs hw => ?_)
          exact hret _ _ rfl (congrArg (fun z => z.1) (Option.some.inj hf)) (congrArg (fun z => (M, z.2.1, z.2.2.1, z.2.2.2.1)) (Option.some.inj hf)) hw dX0_follow_85
        · have hf := it_pos c_60 hf
          refine lv_aload_n FX.1 FX.2.1 dX0_follow_63 rfl (lv_at hl 0 rfl) ?_
          refine lv_bipush (v := 8) FX.1 FX.2.1 dX0_follow_64 (by decide) ?_
          refine bd hf (fun t14 h_t14 hf => ?_)
          refine clV_i0 (As := [.int 8]) (rest := []) FX hw (wX0_none h_t14) (cwV 1 FX.2.2.2.2 (lw_V q620 q622 qs3 q134 q623) rfl rfl rfl (by decide +kernel) ⟨Nat.le_of_ble_eq_true rfl, Nat.le_of_ble_eq_true rfl⟩) (fx_obj hw (o := (131, 0, 100, 31)) (by decide)) rfl rfl hl.1 rfl (lv_room (Nat.le_of_ble_eq_true rfl)) dX0_follow_66 ⟨rfl, rfl⟩ ⟨Nat.zero_le _, Nat.zero_le _⟩ (fun H locs hw => ?_)
          refine lv_goto (tgt := 85) FX.1 FX.2.1 dX0_follow_69 (by decide) ?_
          exact hret _ _ rfl (congrArg (fun z => z.1) (Option.some.inj hf)) (congrArg (fun z => (M, z.2.1, z.2.2.1, z.2.2.2.1)) (Option.some.inj hf)) hw dX0_follow_85
      · have hf := it_neg c_42 hf
        refine lv_aload_n FX.1 FX.2.1 dX0_follow_45 rfl (lv_at hl 0 rfl) ?_
        refine lv_bipush (v := 9) FX.1 FX.2.1 dX0_follow_46 (by decide) ?_
        refine bd hf (fun t15 h_t15 hf => ?_)
        refine clV_i0 (As := [.int 9]) (rest := []) FX hw (wX0_none h_t15) (cwV 1 FX.2.2.2.2 (lw_V q620 q622 qs3 q134 q623) rfl rfl rfl (by decide +kernel) ⟨Nat.le_of_ble_eq_true rfl, Nat.le_of_ble_eq_true rfl⟩) (fx_obj hw (o := (131, 0, 100, 31)) (by decide)) rfl rfl hl.1 rfl (lv_room (Nat.le_of_ble_eq_true rfl)) dX0_follow_48 ⟨rfl, rfl⟩ ⟨Nat.zero_le _, Nat.zero_le _⟩ (fun H locs hw => ?_)
        exact hret _ _ rfl (congrArg (fun z => z.1) (Option.some.inj hf)) (congrArg (fun z => (M, z.2.1, z.2.2.1, z.2.2.2.1)) (Option.some.inj hf)) hw dX0_follow_51
    · have hf := it_pos c_21 hf
      refine lv_aload_n FX.1 FX.2.1 dX0_follow_24 rfl (lv_at hl 0 rfl) ?_
      refine lv_iconst (v := 5) FX.1 FX.2.1 dX0_follow_25 (by decide) ?_
      refine bd hf (fun t16 h_t16 hf => ?_)
      refine clV_i0 (As := [.int 5]) (rest := []) FX hw (wX0_none h_t16) (cwV 1 FX.2.2.2.2 (lw_V q620 q622 qs3 q134 q623) rfl rfl rfl (by decide +kernel) ⟨Nat.le_of_ble_eq_true rfl, Nat.le_of_ble_eq_true rfl⟩) (fx_obj hw (o := (131, 0, 100, 31)) (by decide)) rfl rfl hl.1 rfl (lv_room (Nat.le_of_ble_eq_true rfl)) dX0_follow_26 ⟨rfl, rfl⟩ ⟨Nat.zero_le _, Nat.zero_le _⟩ (fun H locs hw => ?_)
      exact hret _ _ rfl (congrArg (fun z => z.1) (Option.some.inj hf)) (congrArg (fun z => (M, z.2.1, z.2.2.1, z.2.2.2.1)) (Option.some.inj hf)) hw dX0_follow_29
  · have hf := it_pos c_5 hf
    refine lv_aload_n FX.1 FX.2.1 dX0_follow_8 rfl (lv_at hl 0 rfl) ?_
    refine lv_iconst (v := 2) FX.1 FX.2.1 dX0_follow_9 (by decide) ?_
    refine bd hf (fun t17 h_t17 hf => ?_)
    refine clV_i0 (As := [.int 2]) (rest := []) FX hw (wX0_none h_t17) (cwV 1 FX.2.2.2.2 (lw_V q620 q622 qs3 q134 q623) rfl rfl rfl (by decide +kernel) ⟨Nat.le_of_ble_eq_true rfl, Nat.le_of_ble_eq_true rfl⟩) (fx_obj hw (o := (131, 0, 100, 31)) (by decide)) rfl rfl hl.1 rfl (lv_room (Nat.le_of_ble_eq_true rfl)) dX0_follow_10 ⟨rfl, rfl⟩ ⟨Nat.zero_le _, Nat.zero_le _⟩ (fun H locs hw => ?_)
    exact hret _ _ rfl (congrArg (fun z => z.1) (Option.some.inj hf)) (congrArg (fun z => (M, z.2.1, z.2.2.1, z.2.2.2.1)) (Option.some.inj hf)) hw dX0_follow_13
abbrev rmX9_init : Room := { frames := 2, cells := 0, slots := 0, locals := 82 }
set_option maxHeartbeats 4000000 in
theorem wX9_init {l : Launch} {G : GT} {M C : FS} {K : KT} {a : Nat} {p1 : Int32} {p2 : Int32} {t : KT} (hf : fX9_init K a p1 p2 = some t) : CtV l yX9_init (ws_ yX9_init cX9_init 3 none) rmX9_init G [.ref a, .int p1, .int p2] (M, C, K.1, K.2.1) (M, C, t.1, t.2.1) := by
  refine mkV (by decide) (Nat.le_of_ble_eq_true rfl) (fun p e s m a0 below meth c Q FX hw hname hret ls hl => ?_)
  have hl : lv_has ls 3 [(0, .ref a), (1, .int p1), (2, .int p2)] := hl
  unfold fX9_init at hf
  refine lv_aload_n FX.1 FX.2.1 dX9_init_0 rfl (lv_at hl 0 rfl) ?_
  refine lv_iload_n FX.1 FX.2.1 dX9_init_1 rfl (lv_at hl 1 rfl) ?_
  refine lv_iload_n FX.1 FX.2.1 dX9_init_2 rfl (lv_at hl 2 rfl) ?_
  refine bd hf (fun t1 h_t1 hf => ?_)
  refine clI_v0 (As := [.int p1, .int p2]) (rest := []) FX hw (wX8_init h_t1) (cwI 2 FX.2.2.2.2 (lw_meth q901) rfl rfl rfl (FX.2.2.2.2 _ q155) (FX.2.2.2.2 _ q899) (FX.2.2.2.2 _ q900) rfl (by decide +kernel) ⟨Nat.le_of_ble_eq_true rfl, Nat.le_of_ble_eq_true rfl⟩) rfl hl.1 rfl (lv_room (Nat.le_of_ble_eq_true rfl)) dX9_init_3 ⟨rfl, rfl⟩ ⟨Nat.zero_le _, Nat.zero_le _⟩ (fun H locs hw => ?_)
  exact hret _ (congrArg (fun z => (M, C, z.1, z.2.1)) (Option.some.inj hf)) hw dX9_init_6
abbrev rmX10_init : Room := { frames := 2, cells := 0, slots := 0, locals := 82 }
set_option maxHeartbeats 4000000 in
theorem wX10_init {l : Launch} {G : GT} {M C : FS} {K : KT} {a : Nat} {p1 : Int32} {p2 : Int32} {t : KT} (hf : fX10_init K a p1 p2 = some t) : CtV l yX10_init (ws_ yX10_init cX10_init 3 none) rmX10_init G [.ref a, .int p1, .int p2] (M, C, K.1, K.2.1) (M, C, t.1, t.2.1) := by
  refine mkV (by decide) (Nat.le_of_ble_eq_true rfl) (fun p e s m a0 below meth c Q FX hw hname hret ls hl => ?_)
  have hl : lv_has ls 3 [(0, .ref a), (1, .int p1), (2, .int p2)] := hl
  unfold fX10_init at hf
  refine lv_aload_n FX.1 FX.2.1 dX10_init_0 rfl (lv_at hl 0 rfl) ?_
  refine lv_iload_n FX.1 FX.2.1 dX10_init_1 rfl (lv_at hl 1 rfl) ?_
  refine lv_iload_n FX.1 FX.2.1 dX10_init_2 rfl (lv_at hl 2 rfl) ?_
  refine bd hf (fun t1 h_t1 hf => ?_)
  refine clI_v0 (As := [.int p1, .int p2]) (rest := []) FX hw (wX8_init h_t1) (cwI 2 FX.2.2.2.2 (lw_meth q901) rfl rfl rfl (FX.2.2.2.2 _ q155) (FX.2.2.2.2 _ q919) (FX.2.2.2.2 _ q900) rfl (by decide +kernel) ⟨Nat.le_of_ble_eq_true rfl, Nat.le_of_ble_eq_true rfl⟩) rfl hl.1 rfl (lv_room (Nat.le_of_ble_eq_true rfl)) dX10_init_3 ⟨rfl, rfl⟩ ⟨Nat.zero_le _, Nat.zero_le _⟩ (fun H locs hw => ?_)
  exact hret _ (congrArg (fun z => (M, C, z.1, z.2.1)) (Option.some.inj hf)) hw dX10_init_6
abbrev rmX11_init : Room := { frames := 3, cells := 0, slots := 0, locals := 104 }
set_option maxHeartbeats 4000000 in
theorem wX11_init {l : Launch} {G : GT} {M C : FS} {K : KT} {a : Nat} {p1 : Int32} {p2 : Int32} {t : KT} (hf : fX11_init K a p1 p2 = some t) : CtV l yX11_init (ws_ yX11_init cX11_init 3 none) rmX11_init G [.ref a, .int p1, .int p2] (M, C, K.1, K.2.1) (M, C, t.1, t.2.1) := by
  refine mkV (by decide) (Nat.le_of_ble_eq_true rfl) (fun p e s m a0 below meth c Q FX hw hname hret ls hl => ?_)
  have hl : lv_has ls 3 [(0, .ref a), (1, .int p1), (2, .int p2)] := hl
  unfold fX11_init at hf
  refine lv_aload_n FX.1 FX.2.1 dX11_init_0 rfl (lv_at hl 0 rfl) ?_
  refine lv_iload_n FX.1 FX.2.1 dX11_init_1 rfl (lv_at hl 1 rfl) ?_
  refine lv_iload_n FX.1 FX.2.1 dX11_init_2 rfl (lv_at hl 2 rfl) ?_
  refine bd hf (fun t1 h_t1 hf => ?_)
  refine clI_v0 (As := [.int p1, .int p2]) (rest := []) FX hw (wX10_init h_t1) (cwI 2 FX.2.2.2.2 (lw_meth q918) rfl rfl rfl (FX.2.2.2.2 _ q157) (FX.2.2.2.2 _ q928) (FX.2.2.2.2 _ q917) rfl (by decide +kernel) ⟨Nat.le_of_ble_eq_true rfl, Nat.le_of_ble_eq_true rfl⟩) rfl hl.1 rfl (lv_room (Nat.le_of_ble_eq_true rfl)) dX11_init_3 ⟨rfl, rfl⟩ ⟨Nat.zero_le _, Nat.zero_le _⟩ (fun H locs hw => ?_)
  exact hret _ (congrArg (fun z => (M, C, z.1, z.2.1)) (Option.some.inj hf)) hw dX11_init_6
abbrev rmX12_init : Room := { frames := 4, cells := 0, slots := 0, locals := 126 }
set_option maxHeartbeats 4000000 in
theorem wX12_init {l : Launch} {G : GT} {M C : FS} {K : KT} {a : Nat} {p1 : Int32} {p2 : Int32} {t : KT} (hf : fX12_init K a p1 p2 = some t) : CtV l yX12_init (ws_ yX12_init cX12_init 3 none) rmX12_init G [.ref a, .int p1, .int p2] (M, C, K.1, K.2.1) (M, C, t.1, t.2.1) := by
  refine mkV (by decide) (Nat.le_of_ble_eq_true rfl) (fun p e s m a0 below meth c Q FX hw hname hret ls hl => ?_)
  have hl : lv_has ls 3 [(0, .ref a), (1, .int p1), (2, .int p2)] := hl
  unfold fX12_init at hf
  refine lv_aload_n FX.1 FX.2.1 dX12_init_0 rfl (lv_at hl 0 rfl) ?_
  refine lv_iload_n FX.1 FX.2.1 dX12_init_1 rfl (lv_at hl 1 rfl) ?_
  refine lv_iload_n FX.1 FX.2.1 dX12_init_2 rfl (lv_at hl 2 rfl) ?_
  refine bd hf (fun t1 h_t1 hf => ?_)
  refine clI_v0 (As := [.int p1, .int p2]) (rest := []) FX hw (wX11_init h_t1) (cwI 2 FX.2.2.2.2 (lw_meth q927) rfl rfl rfl (FX.2.2.2.2 _ q158) (FX.2.2.2.2 _ q937) (FX.2.2.2.2 _ q926) rfl (by decide +kernel) ⟨Nat.le_of_ble_eq_true rfl, Nat.le_of_ble_eq_true rfl⟩) rfl hl.1 rfl (lv_room (Nat.le_of_ble_eq_true rfl)) dX12_init_3 ⟨rfl, rfl⟩ ⟨Nat.zero_le _, Nat.zero_le _⟩ (fun H locs hw => ?_)
  exact hret _ (congrArg (fun z => (M, C, z.1, z.2.1)) (Option.some.inj hf)) hw dX12_init_6
abbrev rmX8_of (K : KT) : Room := { frames := 5, cells := K.2.2.1, slots := K.2.2.2, locals := 148 }
set_option maxHeartbeats 4000000 in
theorem wX8_of {l : Launch} {G : GT} {M C : FS} {K : KT} {p1 : Int32} {p2 : Int32} {p3 : Int32} {t : (Nat × KT)} (hf : fX8_of K p1 p2 p3 = some t) : EtQ l yX8_of (ws_ yX8_of cX8_of 3 (some (.object "CableDrawer$Crossing"))) (rmX8_of K) G [.int p1, .int p2, .int p3] (M, C, K.1, K.2.1) (some t.1) (M, C, t.2.1, t.2.2.1) (K.2.2.1 - t.2.2.2.1) (K.2.2.2 - t.2.2.2.2) := by
  refine ekQ (by decide) (Nat.le_of_ble_eq_true rfl) (Or.inl ⟨_, rfl⟩) (fun p e s m a0 below meth c Q FX hw hname hret ls hl => ?_)
  have hl : lv_has ls 3 [(0, .int p1), (1, .int p2), (2, .int p3)] := hl
  unfold fX8_of at hf
  have hm : Cn K K 0 0 := Cn.rf
  refine lv_iload_n FX.1 FX.2.1 dX8_of_0 rfl (lv_at hl 2 rfl) ?_
  refine lv_if_ne (tgt := 16) FX.1 FX.2.1 dX8_of_1 (by decide) (fun c_1 => ?_) (fun c_1 => ?_)
  · have hf := it_neg c_1 hf
    refine lv_iload_n FX.1 FX.2.1 dX8_of_16 rfl (lv_at hl 2 rfl) ?_
    refine lv_iconst (v := 1) FX.1 FX.2.1 dX8_of_17 (by decide) ?_
    refine lv_icmp_ne (tgt := 33) FX.1 FX.2.1 dX8_of_18 (by decide) (fun c_18 => ?_) (fun c_18 => ?_)
    · have hf := it_neg c_18 hf
      refine lv_iload_n FX.1 FX.2.1 dX8_of_33 rfl (lv_at hl 2 rfl) ?_
      refine lv_iconst (v := 2) FX.1 FX.2.1 dX8_of_34 (by decide) ?_
      refine lv_icmp_ne (tgt := 50) FX.1 FX.2.1 dX8_of_35 (by decide) (fun c_35 => ?_) (fun c_35 => ?_)
      · have hf := it_neg c_35 hf
        refine bd hf (fun K1 h_K1 hf => ?_)
        refine nX8_27 FX hw h_K1 (hm.roomO h_K1) dX8_of_50 (fun H hw => ?_)
        have hm : Cn K K1 (0 + 1) (0 + 2) := hm.sO h_K1
        refine lv_dup FX.1 FX.2.1 dX8_of_53 rfl ?_
        refine lv_iload_n FX.1 FX.2.1 dX8_of_54 rfl (lv_at hl 0 rfl) ?_
        refine lv_iload_n FX.1 FX.2.1 dX8_of_55 rfl (lv_at hl 1 rfl) ?_
        refine bd hf (fun t2 h_t2 hf => ?_)
        refine bd hf (fun g3 h_g3 hf => ?_)
        refine clI_v0 (As := [.int p1, .int p2]) (rest := [.ref K.2.1]) FX hw (wX12_init h_t2) (cwI 2 FX.2.2.2.2 (lw_meth q936) rfl rfl rfl (FX.2.2.2.2 _ q159) (FX.2.2.2.2 _ q934) (FX.2.2.2.2 _ q935) rfl (by decide +kernel) ⟨Nat.le_of_ble_eq_true rfl, Nat.le_of_ble_eq_true rfl⟩) rfl hl.1 rfl (lv_room (Nat.le_of_ble_eq_true rfl)) dX8_of_56 ⟨rfl, rfl⟩ hm.le (fun H locs hw => ?_)
        have hm := hm.sG h_g3
        have hk : t2 = t.2 := congrArg (fun z => z.2) (Option.some.inj hf)
        have hm : Cn K t.2 (0 + 1) (0 + 2) := hk ▸ hm
        refine w_cast hm.end_.1 hm.end_.2 ?_
        exact hret (some K.2.1) _ (congrArg (fun z => some z.1) (Option.some.inj hf)) (congrArg (fun z => (M, C, z.2.1, z.2.2.1)) (Option.some.inj hf)) hw dX8_of_59
      · have hf := it_pos c_35 hf
        refine bd hf (fun K4 h_K4 hf => ?_)
        refine nX8_24 FX hw h_K4 (hm.roomO h_K4) dX8_of_38 (fun H hw => ?_)
        have hm : Cn K K4 (0 + 1) (0 + 2) := hm.sO h_K4
        refine lv_dup FX.1 FX.2.1 dX8_of_41 rfl ?_
        refine lv_iload_n FX.1 FX.2.1 dX8_of_42 rfl (lv_at hl 0 rfl) ?_
        refine lv_iload_n FX.1 FX.2.1 dX8_of_43 rfl (lv_at hl 1 rfl) ?_
        refine bd hf (fun t5 h_t5 hf => ?_)
        refine bd hf (fun g6 h_g6 hf => ?_)
        refine clI_v0 (As := [.int p1, .int p2]) (rest := [.ref K.2.1]) FX hw (wX11_init h_t5) (cwI 2 FX.2.2.2.2 (lw_meth q927) rfl rfl rfl (FX.2.2.2.2 _ q158) (FX.2.2.2.2 _ q925) (FX.2.2.2.2 _ q926) rfl (by decide +kernel) ⟨Nat.le_of_ble_eq_true rfl, Nat.le_of_ble_eq_true rfl⟩) rfl hl.1 rfl (lv_room (Nat.le_of_ble_eq_true rfl)) dX8_of_44 ⟨rfl, rfl⟩ hm.le (fun H locs hw => ?_)
        have hm := hm.sG h_g6
        refine lv_goto (tgt := 59) FX.1 FX.2.1 dX8_of_47 (by decide) ?_
        have hk : t5 = t.2 := congrArg (fun z => z.2) (Option.some.inj hf)
        have hm : Cn K t.2 (0 + 1) (0 + 2) := hk ▸ hm
        refine w_cast hm.end_.1 hm.end_.2 ?_
        exact hret (some K.2.1) _ (congrArg (fun z => some z.1) (Option.some.inj hf)) (congrArg (fun z => (M, C, z.2.1, z.2.2.1)) (Option.some.inj hf)) hw dX8_of_59
    · have hf := it_pos c_18 hf
      refine bd hf (fun K7 h_K7 hf => ?_)
      refine nX8_21 FX hw h_K7 (hm.roomO h_K7) dX8_of_21 (fun H hw => ?_)
      have hm : Cn K K7 (0 + 1) (0 + 2) := hm.sO h_K7
      refine lv_dup FX.1 FX.2.1 dX8_of_24 rfl ?_
      refine lv_iload_n FX.1 FX.2.1 dX8_of_25 rfl (lv_at hl 0 rfl) ?_
      refine lv_iload_n FX.1 FX.2.1 dX8_of_26 rfl (lv_at hl 1 rfl) ?_
      refine bd hf (fun t8 h_t8 hf => ?_)
      refine bd hf (fun g9 h_g9 hf => ?_)
      refine clI_v0 (As := [.int p1, .int p2]) (rest := [.ref K.2.1]) FX hw (wX10_init h_t8) (cwI 2 FX.2.2.2.2 (lw_meth q918) rfl rfl rfl (FX.2.2.2.2 _ q157) (FX.2.2.2.2 _ q916) (FX.2.2.2.2 _ q917) rfl (by decide +kernel) ⟨Nat.le_of_ble_eq_true rfl, Nat.le_of_ble_eq_true rfl⟩) rfl hl.1 rfl (lv_room (Nat.le_of_ble_eq_true rfl)) dX8_of_27 ⟨rfl, rfl⟩ hm.le (fun H locs hw => ?_)
      have hm := hm.sG h_g9
      refine lv_goto (tgt := 59) FX.1 FX.2.1 dX8_of_30 (by decide) ?_
      have hk : t8 = t.2 := congrArg (fun z => z.2) (Option.some.inj hf)
      have hm : Cn K t.2 (0 + 1) (0 + 2) := hk ▸ hm
      refine w_cast hm.end_.1 hm.end_.2 ?_
      exact hret (some K.2.1) _ (congrArg (fun z => some z.1) (Option.some.inj hf)) (congrArg (fun z => (M, C, z.2.1, z.2.2.1)) (Option.some.inj hf)) hw dX8_of_59
  · have hf := it_pos c_1 hf
    refine bd hf (fun K10 h_K10 hf => ?_)
    refine nX8_16 FX hw h_K10 (hm.roomO h_K10) dX8_of_4 (fun H hw => ?_)
    have hm : Cn K K10 (0 + 1) (0 + 2) := hm.sO h_K10
    refine lv_dup FX.1 FX.2.1 dX8_of_7 rfl ?_
    refine lv_iload_n FX.1 FX.2.1 dX8_of_8 rfl (lv_at hl 0 rfl) ?_
    refine lv_iload_n FX.1 FX.2.1 dX8_of_9 rfl (lv_at hl 1 rfl) ?_
    refine bd hf (fun t11 h_t11 hf => ?_)
    refine bd hf (fun g12 h_g12 hf => ?_)
    refine clI_v0 (As := [.int p1, .int p2]) (rest := [.ref K.2.1]) FX hw (wX9_init h_t11) (cwI 2 FX.2.2.2.2 (lw_meth q898) rfl rfl rfl (FX.2.2.2.2 _ q156) (FX.2.2.2.2 _ q896) (FX.2.2.2.2 _ q897) rfl (by decide +kernel) ⟨Nat.le_of_ble_eq_true rfl, Nat.le_of_ble_eq_true rfl⟩) rfl hl.1 rfl (lv_room (Nat.le_of_ble_eq_true rfl)) dX8_of_10 ⟨rfl, rfl⟩ hm.le (fun H locs hw => ?_)
    have hm := hm.sG h_g12
    refine lv_goto (tgt := 59) FX.1 FX.2.1 dX8_of_13 (by decide) ?_
    have hk : t11 = t.2 := congrArg (fun z => z.2) (Option.some.inj hf)
    have hm : Cn K t.2 (0 + 1) (0 + 2) := hk ▸ hm
    refine w_cast hm.end_.1 hm.end_.2 ?_
    exact hret (some K.2.1) _ (congrArg (fun z => some z.1) (Option.some.inj hf)) (congrArg (fun z => (M, C, z.2.1, z.2.2.1)) (Option.some.inj hf)) hw dX8_of_59
abbrev rmX4_adds (K : KT) : Room := { frames := 6, cells := K.2.2.1, slots := K.2.2.2, locals := 170 }
set_option maxHeartbeats 4000000 in
theorem wX4_adds {l : Launch} {G : GT} {M C : FS} {K : KT} {a : Nat} {p1 : Int32} {p2 : Int32} {p3 : Int32} {t : KT} (hf : fX4_adds K a p1 p2 p3 = some t) : EtV l yX4_adds (ws_ yX4_adds cX4_adds 5 none) (rmX4_adds K) G [.ref a, .int p1, .int p2, .int p3] (M, C, K.1, K.2.1) (M, C, t.1, t.2.1) (K.2.2.1 - t.2.2.1) (K.2.2.2 - t.2.2.2) := by
  refine ekV (by decide) (Nat.le_of_ble_eq_true rfl) (fun p e s m a0 below meth c Q FX hw hname hret ls hl => ?_)
  have hl : lv_has ls 5 [(0, .ref a), (1, .int p1), (2, .int p2), (3, .int p3)] := hl
  unfold fX4_adds at hf
  have hm : Cn K K 0 0 := Cn.rf
  refine lv_iconst (v := 4) FX.1 FX.2.1 dX4_adds_0 (by decide) ?_
  refine lv_bipush (v := 8) FX.1 FX.2.1 dX4_adds_1 (by decide) ?_
  refine lv_iload_n FX.1 FX.2.1 dX4_adds_3 rfl (lv_at hl 1 rfl) ?_
  refine lv_imul FX.1 FX.2.1 dX4_adds_4 ?_
  refine lv_iload_n FX.1 FX.2.1 dX4_adds_5 rfl (lv_at hl 2 rfl) ?_
  refine lv_iadd FX.1 FX.2.1 dX4_adds_6 ?_
  refine lv_imul FX.1 FX.2.1 dX4_adds_7 ?_
  refine lv_iload_n FX.1 FX.2.1 dX4_adds_8 rfl (lv_at hl 3 rfl) ?_
  refine lv_iadd FX.1 FX.2.1 dX4_adds_9 ?_
  refine lv_istore (lv' := [(4, .int ((4 * ((8 * p1) + p2)) + p3)), (0, .ref a), (1, .int p1), (2, .int p2), (3, .int p3)]) FX.1 FX.2.1 dX4_adds_10 hl (by decide) rfl (fun ls hl => ?_)
  refine lv_aload_n FX.1 FX.2.1 dX4_adds_12 rfl (lv_at hl 1 rfl) ?_
  refine bd hf (fun a1 h_a1 hf => ?_)
  refine gX4_31 FX hw h_a1 dX4_adds_13 ?_
  refine lv_iload FX.1 FX.2.1 dX4_adds_16 (lv_at hl 0 rfl) ?_
  refine bd hf (fun v2 h_v2 hf => ?_)
  refine ei_qald 4 rfl FX hw h_v2 dX4_adds_18 ?_
  have hK35 : ∀ (K_35 : KT) (H : Heap) (locs : List Loc) (ls : Array Slot) (nc ns : Nat) , fX4_adds_J35 a p1 p2 p3 K_35 = some t → Cn K K_35 nc ns → WS G (M, C, K_35.1, K_35.2.1) s H locs → lv_has ls 5 [(0, .ref a), (4, .int ((4 * ((8 * p1) + p2)) + p3))] → W p l e (rmX4_adds K) s m a0 below meth c H locs nc ns Q (F0 m 35 ls []) := by
    intro K_35 H locs ls nc ns hf hm hw hl
    unfold fX4_adds_J35 at hf
    refine lv_aload_n FX.1 FX.2.1 dX4_adds_35 rfl (lv_at hl 0 rfl) ?_
    refine bd hf (fun a3 h_a3 hf => ?_)
    refine gX4_19 FX hw h_a3 dX4_adds_36 ?_
    refine lv_aload_n FX.1 FX.2.1 dX4_adds_39 rfl (lv_at hl 0 rfl) ?_
    refine bd hf (fun v4 h_v4 hf => ?_)
    refine gX4_51 FX hw h_v4 dX4_adds_40 ?_
    refine lv_aload_n FX.1 FX.2.1 dX4_adds_43 rfl (lv_at hl 0 rfl) ?_
    refine bd hf (fun a5 h_a5 hf => ?_)
    refine gX4_31 FX hw h_a5 dX4_adds_44 ?_
    refine lv_iload FX.1 FX.2.1 dX4_adds_47 (lv_at hl 1 rfl) ?_
    refine bd hf (fun a6 h_a6 hf => ?_)
    refine ei_aald 4 rfl FX hw h_a6 dX4_adds_49 ?_
    refine bd hf (fun K7 h_K7 hf => ?_)
    refine ei_rast FX hw h_K7 dX4_adds_50 (fun H locs hw => ?_)
    have hm := hm.keep (ke_wR h_K7)
    refine lv_aload_n FX.1 FX.2.1 dX4_adds_51 rfl (lv_at hl 0 rfl) ?_
    refine lv_dup FX.1 FX.2.1 dX4_adds_52 rfl ?_
    refine bd hf (fun v8 h_v8 hf => ?_)
    refine gX4_51 FX hw h_v8 dX4_adds_53 ?_
    refine lv_iconst (v := 1) FX.1 FX.2.1 dX4_adds_56 (by decide) ?_
    refine lv_iadd FX.1 FX.2.1 dX4_adds_57 ?_
    refine bd hf (fun K9 h_K9 hf => ?_)
    refine sX4_51 FX hw h_K9 dX4_adds_58 (fun H locs hw => ?_)
    have hm := hm.keep (ke_uV h_K9)
    have hk : K9 = t := congrArg (fun z => z) (Option.some.inj hf)
    have hm : Cn K t nc ns := hk ▸ hm
    refine w_cast hm.end_.1 hm.end_.2 ?_
    exact hret _ (congrArg (fun z => (M, C, z.1, z.2.1)) (Option.some.inj hf)) hw dX4_adds_61
  refine lv_qnonnull (tgt := 35) FX.1 FX.2.1 dX4_adds_19 (by decide) (fun c_19 => ?_) (fun c_19 => ?_)
  · have hf := it_neg c_19 hf
    exact hK35 _ _ _ _ _ _ hf hm hw (lv_sub hl [1, 0] rfl)
  · have hf := it_pos c_19 hf
    refine lv_aload_n FX.1 FX.2.1 dX4_adds_22 rfl (lv_at hl 1 rfl) ?_
    refine bd hf (fun a10 h_a10 hf => ?_)
    refine gX4_31 FX hw h_a10 dX4_adds_23 ?_
    refine lv_iload FX.1 FX.2.1 dX4_adds_26 (lv_at hl 0 rfl) ?_
    refine lv_iload_n FX.1 FX.2.1 dX4_adds_28 rfl (lv_at hl 2 rfl) ?_
    refine lv_iload_n FX.1 FX.2.1 dX4_adds_29 rfl (lv_at hl 3 rfl) ?_
    refine lv_iload_n FX.1 FX.2.1 dX4_adds_30 rfl (lv_at hl 4 rfl) ?_
    refine bd hf (fun t11 h_t11 hf => ?_)
    refine bd hf (fun g12 h_g12 hf => ?_)
    refine xlS_q (As := [.int p1, .int p2, .int p3]) (rest := [.int ((4 * ((8 * p1) + p2)) + p3), .ref a10]) FX hw (wX8_of h_t11) (va_cwS 3 FX.2.2.2.2 (lw_S q891 q892 q155 q893) rfl rfl rfl (by decide +kernel) ⟨Nat.le_of_ble_eq_true rfl, Nat.le_of_ble_eq_true rfl⟩) rfl hl.1 rfl (lv_room (Nat.le_of_ble_eq_true rfl)) dX4_adds_31 hm.roomC (fun H locs hw => ?_)
    have hm := hm.sM h_g12
    refine bd hf (fun K13 h_K13 hf => ?_)
    refine ei_rast FX hw h_K13 dX4_adds_34 (fun H locs hw => ?_)
    have hm := hm.keep (ke_wR h_K13)
    exact hK35 _ _ _ _ _ _ hf hm hw (lv_sub hl [1, 0] rfl)
abbrev rmX4_stays (K : KT) : Room := { frames := 7, cells := K.2.2.1, slots := K.2.2.2, locals := 194 }
set_option maxHeartbeats 4000000 in
theorem wX4_stays {l : Launch} {G : GT} {M C : FS} {K : KT} {a : Nat} {p1 : Nat} {p2 : Int32} {t : KT} (hf : fX4_stays K a p1 p2 = some t) : EtV l yX4_stays (ws_ yX4_stays cX4_stays 3 none) (rmX4_stays K) G [.ref a, .ref p1, .int p2] (M, C, K.1, K.2.1) (M, C, t.1, t.2.1) (K.2.2.1 - t.2.2.1) (K.2.2.2 - t.2.2.2) := by
  refine ekV (by decide) (Nat.le_of_ble_eq_true rfl) (fun p e s m a0 below meth c Q FX hw hname hret ls hl => ?_)
  have hl : lv_has ls 3 [(0, .ref a), (1, .ref p1), (2, .int p2)] := hl
  unfold fX4_stays at hf
  have hm : Cn K K 0 0 := Cn.rf
  refine lv_iload_n FX.1 FX.2.1 dX4_stays_0 rfl (lv_at hl 2 rfl) ?_
  refine lv_iconst (v := (-1)) FX.1 FX.2.1 dX4_stays_1 (by decide) ?_
  refine lv_icmp_eq (tgt := 18) FX.1 FX.2.1 dX4_stays_2 (by decide) (fun c_2 => ?_) (fun c_2 => ?_)
  · have hf := it_pos c_2 hf
    have hk : K = t := congrArg (fun z => z) (Option.some.inj hf)
    have hm : Cn K t 0 0 := hk ▸ hm
    refine w_cast hm.end_.1 hm.end_.2 ?_
    exact hret _ (congrArg (fun z => (M, C, z.1, z.2.1)) (Option.some.inj hf)) hw dX4_stays_18
  · have hf := it_neg c_2 hf
    refine lv_aload_n FX.1 FX.2.1 dX4_stays_5 rfl (lv_at hl 0 rfl) ?_
    refine lv_aload_n FX.1 FX.2.1 dX4_stays_6 rfl (lv_at hl 1 rfl) ?_
    refine bd hf (fun v1 h_v1 hf => ?_)
    refine gX4_78 FX hw h_v1 dX4_stays_7 ?_
    refine lv_aload_n FX.1 FX.2.1 dX4_stays_10 rfl (lv_at hl 1 rfl) ?_
    refine bd hf (fun v2 h_v2 hf => ?_)
    refine gX4_81 FX hw h_v2 dX4_stays_11 ?_
    refine lv_iload_n FX.1 FX.2.1 dX4_stays_14 rfl (lv_at hl 2 rfl) ?_
    refine bd hf (fun g3 h_g3 hf => ?_)
    refine bd hf (fun t4 h_t4 hf => ?_)
    refine bd hf (fun g5 h_g5 hf => ?_)
    obtain ⟨fs_g3, he_g3⟩ := dC_some (gC_some h_g3)
    refine xlV_v (As := [.int v1, .int v2, .int p2]) (rest := []) FX hw (wX4_adds h_t4) (cwV 3 FX.2.2.2.2 (lw_V q1188 q888 q889 q141 q890) rfl rfl rfl (by decide +kernel) ⟨Nat.le_of_ble_eq_true rfl, Nat.le_of_ble_eq_true rfl⟩) (dyn_he hw he_g3) rfl rfl hl.1 rfl (lv_room (Nat.le_of_ble_eq_true rfl)) dX4_stays_15 hm.roomC (fun H locs hw => ?_)
    have hm := hm.sM h_g5
    have hk : t4 = t := congrArg (fun z => z) (Option.some.inj hf)
    have hm : Cn K t (0 + (K.2.2.1 - t4.2.2.1)) (0 + (K.2.2.2 - t4.2.2.2)) := hk ▸ hm
    refine w_cast hm.end_.1 hm.end_.2 ?_
    exact hret _ (congrArg (fun z => (M, C, z.1, z.2.1)) (Option.some.inj hf)) hw dX4_stays_18
abbrev rmX4_loosens (K : KT) : Room := { frames := 8, cells := K.2.2.1, slots := K.2.2.2, locals := 400 }
set_option maxHeartbeats 4000000 in
theorem wX4_loosens {l : Launch} {G : GT} {M C : FS} {K : KT} {a : Nat} {t : (Int32 × KT)} (hf : fX4_loosens K a = some t) : EtI l yX4_loosens (ws_ yX4_loosens cX4_loosens 3 (some .int)) (rmX4_loosens K) G [.ref a] (M, C, K.1, K.2.1) t.1 (M, C, t.2.1, t.2.2.1) (K.2.2.1 - t.2.2.2.1) (K.2.2.2 - t.2.2.2.2) := by
  refine ekI (ty := .int) (by decide) (Nat.le_of_ble_eq_true rfl) (fun p e s m a0 below meth c Q FX hw hname hret ls hl => ?_)
  have hl : lv_has ls 3 [(0, .ref a)] := hl
  unfold fX4_loosens at hf
  have hm : Cn K K 0 0 := Cn.rf
  refine lv_aload_n FX.1 FX.2.1 dX4_loosens_0 rfl (lv_at hl 0 rfl) ?_
  refine bd hf (fun v1 h_v1 hf => ?_)
  refine gX4_51 FX hw h_v1 dX4_loosens_1 ?_
  refine lv_istore_n (lv' := [(1, .int v1), (0, .ref a)]) FX.1 FX.2.1 dX4_loosens_4 rfl hl (by decide) rfl (fun ls hl => ?_)
  refine lv_aload_n FX.1 FX.2.1 dX4_loosens_5 rfl (lv_at hl 1 rfl) ?_
  refine lv_iconst (v := 0) FX.1 FX.2.1 dX4_loosens_6 (by decide) ?_
  refine bd hf (fun K2 h_K2 hf => ?_)
  refine sX4_51 FX hw h_K2 dX4_loosens_7 (fun H locs hw => ?_)
  have hm := hm.keep (ke_uV h_K2)
  refine lv_iconst (v := 0) FX.1 FX.2.1 dX4_loosens_10 (by decide) ?_
  refine lv_istore_n (lv' := [(2, .int 0), (1, .int v1), (0, .ref a)]) FX.1 FX.2.1 dX4_loosens_11 rfl hl (by decide) rfl (fun ls hl => ?_)
  refine bd hf (fun u12 ht hf => ?_)
  obtain ⟨n, hn⟩ := lp_iff.mp ht
  have hX12 : ∀ (Kt12 : KT) (H : Heap) (locs : List Loc) (ls : Array Slot) (nc ns : Nat) , Kt12 = u12 → Cn K Kt12 nc ns → WS G (M, C, Kt12.1, Kt12.2.1) s H locs → lv_has ls 3 [(0, .ref a), (1, .int v1)] → W p l e (rmX4_loosens K) s m a0 below meth c H locs nc ns Q (F0 m 42 ls []) := by
    intro Kt12 H locs ls nc ns he hm hw hl
    subst he
    refine lv_aload_n FX.1 FX.2.1 dX4_loosens_42 rfl (lv_at hl 0 rfl) ?_
    refine lv_dup FX.1 FX.2.1 dX4_loosens_43 rfl ?_
    refine bd hf (fun v11 h_v11 hf => ?_)
    refine gX4_57 FX hw h_v11 dX4_loosens_44 ?_
    refine lv_iload_n FX.1 FX.2.1 dX4_loosens_47 rfl (lv_at hl 1 rfl) ?_
    refine lv_iadd FX.1 FX.2.1 dX4_loosens_48 ?_
    refine bd hf (fun K12 h_K12 hf => ?_)
    refine sX4_57 FX hw h_K12 dX4_loosens_49 (fun H locs hw => ?_)
    have hm := hm.keep (ke_uV h_K12)
    refine lv_iload_n FX.1 FX.2.1 dX4_loosens_52 rfl (lv_at hl 1 rfl) ?_
    have hk : K12 = t.2 := congrArg (fun z => z.2) (Option.some.inj hf)
    have hm : Cn K t.2 nc ns := hk ▸ hm
    refine w_cast hm.end_.1 hm.end_.2 ?_
    exact hret _ _ rfl (congrArg (fun z => z.1) (Option.some.inj hf)) (congrArg (fun z => (M, C, z.2.1, z.2.2.1)) (Option.some.inj hf)) hw dX4_loosens_53
  have hL12 : ∀ (n : Nat) (z12_2 : Int32) (Kz12 : KT) (H : Heap) (locs : List Loc) (ls : Array Slot) (nc ns : Nat) , lpN (fun z => fX4_loosens_L12 a v1 z.1 z.2) n (z12_2, Kz12) = some u12 → Cn K Kz12 nc ns → WS G (M, C, Kz12.1, Kz12.2.1) s H locs → lv_has ls 3 [(0, .ref a), (1, .int v1), (2, .int z12_2)] → W p l e (rmX4_loosens K) s m a0 below meth c H locs nc ns Q (F0 m 12 ls []) := by
    intro n
    induction n with
    | zero => intro z12_2 Kz12 H locs ls nc ns hz; cases hz
    | succ n ih =>
      intro z12_2 Kz12 H locs ls nc ns hz hm hw hl
      refine bd (show (fX4_loosens_L12 a v1 z12_2 Kz12).bind _ = some u12 from hz) (fun x12 hf hk12 => ?_)
      unfold fX4_loosens_L12 at hf
      refine lv_iload_n FX.1 FX.2.1 dX4_loosens_12 rfl (lv_at hl 2 rfl) ?_
      refine lv_iload_n FX.1 FX.2.1 dX4_loosens_13 rfl (lv_at hl 1 rfl) ?_
      refine lv_icmp_ge (tgt := 42) FX.1 FX.2.1 dX4_loosens_14 (by decide) (fun c_14 => ?_) (fun c_14 => ?_)
      · have hf := it_pos c_14 hf
        exact hX12 _ _ _ _ _ _ (lpe hf hk12) hm hw (lv_sub hl [0, 1] rfl)
      · have hf := it_neg c_14 hf
        refine lv_aload_n FX.1 FX.2.1 dX4_loosens_17 rfl (lv_at hl 0 rfl) ?_
        refine lv_aload_n FX.1 FX.2.1 dX4_loosens_18 rfl (lv_at hl 0 rfl) ?_
        refine bd hf (fun a3 h_a3 hf => ?_)
        refine gX4_19 FX hw h_a3 dX4_loosens_19 ?_
        refine lv_iload_n FX.1 FX.2.1 dX4_loosens_22 rfl (lv_at hl 2 rfl) ?_
        refine bd hf (fun a4 h_a4 hf => ?_)
        refine ei_aald 4 rfl FX hw h_a4 dX4_loosens_23 ?_
        refine lv_aload_n FX.1 FX.2.1 dX4_loosens_24 rfl (lv_at hl 0 rfl) ?_
        refine bd hf (fun a5 h_a5 hf => ?_)
        refine gX4_19 FX hw h_a5 dX4_loosens_25 ?_
        refine lv_iload_n FX.1 FX.2.1 dX4_loosens_28 rfl (lv_at hl 2 rfl) ?_
        refine bd hf (fun a6 h_a6 hf => ?_)
        refine ei_aald 4 rfl FX hw h_a6 dX4_loosens_29 ?_
        refine bd hf (fun t7 h_t7 hf => ?_)
        refine vc_loosened (rest := [.ref a4, .ref a]) FX hw h_t7 q1169 hl.1 rfl (lv_room (Nat.le_of_ble_eq_true rfl)) dX4_loosens_30 ⟨Nat.le_of_ble_eq_true rfl, Nat.le_of_ble_eq_true rfl⟩ hm.le (fun H locs hw => ?_)
        refine bd hf (fun g8 h_g8 hf => ?_)
        refine bd hf (fun t9 h_t9 hf => ?_)
        refine bd hf (fun g10 h_g10 hf => ?_)
        obtain ⟨fs_g8, he_g8⟩ := dC_some (gC_some h_g8)
        refine xlV_v (As := [.ref a4, .int t7]) (rest := []) FX hw (wX4_stays h_t9) (cwV 2 FX.2.2.2.2 (lw_V q1184 q1186 qs23 q141 q1187) rfl rfl rfl (by decide +kernel) ⟨Nat.le_of_ble_eq_true rfl, Nat.le_of_ble_eq_true rfl⟩) (dyn_he hw he_g8) rfl rfl hl.1 rfl (lv_room (Nat.le_of_ble_eq_true rfl)) dX4_loosens_33 hm.roomC (fun H locs hw => ?_)
        have hm := hm.sM h_g10
        refine lv_iinc (v := (z12_2 + 1)) (lv' := [(2, .int (z12_2 + 1)), (0, .ref a), (1, .int v1)]) FX.1 FX.2.1 dX4_loosens_36 hl (k := 2) rfl (congrArg (fun q : Int32 => z12_2 + q) (by decide : Int32.ofInt 1 = 1)) (by decide) rfl (fun ls hl => ?_)
        refine lv_goto (tgt := 12) FX.1 FX.2.1 dX4_loosens_39 (by decide) ?_
        exact ih _ _ _ _ _ _ _ (lpc hf hk12) hm hw (lv_sub hl [1, 2, 0] rfl)
  exact hL12 n _ _ _ _ _ _ _ hn hm hw (lv_sub hl [2, 1, 0] rfl)
abbrev rmX0_loosen (K : KT) : Room := { frames := 9, cells := K.2.2.1, slots := K.2.2.2, locals := 422 }
set_option maxHeartbeats 4000000 in
theorem wX0_loosen {l : Launch} {G : GT} {M C : FS} {K : KT} {t : (Int32 × FS × KT)} (hf : fX0_loosen C K = some t) : EtI l yX0_loosen (ws_ yX0_loosen cX0_loosen 1 (some .int)) (rmX0_loosen K) G [.ref (G.2.2.2 131)] (M, C, K.1, K.2.1) t.1 (M, t.2.1, t.2.2.1, t.2.2.2.1) (K.2.2.1 - t.2.2.2.2.1) (K.2.2.2 - t.2.2.2.2.2) := by
  refine ekI (ty := .int) (by decide) (Nat.le_of_ble_eq_true rfl) (fun p e s m a0 below meth c Q FX hw hname hret ls hl => ?_)
  have hl : lv_has ls 1 [(0, .ref (G.2.2.2 131))] := hl
  unfold fX0_loosen at hf
  have hm : Cn K K 0 0 := Cn.rf
  refine lv_aload_n FX.1 FX.2.1 dX0_loosen_0 rfl (lv_at hl 0 rfl) ?_
  refine lv_aload_n FX.1 FX.2.1 dX0_loosen_1 rfl (lv_at hl 0 rfl) ?_
  refine gX0_38 FX hw dX0_loosen_2 ?_
  refine bd hf (fun a1 h_a1 hf => ?_)
  rw [show va_rf (C.2.2.1 103) = .ref a1 from congrArg va_rf h_a1]
  refine bd hf (fun g2 h_g2 hf => ?_)
  refine bd hf (fun t3 h_t3 hf => ?_)
  refine bd hf (fun g4 h_g4 hf => ?_)
  obtain ⟨fs_g2, he_g2⟩ := dC_some (gC_some h_g2)
  refine xlV_i (As := []) (rest := [.ref (G.2.2.2 131)]) FX hw (wX4_loosens h_t3) (cwV 0 FX.2.2.2.2 (lw_V q1165 q1166 q1167 q141 q1168) rfl rfl rfl (by decide +kernel) ⟨Nat.le_of_ble_eq_true rfl, Nat.le_of_ble_eq_true rfl⟩) (dyn_he hw he_g2) rfl rfl hl.1 rfl (lv_room (Nat.le_of_ble_eq_true rfl)) dX0_loosen_5 hm.roomC (fun H locs hw => ?_)
  have hm := hm.sM h_g4
  refine bd hf (fun t5 h_t5 hf => ?_)
  refine clV_i0 (As := [.int t3.1]) (rest := []) FX hw (wX0_gives h_t5) (cwV 1 FX.2.2.2.2 (lw_V q962 q964 qs16 q134 q965) rfl rfl rfl (by decide +kernel) ⟨Nat.le_of_ble_eq_true rfl, Nat.le_of_ble_eq_true rfl⟩) (fx_obj hw (o := (131, 0, 100, 31)) (by decide)) rfl rfl hl.1 rfl (lv_room (Nat.le_of_ble_eq_true rfl)) dX0_loosen_8 ⟨rfl, rfl⟩ hm.le (fun H locs hw => ?_)
  have hk : t3.2 = t.2.2 := congrArg (fun z => z.2.2) (Option.some.inj hf)
  have hm : Cn K t.2.2 (0 + (K.2.2.1 - t3.2.2.2.1)) (0 + (K.2.2.2 - t3.2.2.2.2)) := hk ▸ hm
  refine w_cast hm.end_.1 hm.end_.2 ?_
  exact hret _ _ rfl (congrArg (fun z => z.1) (Option.some.inj hf)) (congrArg (fun z => (M, z.2.1, z.2.2.1, z.2.2.2.1)) (Option.some.inj hf)) hw dX0_loosen_11
abbrev rmX0_wrongLead : Room := { frames := 1, cells := 0, slots := 0, locals := 21 }
set_option maxHeartbeats 4000000 in
theorem wX0_wrongLead {l : Launch} {G : GT} {M C : FS} {K : KT} {p1 : Int32} {t : Int32} (hf : fX0_wrongLead C K p1 = some t) : CtI l yX0_wrongLead (ws_ yX0_wrongLead cX0_wrongLead 2 (some .int)) rmX0_wrongLead G [.ref (G.2.2.2 131), .int p1] (M, C, K.1, K.2.1) t (M, C, K.1, K.2.1) := by
  refine mkI (ty := .int) (by decide) (Nat.le_of_ble_eq_true rfl) (fun p e s m a0 below meth c Q FX hw hname hret ls hl => ?_)
  have hl : lv_has ls 2 [(0, .ref (G.2.2.2 131)), (1, .int p1)] := hl
  unfold fX0_wrongLead at hf
  refine lv_aload_n FX.1 FX.2.1 dX0_wrongLead_0 rfl (lv_at hl 0 rfl) ?_
  refine lv_iload_n FX.1 FX.2.1 dX0_wrongLead_1 rfl (lv_at hl 1 rfl) ?_
  refine bd hf (fun t1 h_t1 hf => ?_)
  refine clV_i0 (As := [.int p1]) (rest := []) FX hw (wX0_isLead h_t1) (cwV 1 FX.2.2.2.2 (lw_V q1037 q1039 qs20 q134 q1040) rfl rfl rfl (by decide +kernel) ⟨Nat.le_of_ble_eq_true rfl, Nat.le_of_ble_eq_true rfl⟩) (fx_obj hw (o := (131, 0, 100, 31)) (by decide)) rfl rfl hl.1 rfl (lv_room (Nat.le_of_ble_eq_true rfl)) dX0_wrongLead_2 ⟨rfl, rfl⟩ ⟨Nat.zero_le _, Nat.zero_le _⟩ (fun H locs hw => ?_)
  refine lv_if_ne (tgt := 12) FX.1 FX.2.1 dX0_wrongLead_5 (by decide) (fun c_5 => ?_) (fun c_5 => ?_)
  · have hf := it_neg c_5 hf
    refine lv_aload_n FX.1 FX.2.1 dX0_wrongLead_12 rfl (lv_at hl 0 rfl) ?_
    refine gX0_38 FX hw dX0_wrongLead_13 ?_
    refine bd hf (fun a2 h_a2 hf => ?_)
    rw [show va_rf (C.2.2.1 103) = .ref a2 from congrArg va_rf h_a2]
    refine bd hf (fun a3 h_a3 hf => ?_)
    refine gX0_161 FX hw h_a3 dX0_wrongLead_16 ?_
    refine lv_iload_n FX.1 FX.2.1 dX0_wrongLead_19 rfl (lv_at hl 1 rfl) ?_
    refine bd hf (fun a4 h_a4 hf => ?_)
    refine ei_aald 5 rfl FX hw h_a4 dX0_wrongLead_20 ?_
    refine bd hf (fun v5 h_v5 hf => ?_)
    refine gX0_165 FX hw h_v5 dX0_wrongLead_21 ?_
    refine lv_if_eq (tgt := 32) FX.1 FX.2.1 dX0_wrongLead_24 (by decide) (fun c_24 => ?_) (fun c_24 => ?_)
    · have hf := it_pos c_24 hf
      refine lv_iconst (v := 0) FX.1 FX.2.1 dX0_wrongLead_32 (by decide) ?_
      exact hret _ _ rfl (congrArg (fun z => z) (Option.some.inj hf)) rfl hw dX0_wrongLead_33
    · have hf := it_neg c_24 hf
      refine lv_bipush (v := 9) FX.1 FX.2.1 dX0_wrongLead_27 (by decide) ?_
      refine lv_goto (tgt := 33) FX.1 FX.2.1 dX0_wrongLead_29 (by decide) ?_
      exact hret _ _ rfl (congrArg (fun z => z) (Option.some.inj hf)) rfl hw dX0_wrongLead_33
  · have hf := it_pos c_5 hf
    refine lv_iconst (v := 2) FX.1 FX.2.1 dX0_wrongLead_8 (by decide) ?_
    refine lv_goto (tgt := 33) FX.1 FX.2.1 dX0_wrongLead_9 (by decide) ?_
    exact hret _ _ rfl (congrArg (fun z => z) (Option.some.inj hf)) rfl hw dX0_wrongLead_33
abbrev rmX4_lump : Room := { frames := 6, cells := 0, slots := 0, locals := 400 }
set_option maxHeartbeats 4000000 in
theorem wX4_lump {l : Launch} {G : GT} {M C : FS} {K : KT} {a : Nat} {p1 : Int32} {t : Int32} (hf : fX4_lump K a p1 = some t) : CtI l yX4_lump (ws_ yX4_lump cX4_lump 5 (some .int)) rmX4_lump G [.ref a, .int p1] (M, C, K.1, K.2.1) t (M, C, K.1, K.2.1) := by
  refine mkI (ty := .int) (by decide) (Nat.le_of_ble_eq_true rfl) (fun p e s m a0 below meth c Q FX hw hname hret ls hl => ?_)
  have hl : lv_has ls 5 [(0, .ref a), (1, .int p1)] := hl
  unfold fX4_lump at hf
  refine lv_iconst (v := 1) FX.1 FX.2.1 dX4_lump_0 (by decide) ?_
  refine lv_iload_n FX.1 FX.2.1 dX4_lump_1 rfl (lv_at hl 1 rfl) ?_
  refine lv_ishl FX.1 FX.2.1 dX4_lump_2 ?_
  refine lv_istore_n (lv' := [(2, .int (1 <<< (p1 &&& 31))), (0, .ref a), (1, .int p1)]) FX.1 FX.2.1 dX4_lump_3 rfl hl (by decide) rfl (fun ls hl => ?_)
  refine lv_iconst (v := 0) FX.1 FX.2.1 dX4_lump_4 (by decide) ?_
  refine lv_istore_n (lv' := [(3, .int 0), (2, .int (1 <<< (p1 &&& 31))), (0, .ref a), (1, .int p1)]) FX.1 FX.2.1 dX4_lump_5 rfl hl (by decide) rfl (fun ls hl => ?_)
  refine bd hf (fun u6 ht hf => ?_)
  obtain ⟨n, hn⟩ := lp_iff.mp ht
  have hX6 : ∀ (t6_2 : Int32) (H : Heap) (locs : List Loc) (ls : Array Slot) , t6_2 = u6 → WS G (M, C, K.1, K.2.1) s H locs → lv_has ls 5 [(2, .int t6_2)] → W p l e rmX4_lump s m a0 below meth c H locs 0 0 Q (F0 m 108 ls []) := by
    intro t6_2 H locs ls he hw hl
    subst he
    refine lv_iload_n FX.1 FX.2.1 dX4_lump_108 rfl (lv_at hl 0 rfl) ?_
    exact hret _ _ rfl (congrArg (fun z => z) (Option.some.inj hf)) rfl hw dX4_lump_109
  have hL6 : ∀ (n : Nat) (z6_2 : Int32) (z6_3 : Int32) (H : Heap) (locs : List Loc) (ls : Array Slot) , lpN (fun z => fX4_lump_L6 K a z.1 z.2) n (z6_2, z6_3) = some u6 → WS G (M, C, K.1, K.2.1) s H locs → lv_has ls 5 [(0, .ref a), (2, .int z6_2), (3, .int z6_3)] → W p l e rmX4_lump s m a0 below meth c H locs 0 0 Q (F0 m 6 ls []) := by
    intro n
    induction n with
    | zero => intro z6_2 z6_3 H locs ls hz; cases hz
    | succ n ih =>
      intro z6_2 z6_3 H locs ls hz hw hl
      refine bd (show (fX4_lump_L6 K a z6_2 z6_3).bind _ = some u6 from hz) (fun x6 hf hk6 => ?_)
      unfold fX4_lump_L6 at hf
      refine lv_iload_n FX.1 FX.2.1 dX4_lump_6 rfl (lv_at hl 2 rfl) ?_
      refine lv_bipush (v := 8) FX.1 FX.2.1 dX4_lump_7 (by decide) ?_
      refine lv_icmp_ge (tgt := 108) FX.1 FX.2.1 dX4_lump_9 (by decide) (fun c_9 => ?_) (fun c_9 => ?_)
      · have hf := it_pos c_9 hf
        exact hX6 _ _ _ _ (lpe hf hk6) hw (lv_sub hl [1] rfl)
      · have hf := it_neg c_9 hf
        refine lv_iconst (v := 0) FX.1 FX.2.1 dX4_lump_12 (by decide) ?_
        refine lv_istore (lv' := [(4, .int 0), (0, .ref a), (2, .int z6_2), (3, .int z6_3)]) FX.1 FX.2.1 dX4_lump_13 hl (by decide) rfl (fun ls hl => ?_)
        refine bd hf (fun u15 ht hf => ?_)
        obtain ⟨n, hn⟩ := lp_iff.mp ht
        have hX15 : ∀ (t15_2 : Int32) (H : Heap) (locs : List Loc) (ls : Array Slot) , t15_2 = u15 → WS G (M, C, K.1, K.2.1) s H locs → lv_has ls 5 [(0, .ref a), (2, .int t15_2), (3, .int z6_3)] → W p l e rmX4_lump s m a0 below meth c H locs 0 0 Q (F0 m 102 ls []) := by
          intro t15_2 H locs ls he hw hl
          subst he
          refine lv_iinc (v := (z6_3 + 1)) (lv' := [(3, .int (z6_3 + 1)), (0, .ref a), (2, .int t15_2)]) FX.1 FX.2.1 dX4_lump_102 hl (k := 2) rfl (congrArg (fun q : Int32 => z6_3 + q) (by decide : Int32.ofInt 1 = 1)) (by decide) rfl (fun ls hl => ?_)
          refine lv_goto (tgt := 6) FX.1 FX.2.1 dX4_lump_105 (by decide) ?_
          exact ih _ _ _ _ _ (lpc hf hk6) hw (lv_sub hl [1, 2, 0] rfl)
        have hL15 : ∀ (n : Nat) (z15_2 : Int32) (z15_4 : Int32) (H : Heap) (locs : List Loc) (ls : Array Slot) , lpN (fun z => fX4_lump_L15 K a z.1 z.2) n (z15_2, z15_4) = some u15 → WS G (M, C, K.1, K.2.1) s H locs → lv_has ls 5 [(0, .ref a), (2, .int z15_2), (3, .int z6_3), (4, .int z15_4)] → W p l e rmX4_lump s m a0 below meth c H locs 0 0 Q (F0 m 15 ls []) := by
          intro n
          induction n with
          | zero => intro z15_2 z15_4 H locs ls hz; cases hz
          | succ n ih =>
            intro z15_2 z15_4 H locs ls hz hw hl
            refine bd (show (fX4_lump_L15 K a z15_2 z15_4).bind _ = some u15 from hz) (fun x15 hf hk15 => ?_)
            unfold fX4_lump_L15 at hf
            refine lv_iload FX.1 FX.2.1 dX4_lump_15 (lv_at hl 3 rfl) ?_
            refine lv_aload_n FX.1 FX.2.1 dX4_lump_17 rfl (lv_at hl 0 rfl) ?_
            refine bd hf (fun v1 h_v1 hf => ?_)
            refine gX4_51 FX hw h_v1 dX4_lump_18 ?_
            refine lv_icmp_ge (tgt := 102) FX.1 FX.2.1 dX4_lump_21 (by decide) (fun c_21 => ?_) (fun c_21 => ?_)
            · have hf := it_pos c_21 hf
              exact hX15 _ _ _ _ (lpe hf hk15) hw (lv_sub hl [0, 1, 2] rfl)
            · have hf := it_neg c_21 hf
              refine lv_aload_n FX.1 FX.2.1 dX4_lump_24 rfl (lv_at hl 0 rfl) ?_
              refine bd hf (fun a2 h_a2 hf => ?_)
              refine gX4_19 FX hw h_a2 dX4_lump_25 ?_
              refine lv_iload FX.1 FX.2.1 dX4_lump_28 (lv_at hl 3 rfl) ?_
              refine bd hf (fun a3 h_a3 hf => ?_)
              refine ei_aald 4 rfl FX hw h_a3 dX4_lump_30 ?_
              refine bd hf (fun t4 h_t4 hf => ?_)
              refine vc_holds (rest := []) FX hw h_t4 q1205 hl.1 rfl (lv_room (Nat.le_of_ble_eq_true rfl)) dX4_lump_31 ⟨Nat.le_of_ble_eq_true rfl, Nat.le_of_ble_eq_true rfl⟩ ⟨Nat.zero_le _, Nat.zero_le _⟩ (fun H locs hw => ?_)
              refine lv_if_eq (tgt := 96) FX.1 FX.2.1 dX4_lump_34 (by decide) (fun c_34 => ?_) (fun c_34 => ?_)
              · have hf := it_pos c_34 hf
                refine lv_iinc (v := (z15_4 + 1)) (lv' := [(4, .int (z15_4 + 1)), (0, .ref a), (2, .int z15_2), (3, .int z6_3)]) FX.1 FX.2.1 dX4_lump_96 hl (k := 3) rfl (congrArg (fun q : Int32 => z15_4 + q) (by decide : Int32.ofInt 1 = 1)) (by decide) rfl (fun ls hl => ?_)
                refine lv_goto (tgt := 15) FX.1 FX.2.1 dX4_lump_99 (by decide) ?_
                exact ih _ _ _ _ _ (lpc hf hk15) hw (lv_sub hl [1, 2, 3, 0] rfl)
              · have hf := it_neg c_34 hf
                refine lv_iload_n FX.1 FX.2.1 dX4_lump_37 rfl (lv_at hl 1 rfl) ?_
                refine lv_aload_n FX.1 FX.2.1 dX4_lump_38 rfl (lv_at hl 0 rfl) ?_
                refine bd hf (fun a5 h_a5 hf => ?_)
                refine gX4_19 FX hw h_a5 dX4_lump_39 ?_
                refine lv_iload FX.1 FX.2.1 dX4_lump_42 (lv_at hl 3 rfl) ?_
                refine bd hf (fun a6 h_a6 hf => ?_)
                refine ei_aald 4 rfl FX hw h_a6 dX4_lump_44 ?_
                refine bd hf (fun v7 h_v7 hf => ?_)
                refine gX4_78 FX hw h_v7 dX4_lump_45 ?_
                refine lv_ishr FX.1 FX.2.1 dX4_lump_48 ?_
                refine lv_iload_n FX.1 FX.2.1 dX4_lump_49 rfl (lv_at hl 1 rfl) ?_
                refine lv_aload_n FX.1 FX.2.1 dX4_lump_50 rfl (lv_at hl 0 rfl) ?_
                refine bd hf (fun a8 h_a8 hf => ?_)
                refine gX4_19 FX hw h_a8 dX4_lump_51 ?_
                refine lv_iload FX.1 FX.2.1 dX4_lump_54 (lv_at hl 3 rfl) ?_
                refine bd hf (fun a9 h_a9 hf => ?_)
                refine ei_aald 4 rfl FX hw h_a9 dX4_lump_56 ?_
                refine bd hf (fun v10 h_v10 hf => ?_)
                refine gX4_81 FX hw h_v10 dX4_lump_57 ?_
                refine lv_ishr FX.1 FX.2.1 dX4_lump_60 ?_
                refine lv_ior FX.1 FX.2.1 dX4_lump_61 ?_
                refine lv_iconst (v := 1) FX.1 FX.2.1 dX4_lump_62 (by decide) ?_
                refine lv_iand FX.1 FX.2.1 dX4_lump_63 ?_
                refine lv_iconst (v := 1) FX.1 FX.2.1 dX4_lump_64 (by decide) ?_
                refine lv_icmp_ne (tgt := 96) FX.1 FX.2.1 dX4_lump_65 (by decide) (fun c_65 => ?_) (fun c_65 => ?_)
                · have hf := it_neg c_65 hf
                  refine lv_iinc (v := (z15_4 + 1)) (lv' := [(4, .int (z15_4 + 1)), (0, .ref a), (2, .int z15_2), (3, .int z6_3)]) FX.1 FX.2.1 dX4_lump_96 hl (k := 3) rfl (congrArg (fun q : Int32 => z15_4 + q) (by decide : Int32.ofInt 1 = 1)) (by decide) rfl (fun ls hl => ?_)
                  refine lv_goto (tgt := 15) FX.1 FX.2.1 dX4_lump_99 (by decide) ?_
                  exact ih _ _ _ _ _ (lpc hf hk15) hw (lv_sub hl [1, 2, 3, 0] rfl)
                · have hf := it_pos c_65 hf
                  refine lv_iload_n FX.1 FX.2.1 dX4_lump_68 rfl (lv_at hl 1 rfl) ?_
                  refine lv_iconst (v := 1) FX.1 FX.2.1 dX4_lump_69 (by decide) ?_
                  refine lv_aload_n FX.1 FX.2.1 dX4_lump_70 rfl (lv_at hl 0 rfl) ?_
                  refine bd hf (fun a11 h_a11 hf => ?_)
                  refine gX4_19 FX hw h_a11 dX4_lump_71 ?_
                  refine lv_iload FX.1 FX.2.1 dX4_lump_74 (lv_at hl 3 rfl) ?_
                  refine bd hf (fun a12 h_a12 hf => ?_)
                  refine ei_aald 4 rfl FX hw h_a12 dX4_lump_76 ?_
                  refine bd hf (fun v13 h_v13 hf => ?_)
                  refine gX4_78 FX hw h_v13 dX4_lump_77 ?_
                  refine lv_ishl FX.1 FX.2.1 dX4_lump_80 ?_
                  refine lv_iconst (v := 1) FX.1 FX.2.1 dX4_lump_81 (by decide) ?_
                  refine lv_aload_n FX.1 FX.2.1 dX4_lump_82 rfl (lv_at hl 0 rfl) ?_
                  refine bd hf (fun a14 h_a14 hf => ?_)
                  refine gX4_19 FX hw h_a14 dX4_lump_83 ?_
                  refine lv_iload FX.1 FX.2.1 dX4_lump_86 (lv_at hl 3 rfl) ?_
                  refine bd hf (fun a15 h_a15 hf => ?_)
                  refine ei_aald 4 rfl FX hw h_a15 dX4_lump_88 ?_
                  refine bd hf (fun v16 h_v16 hf => ?_)
                  refine gX4_81 FX hw h_v16 dX4_lump_89 ?_
                  refine lv_ishl FX.1 FX.2.1 dX4_lump_92 ?_
                  refine lv_ior FX.1 FX.2.1 dX4_lump_93 ?_
                  refine lv_ior FX.1 FX.2.1 dX4_lump_94 ?_
                  refine lv_istore_n (lv' := [(2, .int (z15_2 ||| ((1 <<< (v13 &&& 31)) ||| (1 <<< (v16 &&& 31))))), (0, .ref a), (3, .int z6_3), (4, .int z15_4)]) FX.1 FX.2.1 dX4_lump_95 rfl hl (by decide) rfl (fun ls hl => ?_)
                  refine lv_iinc (v := (z15_4 + 1)) (lv' := [(4, .int (z15_4 + 1)), (2, .int (z15_2 ||| ((1 <<< (v13 &&& 31)) ||| (1 <<< (v16 &&& 31))))), (0, .ref a), (3, .int z6_3)]) FX.1 FX.2.1 dX4_lump_96 hl (k := 3) rfl (congrArg (fun q : Int32 => z15_4 + q) (by decide : Int32.ofInt 1 = 1)) (by decide) rfl (fun ls hl => ?_)
                  refine lv_goto (tgt := 15) FX.1 FX.2.1 dX4_lump_99 (by decide) ?_
                  exact ih _ _ _ _ _ (lpc hf hk15) hw (lv_sub hl [2, 1, 3, 0] rfl)
        exact hL15 n _ _ _ _ _ hn hw (lv_sub hl [1, 2, 3, 0] rfl)
  exact hL6 n _ _ _ _ _ hn hw (lv_sub hl [2, 1, 0] rfl)
abbrev rmJ12_bitCount : Room := { frames := 0, cells := 0, slots := 0, locals := 0 }
set_option maxHeartbeats 4000000 in
theorem wJ12_bitCount {l : Launch} {G : GT} {M C : FS} {K : KT} {p1 : Int32} {t : Int32} (hf : fJ12_bitCount p1 = some t) : CtI l yJ12_bitCount (ws_ yJ12_bitCount cJ12_bitCount 1 (some .int)) rmJ12_bitCount G [.int p1] (M, C, K.1, K.2.1) t (M, C, K.1, K.2.1) := by
  refine mkI (ty := .int) (by decide) (Nat.le_of_ble_eq_true rfl) (fun p e s m a0 below meth c Q FX hw hname hret ls hl => ?_)
  have hl : lv_has ls 1 [(0, .int p1)] := hl
  unfold fJ12_bitCount at hf
  refine lv_iload_n FX.1 FX.2.1 dJ12_bitCount_0 rfl (lv_at hl 0 rfl) ?_
  refine lv_iload_n FX.1 FX.2.1 dJ12_bitCount_1 rfl (lv_at hl 0 rfl) ?_
  refine lv_iconst (v := 1) FX.1 FX.2.1 dJ12_bitCount_2 (by decide) ?_
  refine lv_iushr (v := (ushr p1 1)) FX.1 FX.2.1 dJ12_bitCount_3 rfl ?_
  refine lv_ldcw FX.1 FX.2.1 FX.2.2.2.1 (FX.2.2.2.2 _ q1232) dJ12_bitCount_4 ?_
  refine lv_iand FX.1 FX.2.1 dJ12_bitCount_7 ?_
  refine lv_isub FX.1 FX.2.1 dJ12_bitCount_8 ?_
  refine lv_istore_n (lv' := [(0, .int (p1 - ((ushr p1 1) &&& 1431655765)))]) FX.1 FX.2.1 dJ12_bitCount_9 rfl hl (by decide) rfl (fun ls hl => ?_)
  refine lv_iload_n FX.1 FX.2.1 dJ12_bitCount_10 rfl (lv_at hl 0 rfl) ?_
  refine lv_ldcw FX.1 FX.2.1 FX.2.2.2.1 (FX.2.2.2.2 _ q1233) dJ12_bitCount_11 ?_
  refine lv_iand FX.1 FX.2.1 dJ12_bitCount_14 ?_
  refine lv_iload_n FX.1 FX.2.1 dJ12_bitCount_15 rfl (lv_at hl 0 rfl) ?_
  refine lv_iconst (v := 2) FX.1 FX.2.1 dJ12_bitCount_16 (by decide) ?_
  refine lv_iushr (v := (ushr (p1 - ((ushr p1 1) &&& 1431655765)) 2)) FX.1 FX.2.1 dJ12_bitCount_17 rfl ?_
  refine lv_ldcw FX.1 FX.2.1 FX.2.2.2.1 (FX.2.2.2.2 _ q1233) dJ12_bitCount_18 ?_
  refine lv_iand FX.1 FX.2.1 dJ12_bitCount_21 ?_
  refine lv_iadd FX.1 FX.2.1 dJ12_bitCount_22 ?_
  refine lv_istore_n (lv' := [(0, .int (((p1 - ((ushr p1 1) &&& 1431655765)) &&& 858993459) + ((ushr (p1 - ((ushr p1 1) &&& 1431655765)) 2) &&& 858993459)))]) FX.1 FX.2.1 dJ12_bitCount_23 rfl hl (by decide) rfl (fun ls hl => ?_)
  refine lv_iload_n FX.1 FX.2.1 dJ12_bitCount_24 rfl (lv_at hl 0 rfl) ?_
  refine lv_iload_n FX.1 FX.2.1 dJ12_bitCount_25 rfl (lv_at hl 0 rfl) ?_
  refine lv_iconst (v := 4) FX.1 FX.2.1 dJ12_bitCount_26 (by decide) ?_
  refine lv_iushr (v := (ushr (((p1 - ((ushr p1 1) &&& 1431655765)) &&& 858993459) + ((ushr (p1 - ((ushr p1 1) &&& 1431655765)) 2) &&& 858993459)) 4)) FX.1 FX.2.1 dJ12_bitCount_27 rfl ?_
  refine lv_iadd FX.1 FX.2.1 dJ12_bitCount_28 ?_
  refine lv_ldcw FX.1 FX.2.1 FX.2.2.2.1 (FX.2.2.2.2 _ q1234) dJ12_bitCount_29 ?_
  refine lv_iand FX.1 FX.2.1 dJ12_bitCount_32 ?_
  refine lv_istore_n (lv' := [(0, .int (((((p1 - ((ushr p1 1) &&& 1431655765)) &&& 858993459) + ((ushr (p1 - ((ushr p1 1) &&& 1431655765)) 2) &&& 858993459)) + (ushr (((p1 - ((ushr p1 1) &&& 1431655765)) &&& 858993459) + ((ushr (p1 - ((ushr p1 1) &&& 1431655765)) 2) &&& 858993459)) 4)) &&& 252645135))]) FX.1 FX.2.1 dJ12_bitCount_33 rfl hl (by decide) rfl (fun ls hl => ?_)
  refine lv_iload_n FX.1 FX.2.1 dJ12_bitCount_34 rfl (lv_at hl 0 rfl) ?_
  refine lv_iload_n FX.1 FX.2.1 dJ12_bitCount_35 rfl (lv_at hl 0 rfl) ?_
  refine lv_bipush (v := 8) FX.1 FX.2.1 dJ12_bitCount_36 (by decide) ?_
  refine lv_iushr (v := (ushr (((((p1 - ((ushr p1 1) &&& 1431655765)) &&& 858993459) + ((ushr (p1 - ((ushr p1 1) &&& 1431655765)) 2) &&& 858993459)) + (ushr (((p1 - ((ushr p1 1) &&& 1431655765)) &&& 858993459) + ((ushr (p1 - ((ushr p1 1) &&& 1431655765)) 2) &&& 858993459)) 4)) &&& 252645135) 8)) FX.1 FX.2.1 dJ12_bitCount_38 rfl ?_
  refine lv_iadd FX.1 FX.2.1 dJ12_bitCount_39 ?_
  refine lv_istore_n (lv' := [(0, .int ((((((p1 - ((ushr p1 1) &&& 1431655765)) &&& 858993459) + ((ushr (p1 - ((ushr p1 1) &&& 1431655765)) 2) &&& 858993459)) + (ushr (((p1 - ((ushr p1 1) &&& 1431655765)) &&& 858993459) + ((ushr (p1 - ((ushr p1 1) &&& 1431655765)) 2) &&& 858993459)) 4)) &&& 252645135) + (ushr (((((p1 - ((ushr p1 1) &&& 1431655765)) &&& 858993459) + ((ushr (p1 - ((ushr p1 1) &&& 1431655765)) 2) &&& 858993459)) + (ushr (((p1 - ((ushr p1 1) &&& 1431655765)) &&& 858993459) + ((ushr (p1 - ((ushr p1 1) &&& 1431655765)) 2) &&& 858993459)) 4)) &&& 252645135) 8)))]) FX.1 FX.2.1 dJ12_bitCount_40 rfl hl (by decide) rfl (fun ls hl => ?_)
  refine lv_iload_n FX.1 FX.2.1 dJ12_bitCount_41 rfl (lv_at hl 0 rfl) ?_
  refine lv_iload_n FX.1 FX.2.1 dJ12_bitCount_42 rfl (lv_at hl 0 rfl) ?_
  refine lv_bipush (v := 16) FX.1 FX.2.1 dJ12_bitCount_43 (by decide) ?_
  refine lv_iushr (v := (ushr ((((((p1 - ((ushr p1 1) &&& 1431655765)) &&& 858993459) + ((ushr (p1 - ((ushr p1 1) &&& 1431655765)) 2) &&& 858993459)) + (ushr (((p1 - ((ushr p1 1) &&& 1431655765)) &&& 858993459) + ((ushr (p1 - ((ushr p1 1) &&& 1431655765)) 2) &&& 858993459)) 4)) &&& 252645135) + (ushr (((((p1 - ((ushr p1 1) &&& 1431655765)) &&& 858993459) + ((ushr (p1 - ((ushr p1 1) &&& 1431655765)) 2) &&& 858993459)) + (ushr (((p1 - ((ushr p1 1) &&& 1431655765)) &&& 858993459) + ((ushr (p1 - ((ushr p1 1) &&& 1431655765)) 2) &&& 858993459)) 4)) &&& 252645135) 8)) 16)) FX.1 FX.2.1 dJ12_bitCount_45 rfl ?_
  refine lv_iadd FX.1 FX.2.1 dJ12_bitCount_46 ?_
  refine lv_istore_n (lv' := [(0, .int (((((((p1 - ((ushr p1 1) &&& 1431655765)) &&& 858993459) + ((ushr (p1 - ((ushr p1 1) &&& 1431655765)) 2) &&& 858993459)) + (ushr (((p1 - ((ushr p1 1) &&& 1431655765)) &&& 858993459) + ((ushr (p1 - ((ushr p1 1) &&& 1431655765)) 2) &&& 858993459)) 4)) &&& 252645135) + (ushr (((((p1 - ((ushr p1 1) &&& 1431655765)) &&& 858993459) + ((ushr (p1 - ((ushr p1 1) &&& 1431655765)) 2) &&& 858993459)) + (ushr (((p1 - ((ushr p1 1) &&& 1431655765)) &&& 858993459) + ((ushr (p1 - ((ushr p1 1) &&& 1431655765)) 2) &&& 858993459)) 4)) &&& 252645135) 8)) + (ushr ((((((p1 - ((ushr p1 1) &&& 1431655765)) &&& 858993459) + ((ushr (p1 - ((ushr p1 1) &&& 1431655765)) 2) &&& 858993459)) + (ushr (((p1 - ((ushr p1 1) &&& 1431655765)) &&& 858993459) + ((ushr (p1 - ((ushr p1 1) &&& 1431655765)) 2) &&& 858993459)) 4)) &&& 252645135) + (ushr (((((p1 - ((ushr p1 1) &&& 1431655765)) &&& 858993459) + ((ushr (p1 - ((ushr p1 1) &&& 1431655765)) 2) &&& 858993459)) + (ushr (((p1 - ((ushr p1 1) &&& 1431655765)) &&& 858993459) + ((ushr (p1 - ((ushr p1 1) &&& 1431655765)) 2) &&& 858993459)) 4)) &&& 252645135) 8)) 16)))]) FX.1 FX.2.1 dJ12_bitCount_47 rfl hl (by decide) rfl (fun ls hl => ?_)
  refine lv_iload_n FX.1 FX.2.1 dJ12_bitCount_48 rfl (lv_at hl 0 rfl) ?_
  refine lv_bipush (v := 63) FX.1 FX.2.1 dJ12_bitCount_49 (by decide) ?_
  refine lv_iand FX.1 FX.2.1 dJ12_bitCount_51 ?_
  exact hret _ _ rfl (congrArg (fun z => z) (Option.some.inj hf)) rfl hw dJ12_bitCount_52
abbrev rmX4_pulls (K : KT) : Room := { frames := 8, cells := K.2.2.1, slots := K.2.2.2, locals := 424 }
set_option maxHeartbeats 4000000 in
theorem wX4_pulls {l : Launch} {G : GT} {M C : FS} {K : KT} {a : Nat} {p1 : Int32} {t : (Int32 × KT)} (hf : fX4_pulls K a p1 = some t) : EtI l yX4_pulls (ws_ yX4_pulls cX4_pulls 5 (some .int)) (rmX4_pulls K) G [.ref a, .int p1] (M, C, K.1, K.2.1) t.1 (M, C, t.2.1, t.2.2.1) (K.2.2.1 - t.2.2.2.1) (K.2.2.2 - t.2.2.2.2) := by
  refine ekI (ty := .int) (by decide) (Nat.le_of_ble_eq_true rfl) (fun p e s m a0 below meth c Q FX hw hname hret ls hl => ?_)
  have hl : lv_has ls 5 [(0, .ref a), (1, .int p1)] := hl
  unfold fX4_pulls at hf
  have hm : Cn K K 0 0 := Cn.rf
  refine lv_aload_n FX.1 FX.2.1 dX4_pulls_0 rfl (lv_at hl 0 rfl) ?_
  refine lv_iload_n FX.1 FX.2.1 dX4_pulls_1 rfl (lv_at hl 1 rfl) ?_
  refine bd hf (fun g1 h_g1 hf => ?_)
  refine bd hf (fun t2 h_t2 hf => ?_)
  obtain ⟨fs_g1, he_g1⟩ := dC_some (gC_some h_g1)
  refine clV_i0 (As := [.int p1]) (rest := []) FX hw (wX4_lump h_t2) (cwV 1 FX.2.2.2.2 (lw_V q1201 q1202 q1203 q141 q1204) rfl rfl rfl (by decide +kernel) ⟨Nat.le_of_ble_eq_true rfl, Nat.le_of_ble_eq_true rfl⟩) (dyn_he hw he_g1) rfl rfl hl.1 rfl (lv_room (Nat.le_of_ble_eq_true rfl)) dX4_pulls_2 ⟨rfl, rfl⟩ hm.le (fun H locs hw => ?_)
  refine lv_istore_n (lv' := [(2, .int t2), (0, .ref a), (1, .int p1)]) FX.1 FX.2.1 dX4_pulls_5 rfl hl (by decide) rfl (fun ls hl => ?_)
  refine lv_aload_n FX.1 FX.2.1 dX4_pulls_6 rfl (lv_at hl 1 rfl) ?_
  refine bd hf (fun v3 h_v3 hf => ?_)
  refine gX4_51 FX hw h_v3 dX4_pulls_7 ?_
  refine lv_istore_n (lv' := [(3, .int v3), (2, .int t2), (0, .ref a), (1, .int p1)]) FX.1 FX.2.1 dX4_pulls_10 rfl hl (by decide) rfl (fun ls hl => ?_)
  refine lv_aload_n FX.1 FX.2.1 dX4_pulls_11 rfl (lv_at hl 2 rfl) ?_
  refine lv_dup FX.1 FX.2.1 dX4_pulls_12 rfl ?_
  refine bd hf (fun v4 h_v4 hf => ?_)
  refine gX4_57 FX hw h_v4 dX4_pulls_13 ?_
  refine lv_iconst (v := 2) FX.1 FX.2.1 dX4_pulls_16 (by decide) ?_
  refine lv_iadd FX.1 FX.2.1 dX4_pulls_17 ?_
  refine bd hf (fun K5 h_K5 hf => ?_)
  refine sX4_57 FX hw h_K5 dX4_pulls_18 (fun H locs hw => ?_)
  have hm := hm.keep (ke_uV h_K5)
  refine lv_aload_n FX.1 FX.2.1 dX4_pulls_21 rfl (lv_at hl 2 rfl) ?_
  refine lv_iconst (v := 0) FX.1 FX.2.1 dX4_pulls_22 (by decide) ?_
  refine bd hf (fun K6 h_K6 hf => ?_)
  refine sX4_51 FX hw h_K6 dX4_pulls_23 (fun H locs hw => ?_)
  have hm := hm.keep (ke_uV h_K6)
  refine lv_iconst (v := 0) FX.1 FX.2.1 dX4_pulls_26 (by decide) ?_
  refine lv_istore (lv' := [(4, .int 0), (3, .int v3), (2, .int t2), (0, .ref a), (1, .int p1)]) FX.1 FX.2.1 dX4_pulls_27 hl (by decide) rfl (fun ls hl => ?_)
  refine bd hf (fun u29 ht hf => ?_)
  obtain ⟨n, hn⟩ := lp_iff.mp ht
  have hX29 : ∀ (Kt29 : KT) (H : Heap) (locs : List Loc) (ls : Array Slot) (nc ns : Nat) , Kt29 = u29 → Cn K Kt29 nc ns → WS G (M, C, Kt29.1, Kt29.2.1) s H locs → lv_has ls 5 [(2, .int t2)] → W p l e (rmX4_pulls K) s m a0 below meth c H locs nc ns Q (F0 m 89 ls []) := by
    intro Kt29 H locs ls nc ns he hm hw hl
    subst he
    refine lv_iload_n FX.1 FX.2.1 dX4_pulls_89 rfl (lv_at hl 0 rfl) ?_
    refine bd hf (fun t24 h_t24 hf => ?_)
    refine clS_i0 (As := [.int t2]) (rest := []) FX hw (wJ12_bitCount h_t24) (va_cwS 1 FX.2.2.2.2 (lw_S q1229 q1230 q161 q1231) rfl rfl rfl (by decide +kernel) ⟨Nat.le_of_ble_eq_true rfl, Nat.le_of_ble_eq_true rfl⟩) rfl hl.1 rfl (lv_room (Nat.le_of_ble_eq_true rfl)) dX4_pulls_90 ⟨rfl, rfl⟩ hm.le (fun H locs hw => ?_)
    have hk : Kt29 = t.2 := congrArg (fun z => z.2) (Option.some.inj hf)
    have hm : Cn K t.2 nc ns := hk ▸ hm
    refine w_cast hm.end_.1 hm.end_.2 ?_
    exact hret _ _ rfl (congrArg (fun z => z.1) (Option.some.inj hf)) (congrArg (fun z => (M, C, z.2.1, z.2.2.1)) (Option.some.inj hf)) hw dX4_pulls_93
  have hL29 : ∀ (n : Nat) (z29_4 : Int32) (Kz29 : KT) (H : Heap) (locs : List Loc) (ls : Array Slot) (nc ns : Nat) , lpN (fun z => fX4_pulls_L29 a p1 v3 z.1 z.2) n (z29_4, Kz29) = some u29 → Cn K Kz29 nc ns → WS G (M, C, Kz29.1, Kz29.2.1) s H locs → lv_has ls 5 [(0, .ref a), (1, .int p1), (2, .int t2), (3, .int v3), (4, .int z29_4)] → W p l e (rmX4_pulls K) s m a0 below meth c H locs nc ns Q (F0 m 29 ls []) := by
    intro n
    induction n with
    | zero => intro z29_4 Kz29 H locs ls nc ns hz; cases hz
    | succ n ih =>
      intro z29_4 Kz29 H locs ls nc ns hz hm hw hl
      refine bd (show (fX4_pulls_L29 a p1 v3 z29_4 Kz29).bind _ = some u29 from hz) (fun x29 hf hk29 => ?_)
      unfold fX4_pulls_L29 at hf
      refine lv_iload FX.1 FX.2.1 dX4_pulls_29 (lv_at hl 4 rfl) ?_
      refine lv_iload_n FX.1 FX.2.1 dX4_pulls_31 rfl (lv_at hl 3 rfl) ?_
      refine lv_icmp_ge (tgt := 89) FX.1 FX.2.1 dX4_pulls_32 (by decide) (fun c_32 => ?_) (fun c_32 => ?_)
      · have hf := it_pos c_32 hf
        exact hX29 _ _ _ _ _ _ (lpe hf hk29) hm hw (lv_sub hl [2] rfl)
      · have hf := it_neg c_32 hf
        refine lv_aload_n FX.1 FX.2.1 dX4_pulls_35 rfl (lv_at hl 0 rfl) ?_
        refine lv_aload_n FX.1 FX.2.1 dX4_pulls_36 rfl (lv_at hl 0 rfl) ?_
        refine bd hf (fun a7 h_a7 hf => ?_)
        refine gX4_19 FX hw h_a7 dX4_pulls_37 ?_
        refine lv_iload FX.1 FX.2.1 dX4_pulls_40 (lv_at hl 4 rfl) ?_
        refine bd hf (fun a8 h_a8 hf => ?_)
        refine ei_aald 4 rfl FX hw h_a8 dX4_pulls_42 ?_
        refine lv_aload_n FX.1 FX.2.1 dX4_pulls_43 rfl (lv_at hl 0 rfl) ?_
        refine bd hf (fun a9 h_a9 hf => ?_)
        refine gX4_19 FX hw h_a9 dX4_pulls_44 ?_
        refine lv_iload FX.1 FX.2.1 dX4_pulls_47 (lv_at hl 4 rfl) ?_
        refine bd hf (fun a10 h_a10 hf => ?_)
        refine ei_aald 4 rfl FX hw h_a10 dX4_pulls_49 ?_
        refine lv_iload_n FX.1 FX.2.1 dX4_pulls_50 rfl (lv_at hl 1 rfl) ?_
        refine bd hf (fun t11 h_t11 hf => ?_)
        refine vc_isOf (rest := [.ref a8, .ref a]) FX hw h_t11 q1045 hl.1 rfl (lv_room (Nat.le_of_ble_eq_true rfl)) dX4_pulls_51 ⟨Nat.le_of_ble_eq_true rfl, Nat.le_of_ble_eq_true rfl⟩ hm.le (fun H locs hw => ?_)
        refine lv_if_eq (tgt := 70) FX.1 FX.2.1 dX4_pulls_54 (by decide) (fun c_54 => ?_) (fun c_54 => ?_)
        · have hf := it_pos c_54 hf
          refine lv_aload_n FX.1 FX.2.1 dX4_pulls_70 rfl (lv_at hl 0 rfl) ?_
          refine bd hf (fun a12 h_a12 hf => ?_)
          refine gX4_19 FX hw h_a12 dX4_pulls_71 ?_
          refine lv_iload FX.1 FX.2.1 dX4_pulls_74 (lv_at hl 4 rfl) ?_
          refine bd hf (fun a13 h_a13 hf => ?_)
          refine ei_aald 4 rfl FX hw h_a13 dX4_pulls_76 ?_
          refine bd hf (fun t14 h_t14 hf => ?_)
          refine vc_state (rest := [.ref a8, .ref a]) FX hw h_t14 q1228 hl.1 rfl (lv_room (Nat.le_of_ble_eq_true rfl)) dX4_pulls_77 ⟨Nat.le_of_ble_eq_true rfl, Nat.le_of_ble_eq_true rfl⟩ hm.le (fun H locs hw => ?_)
          refine bd hf (fun g15 h_g15 hf => ?_)
          refine bd hf (fun t16 h_t16 hf => ?_)
          refine bd hf (fun g17 h_g17 hf => ?_)
          obtain ⟨fs_g15, he_g15⟩ := dC_some (gC_some h_g15)
          refine xlV_v (As := [.ref a8, .int t14]) (rest := []) FX hw (wX4_stays h_t16) (cwV 2 FX.2.2.2.2 (lw_V q1184 q1186 qs23 q141 q1187) rfl rfl rfl (by decide +kernel) ⟨Nat.le_of_ble_eq_true rfl, Nat.le_of_ble_eq_true rfl⟩) (dyn_he hw he_g15) rfl rfl hl.1 rfl (lv_room (Nat.le_of_ble_eq_true rfl)) dX4_pulls_80 hm.roomC (fun H locs hw => ?_)
          have hm := hm.sM h_g17
          refine lv_iinc (v := (z29_4 + 1)) (lv' := [(4, .int (z29_4 + 1)), (0, .ref a), (1, .int p1), (2, .int t2), (3, .int v3)]) FX.1 FX.2.1 dX4_pulls_83 hl (k := 4) rfl (congrArg (fun q : Int32 => z29_4 + q) (by decide : Int32.ofInt 1 = 1)) (by decide) rfl (fun ls hl => ?_)
          refine lv_goto (tgt := 29) FX.1 FX.2.1 dX4_pulls_86 (by decide) ?_
          exact ih _ _ _ _ _ _ _ (lpc hf hk29) hm hw (lv_sub hl [1, 2, 3, 4, 0] rfl)
        · have hf := it_neg c_54 hf
          refine lv_aload_n FX.1 FX.2.1 dX4_pulls_57 rfl (lv_at hl 0 rfl) ?_
          refine bd hf (fun a18 h_a18 hf => ?_)
          refine gX4_19 FX hw h_a18 dX4_pulls_58 ?_
          refine lv_iload FX.1 FX.2.1 dX4_pulls_61 (lv_at hl 4 rfl) ?_
          refine bd hf (fun a19 h_a19 hf => ?_)
          refine ei_aald 4 rfl FX hw h_a19 dX4_pulls_63 ?_
          refine bd hf (fun t20 h_t20 hf => ?_)
          refine vc_pulled (rest := [.ref a8, .ref a]) FX hw h_t20 q1215 hl.1 rfl (lv_room (Nat.le_of_ble_eq_true rfl)) dX4_pulls_64 ⟨Nat.le_of_ble_eq_true rfl, Nat.le_of_ble_eq_true rfl⟩ hm.le (fun H locs hw => ?_)
          refine lv_goto (tgt := 80) FX.1 FX.2.1 dX4_pulls_67 (by decide) ?_
          refine bd hf (fun g21 h_g21 hf => ?_)
          refine bd hf (fun t22 h_t22 hf => ?_)
          refine bd hf (fun g23 h_g23 hf => ?_)
          obtain ⟨fs_g21, he_g21⟩ := dC_some (gC_some h_g21)
          refine xlV_v (As := [.ref a8, .int t20]) (rest := []) FX hw (wX4_stays h_t22) (cwV 2 FX.2.2.2.2 (lw_V q1184 q1186 qs23 q141 q1187) rfl rfl rfl (by decide +kernel) ⟨Nat.le_of_ble_eq_true rfl, Nat.le_of_ble_eq_true rfl⟩) (dyn_he hw he_g21) rfl rfl hl.1 rfl (lv_room (Nat.le_of_ble_eq_true rfl)) dX4_pulls_80 hm.roomC (fun H locs hw => ?_)
          have hm := hm.sM h_g23
          refine lv_iinc (v := (z29_4 + 1)) (lv' := [(4, .int (z29_4 + 1)), (0, .ref a), (1, .int p1), (2, .int t2), (3, .int v3)]) FX.1 FX.2.1 dX4_pulls_83 hl (k := 4) rfl (congrArg (fun q : Int32 => z29_4 + q) (by decide : Int32.ofInt 1 = 1)) (by decide) rfl (fun ls hl => ?_)
          refine lv_goto (tgt := 29) FX.1 FX.2.1 dX4_pulls_86 (by decide) ?_
          exact ih _ _ _ _ _ _ _ (lpc hf hk29) hm hw (lv_sub hl [1, 2, 3, 4, 0] rfl)
  exact hL29 n _ _ _ _ _ _ _ hn hm hw (lv_sub hl [3, 4, 2, 1, 0] rfl)
abbrev rmX0_pull (K : KT) : Room := { frames := 9, cells := K.2.2.1, slots := K.2.2.2, locals := 448 }
set_option maxHeartbeats 4000000 in
theorem wX0_pull {l : Launch} {G : GT} {M C : FS} {K : KT} {p1 : Int32} {t : (Int32 × FS × KT)} (hf : fX0_pull C K p1 = some t) : EtI l yX0_pull (ws_ yX0_pull cX0_pull 3 (some .int)) (rmX0_pull K) G [.ref (G.2.2.2 131), .int p1] (M, C, K.1, K.2.1) t.1 (M, t.2.1, t.2.2.1, t.2.2.2.1) (K.2.2.1 - t.2.2.2.2.1) (K.2.2.2 - t.2.2.2.2.2) := by
  refine ekI (ty := .int) (by decide) (Nat.le_of_ble_eq_true rfl) (fun p e s m a0 below meth c Q FX hw hname hret ls hl => ?_)
  have hl : lv_has ls 3 [(0, .ref (G.2.2.2 131)), (1, .int p1)] := hl
  unfold fX0_pull at hf
  have hm : Cn K K 0 0 := Cn.rf
  refine lv_aload_n FX.1 FX.2.1 dX0_pull_0 rfl (lv_at hl 0 rfl) ?_
  refine lv_iload_n FX.1 FX.2.1 dX0_pull_1 rfl (lv_at hl 1 rfl) ?_
  refine bd hf (fun t1 h_t1 hf => ?_)
  refine clV_i0 (As := [.int p1]) (rest := []) FX hw (wX0_wrongLead h_t1) (cwV 1 FX.2.2.2.2 (lw_V q1193 q1195 qs24 q134 q1196) rfl rfl rfl (by decide +kernel) ⟨Nat.le_of_ble_eq_true rfl, Nat.le_of_ble_eq_true rfl⟩) (fx_obj hw (o := (131, 0, 100, 31)) (by decide)) rfl rfl hl.1 rfl (lv_room (Nat.le_of_ble_eq_true rfl)) dX0_pull_2 ⟨rfl, rfl⟩ hm.le (fun H locs hw => ?_)
  refine lv_istore_n (lv' := [(2, .int t1), (0, .ref (G.2.2.2 131)), (1, .int p1)]) FX.1 FX.2.1 dX0_pull_5 rfl hl (by decide) rfl (fun ls hl => ?_)
  refine lv_iload_n FX.1 FX.2.1 dX0_pull_6 rfl (lv_at hl 0 rfl) ?_
  refine lv_if_le (tgt := 18) FX.1 FX.2.1 dX0_pull_7 (by decide) (fun c_7 => ?_) (fun c_7 => ?_)
  · have hf := it_pos c_7 hf
    refine lv_aload_n FX.1 FX.2.1 dX0_pull_18 rfl (lv_at hl 1 rfl) ?_
    refine lv_aload_n FX.1 FX.2.1 dX0_pull_19 rfl (lv_at hl 1 rfl) ?_
    refine gX0_38 FX hw dX0_pull_20 ?_
    refine bd hf (fun a2 h_a2 hf => ?_)
    rw [show va_rf (C.2.2.1 103) = .ref a2 from congrArg va_rf h_a2]
    refine lv_iload_n FX.1 FX.2.1 dX0_pull_23 rfl (lv_at hl 2 rfl) ?_
    refine bd hf (fun g3 h_g3 hf => ?_)
    refine bd hf (fun t4 h_t4 hf => ?_)
    refine bd hf (fun g5 h_g5 hf => ?_)
    obtain ⟨fs_g3, he_g3⟩ := dC_some (gC_some h_g3)
    refine xlV_i (As := [.int p1]) (rest := [.ref (G.2.2.2 131)]) FX hw (wX4_pulls h_t4) (cwV 1 FX.2.2.2.2 (lw_V q1197 q1198 q1199 q141 q1200) rfl rfl rfl (by decide +kernel) ⟨Nat.le_of_ble_eq_true rfl, Nat.le_of_ble_eq_true rfl⟩) (dyn_he hw he_g3) rfl rfl hl.1 rfl (lv_room (Nat.le_of_ble_eq_true rfl)) dX0_pull_24 hm.roomC (fun H locs hw => ?_)
    have hm := hm.sM h_g5
    refine bd hf (fun t6 h_t6 hf => ?_)
    refine clV_i0 (As := [.int t4.1]) (rest := []) FX hw (wX0_gives h_t6) (cwV 1 FX.2.2.2.2 (lw_V q962 q964 qs16 q134 q965) rfl rfl rfl (by decide +kernel) ⟨Nat.le_of_ble_eq_true rfl, Nat.le_of_ble_eq_true rfl⟩) (fx_obj hw (o := (131, 0, 100, 31)) (by decide)) rfl rfl hl.1 rfl (lv_room (Nat.le_of_ble_eq_true rfl)) dX0_pull_27 ⟨rfl, rfl⟩ hm.le (fun H locs hw => ?_)
    have hk : t4.2 = t.2.2 := congrArg (fun z => z.2.2) (Option.some.inj hf)
    have hm : Cn K t.2.2 (0 + (K.2.2.1 - t4.2.2.2.1)) (0 + (K.2.2.2 - t4.2.2.2.2)) := hk ▸ hm
    refine w_cast hm.end_.1 hm.end_.2 ?_
    exact hret _ _ rfl (congrArg (fun z => z.1) (Option.some.inj hf)) (congrArg (fun z => (M, z.2.1, z.2.2.1, z.2.2.2.1)) (Option.some.inj hf)) hw dX0_pull_30
  · have hf := it_neg c_7 hf
    refine lv_aload_n FX.1 FX.2.1 dX0_pull_10 rfl (lv_at hl 1 rfl) ?_
    refine lv_iload_n FX.1 FX.2.1 dX0_pull_11 rfl (lv_at hl 0 rfl) ?_
    refine bd hf (fun t7 h_t7 hf => ?_)
    refine clV_i0 (As := [.int t1]) (rest := []) FX hw (wX0_none h_t7) (cwV 1 FX.2.2.2.2 (lw_V q620 q622 qs3 q134 q623) rfl rfl rfl (by decide +kernel) ⟨Nat.le_of_ble_eq_true rfl, Nat.le_of_ble_eq_true rfl⟩) (fx_obj hw (o := (131, 0, 100, 31)) (by decide)) rfl rfl hl.1 rfl (lv_room (Nat.le_of_ble_eq_true rfl)) dX0_pull_12 ⟨rfl, rfl⟩ hm.le (fun H locs hw => ?_)
    refine lv_goto (tgt := 30) FX.1 FX.2.1 dX0_pull_15 (by decide) ?_
    have hk : K = t.2.2 := congrArg (fun z => z.2.2) (Option.some.inj hf)
    have hm : Cn K t.2.2 0 0 := hk ▸ hm
    refine w_cast hm.end_.1 hm.end_.2 ?_
    exact hret _ _ rfl (congrArg (fun z => z.1) (Option.some.inj hf)) (congrArg (fun z => (M, z.2.1, z.2.2.1, z.2.2.2.1)) (Option.some.inj hf)) hw dX0_pull_30
abbrev rmX4_leaves : Room := { frames := 6, cells := 0, slots := 0, locals := 400 }
set_option maxHeartbeats 4000000 in
theorem wX4_leaves {l : Launch} {G : GT} {M C : FS} {K : KT} {a : Nat} {p1 : Int32} {t : KT} (hf : fX4_leaves K a p1 = some t) : CtV l yX4_leaves (ws_ yX4_leaves cX4_leaves 3 none) rmX4_leaves G [.ref a, .int p1] (M, C, K.1, K.2.1) (M, C, t.1, t.2.1) := by
  refine mkV (by decide) (Nat.le_of_ble_eq_true rfl) (fun p e s m a0 below meth c Q FX hw hname hret ls hl => ?_)
  have hl : lv_has ls 3 [(0, .ref a), (1, .int p1)] := hl
  unfold fX4_leaves at hf
  refine lv_aload_n FX.1 FX.2.1 dX4_leaves_0 rfl (lv_at hl 0 rfl) ?_
  refine bd hf (fun v1 h_v1 hf => ?_)
  refine gX4_51 FX hw h_v1 dX4_leaves_1 ?_
  refine lv_iconst (v := 1) FX.1 FX.2.1 dX4_leaves_4 (by decide) ?_
  refine lv_isub FX.1 FX.2.1 dX4_leaves_5 ?_
  refine lv_istore_n (lv' := [(2, .int (v1 - 1)), (0, .ref a), (1, .int p1)]) FX.1 FX.2.1 dX4_leaves_6 rfl hl (by decide) rfl (fun ls hl => ?_)
  refine bd hf (fun u7 ht hf => ?_)
  obtain ⟨n, hn⟩ := lp_iff.mp ht
  have hX7 : ∀ (Kt7 : KT) (H : Heap) (locs : List Loc) (ls : Array Slot) , Kt7 = u7 → WS G (M, C, Kt7.1, Kt7.2.1) s H locs → lv_has ls 3 [] → W p l e rmX4_leaves s m a0 below meth c H locs 0 0 Q (F0 m 35 ls []) := by
    intro Kt7 H locs ls he hw hl
    subst he
    exact hret _ (congrArg (fun z => (M, C, z.1, z.2.1)) (Option.some.inj hf)) hw dX4_leaves_35
  have hL7 : ∀ (n : Nat) (z7_2 : Int32) (Kz7 : KT) (H : Heap) (locs : List Loc) (ls : Array Slot) , lpN (fun z => fX4_leaves_L7 a p1 z.1 z.2) n (z7_2, Kz7) = some u7 → WS G (M, C, Kz7.1, Kz7.2.1) s H locs → lv_has ls 3 [(0, .ref a), (1, .int p1), (2, .int z7_2)] → W p l e rmX4_leaves s m a0 below meth c H locs 0 0 Q (F0 m 7 ls []) := by
    intro n
    induction n with
    | zero => intro z7_2 Kz7 H locs ls hz; cases hz
    | succ n ih =>
      intro z7_2 Kz7 H locs ls hz hw hl
      refine bd (show (fX4_leaves_L7 a p1 z7_2 Kz7).bind _ = some u7 from hz) (fun x7 hf hk7 => ?_)
      unfold fX4_leaves_L7 at hf
      refine lv_iload_n FX.1 FX.2.1 dX4_leaves_7 rfl (lv_at hl 2 rfl) ?_
      refine lv_if_lt (tgt := 35) FX.1 FX.2.1 dX4_leaves_8 (by decide) (fun c_8 => ?_) (fun c_8 => ?_)
      · have hf := it_pos c_8 hf
        exact hX7 _ _ _ _ (lpe hf hk7) hw (lv_sub hl [] rfl)
      · have hf := it_neg c_8 hf
        refine lv_aload_n FX.1 FX.2.1 dX4_leaves_11 rfl (lv_at hl 0 rfl) ?_
        refine bd hf (fun a2 h_a2 hf => ?_)
        refine gX4_19 FX hw h_a2 dX4_leaves_12 ?_
        refine lv_iload_n FX.1 FX.2.1 dX4_leaves_15 rfl (lv_at hl 2 rfl) ?_
        refine bd hf (fun a3 h_a3 hf => ?_)
        refine ei_aald 4 rfl FX hw h_a3 dX4_leaves_16 ?_
        refine lv_iload_n FX.1 FX.2.1 dX4_leaves_17 rfl (lv_at hl 1 rfl) ?_
        refine bd hf (fun t4 h_t4 hf => ?_)
        refine vc_isOf (rest := []) FX hw h_t4 q1045 hl.1 rfl (lv_room (Nat.le_of_ble_eq_true rfl)) dX4_leaves_18 ⟨Nat.le_of_ble_eq_true rfl, Nat.le_of_ble_eq_true rfl⟩ ⟨Nat.zero_le _, Nat.zero_le _⟩ (fun H locs hw => ?_)
        refine lv_if_eq (tgt := 29) FX.1 FX.2.1 dX4_leaves_21 (by decide) (fun c_21 => ?_) (fun c_21 => ?_)
        · have hf := it_pos c_21 hf
          refine lv_iinc (v := (z7_2 + (-1))) (lv' := [(2, .int (z7_2 + (-1))), (0, .ref a), (1, .int p1)]) FX.1 FX.2.1 dX4_leaves_29 hl (k := 2) rfl (congrArg (fun q : Int32 => z7_2 + q) (by decide : Int32.ofInt (-1) = (-1))) (by decide) rfl (fun ls hl => ?_)
          refine lv_goto (tgt := 7) FX.1 FX.2.1 dX4_leaves_32 (by decide) ?_
          exact ih _ _ _ _ _ (lpc hf hk7) hw (lv_sub hl [1, 2, 0] rfl)
        · have hf := it_neg c_21 hf
          refine lv_aload_n FX.1 FX.2.1 dX4_leaves_24 rfl (lv_at hl 0 rfl) ?_
          refine lv_iload_n FX.1 FX.2.1 dX4_leaves_25 rfl (lv_at hl 2 rfl) ?_
          refine bd hf (fun g5 h_g5 hf => ?_)
          refine bd hf (fun t6 h_t6 hf => ?_)
          obtain ⟨fs_g5, he_g5⟩ := dC_some (gC_some h_g5)
          refine clV_v0 (As := [.int z7_2]) (rest := []) FX hw (wX4_drops h_t6) (cwV 1 FX.2.2.2.2 (lw_V q1157 q1158 q1159 q141 q1160) rfl rfl rfl (by decide +kernel) ⟨Nat.le_of_ble_eq_true rfl, Nat.le_of_ble_eq_true rfl⟩) (dyn_he hw he_g5) rfl rfl hl.1 rfl (lv_room (Nat.le_of_ble_eq_true rfl)) dX4_leaves_26 ⟨rfl, rfl⟩ ⟨Nat.zero_le _, Nat.zero_le _⟩ (fun H locs hw => ?_)
          refine lv_iinc (v := (z7_2 + (-1))) (lv' := [(2, .int (z7_2 + (-1))), (0, .ref a), (1, .int p1)]) FX.1 FX.2.1 dX4_leaves_29 hl (k := 2) rfl (congrArg (fun q : Int32 => z7_2 + q) (by decide : Int32.ofInt (-1) = (-1))) (by decide) rfl (fun ls hl => ?_)
          refine lv_goto (tgt := 7) FX.1 FX.2.1 dX4_leaves_32 (by decide) ?_
          exact ih _ _ _ _ _ (lpc hf hk7) hw (lv_sub hl [1, 2, 0] rfl)
  exact hL7 n _ _ _ _ _ hn hw (lv_sub hl [1, 2, 0] rfl)
abbrev rmX4_cuts : Room := { frames := 7, cells := 0, slots := 0, locals := 423 }
set_option maxHeartbeats 4000000 in
theorem wX4_cuts {l : Launch} {G : GT} {M C : FS} {K : KT} {a : Nat} {p1 : Int32} {t : (Int32 × KT)} (hf : fX4_cuts K a p1 = some t) : CtI l yX4_cuts (ws_ yX4_cuts cX4_cuts 3 (some .int)) rmX4_cuts G [.ref a, .int p1] (M, C, K.1, K.2.1) t.1 (M, C, t.2.1, t.2.2.1) := by
  refine mkI (ty := .int) (by decide) (Nat.le_of_ble_eq_true rfl) (fun p e s m a0 below meth c Q FX hw hname hret ls hl => ?_)
  have hl : lv_has ls 3 [(0, .ref a), (1, .int p1)] := hl
  unfold fX4_cuts at hf
  refine lv_aload_n FX.1 FX.2.1 dX4_cuts_0 rfl (lv_at hl 0 rfl) ?_
  refine lv_iload_n FX.1 FX.2.1 dX4_cuts_1 rfl (lv_at hl 1 rfl) ?_
  refine bd hf (fun g1 h_g1 hf => ?_)
  refine bd hf (fun t2 h_t2 hf => ?_)
  obtain ⟨fs_g1, he_g1⟩ := dC_some (gC_some h_g1)
  refine clV_i0 (As := [.int p1]) (rest := []) FX hw (wX4_crossings h_t2) (cwV 1 FX.2.2.2.2 (lw_V q1126 q1042 q1043 q141 q1044) rfl rfl rfl (by decide +kernel) ⟨Nat.le_of_ble_eq_true rfl, Nat.le_of_ble_eq_true rfl⟩) (dyn_he hw he_g1) rfl rfl hl.1 rfl (lv_room (Nat.le_of_ble_eq_true rfl)) dX4_cuts_2 ⟨rfl, rfl⟩ ⟨Nat.zero_le _, Nat.zero_le _⟩ (fun H locs hw => ?_)
  refine lv_istore_n (lv' := [(2, .int t2), (0, .ref a), (1, .int p1)]) FX.1 FX.2.1 dX4_cuts_5 rfl hl (by decide) rfl (fun ls hl => ?_)
  refine lv_aload_n FX.1 FX.2.1 dX4_cuts_6 rfl (lv_at hl 1 rfl) ?_
  refine lv_iload_n FX.1 FX.2.1 dX4_cuts_7 rfl (lv_at hl 2 rfl) ?_
  refine bd hf (fun g3 h_g3 hf => ?_)
  refine bd hf (fun t4 h_t4 hf => ?_)
  obtain ⟨fs_g3, he_g3⟩ := dC_some (gC_some h_g3)
  refine clV_v0 (As := [.int p1]) (rest := []) FX hw (wX4_leaves h_t4) (cwV 1 FX.2.2.2.2 (lw_V q1243 q1244 q1245 q141 q1246) rfl rfl rfl (by decide +kernel) ⟨Nat.le_of_ble_eq_true rfl, Nat.le_of_ble_eq_true rfl⟩) (dyn_he hw he_g3) rfl rfl hl.1 rfl (lv_room (Nat.le_of_ble_eq_true rfl)) dX4_cuts_8 ⟨rfl, rfl⟩ ⟨Nat.zero_le _, Nat.zero_le _⟩ (fun H locs hw => ?_)
  refine lv_aload_n FX.1 FX.2.1 dX4_cuts_11 rfl (lv_at hl 1 rfl) ?_
  refine bd hf (fun a5 h_a5 hf => ?_)
  refine gX4_11 FX hw h_a5 dX4_cuts_12 ?_
  refine lv_iload_n FX.1 FX.2.1 dX4_cuts_15 rfl (lv_at hl 2 rfl) ?_
  refine bd hf (fun a6 h_a6 hf => ?_)
  refine ei_aald 5 rfl FX hw h_a6 dX4_cuts_16 ?_
  refine lv_iconst (v := 1) FX.1 FX.2.1 dX4_cuts_17 (by decide) ?_
  refine bd hf (fun K7 h_K7 hf => ?_)
  refine sX4_70 FX hw (Or.inr rfl) h_K7 dX4_cuts_18 (fun H locs hw => ?_)
  refine lv_aload_n FX.1 FX.2.1 dX4_cuts_21 rfl (lv_at hl 1 rfl) ?_
  refine lv_dup FX.1 FX.2.1 dX4_cuts_22 rfl ?_
  refine bd hf (fun v8 h_v8 hf => ?_)
  refine gX4_60 FX hw h_v8 dX4_cuts_23 ?_
  refine lv_aload_n FX.1 FX.2.1 dX4_cuts_26 rfl (lv_at hl 1 rfl) ?_
  refine bd hf (fun a9 h_a9 hf => ?_)
  refine gX4_11 FX hw h_a9 dX4_cuts_27 ?_
  refine lv_iload_n FX.1 FX.2.1 dX4_cuts_30 rfl (lv_at hl 2 rfl) ?_
  refine bd hf (fun a10 h_a10 hf => ?_)
  refine ei_aald 5 rfl FX hw h_a10 dX4_cuts_31 ?_
  refine bd hf (fun v11 h_v11 hf => ?_)
  refine gX4_145 FX hw h_v11 dX4_cuts_32 ?_
  refine lv_iadd FX.1 FX.2.1 dX4_cuts_35 ?_
  refine bd hf (fun K12 h_K12 hf => ?_)
  refine sX4_60 FX hw h_K12 dX4_cuts_36 (fun H locs hw => ?_)
  refine lv_iload_n FX.1 FX.2.1 dX4_cuts_39 rfl (lv_at hl 0 rfl) ?_
  exact hret _ _ rfl (congrArg (fun z => z.1) (Option.some.inj hf)) (congrArg (fun z => (M, C, z.2.1, z.2.2.1)) (Option.some.inj hf)) hw dX4_cuts_40
abbrev rmX0_cut : Room := { frames := 8, cells := 0, slots := 0, locals := 445 }
set_option maxHeartbeats 4000000 in
theorem wX0_cut {l : Launch} {G : GT} {M C : FS} {K : KT} {p1 : Int32} {t : (Int32 × FS × KT)} (hf : fX0_cut C K p1 = some t) : CtI l yX0_cut (ws_ yX0_cut cX0_cut 3 (some .int)) rmX0_cut G [.ref (G.2.2.2 131), .int p1] (M, C, K.1, K.2.1) t.1 (M, t.2.1, t.2.2.1, t.2.2.2.1) := by
  refine mkI (ty := .int) (by decide) (Nat.le_of_ble_eq_true rfl) (fun p e s m a0 below meth c Q FX hw hname hret ls hl => ?_)
  have hl : lv_has ls 3 [(0, .ref (G.2.2.2 131)), (1, .int p1)] := hl
  unfold fX0_cut at hf
  refine lv_aload_n FX.1 FX.2.1 dX0_cut_0 rfl (lv_at hl 0 rfl) ?_
  refine lv_iload_n FX.1 FX.2.1 dX0_cut_1 rfl (lv_at hl 1 rfl) ?_
  refine bd hf (fun t1 h_t1 hf => ?_)
  refine clV_i0 (As := [.int p1]) (rest := []) FX hw (wX0_wrongLead h_t1) (cwV 1 FX.2.2.2.2 (lw_V q1193 q1195 qs24 q134 q1196) rfl rfl rfl (by decide +kernel) ⟨Nat.le_of_ble_eq_true rfl, Nat.le_of_ble_eq_true rfl⟩) (fx_obj hw (o := (131, 0, 100, 31)) (by decide)) rfl rfl hl.1 rfl (lv_room (Nat.le_of_ble_eq_true rfl)) dX0_cut_2 ⟨rfl, rfl⟩ ⟨Nat.zero_le _, Nat.zero_le _⟩ (fun H locs hw => ?_)
  refine lv_istore_n (lv' := [(2, .int t1), (0, .ref (G.2.2.2 131)), (1, .int p1)]) FX.1 FX.2.1 dX0_cut_5 rfl hl (by decide) rfl (fun ls hl => ?_)
  refine lv_iload_n FX.1 FX.2.1 dX0_cut_6 rfl (lv_at hl 0 rfl) ?_
  refine lv_if_le (tgt := 18) FX.1 FX.2.1 dX0_cut_7 (by decide) (fun c_7 => ?_) (fun c_7 => ?_)
  · have hf := it_pos c_7 hf
    refine lv_aload_n FX.1 FX.2.1 dX0_cut_18 rfl (lv_at hl 1 rfl) ?_
    refine lv_aload_n FX.1 FX.2.1 dX0_cut_19 rfl (lv_at hl 1 rfl) ?_
    refine gX0_38 FX hw dX0_cut_20 ?_
    refine bd hf (fun a2 h_a2 hf => ?_)
    rw [show va_rf (C.2.2.1 103) = .ref a2 from congrArg va_rf h_a2]
    refine lv_iload_n FX.1 FX.2.1 dX0_cut_23 rfl (lv_at hl 2 rfl) ?_
    refine bd hf (fun g3 h_g3 hf => ?_)
    refine bd hf (fun t4 h_t4 hf => ?_)
    obtain ⟨fs_g3, he_g3⟩ := dC_some (gC_some h_g3)
    refine clV_i0 (As := [.int p1]) (rest := [.ref (G.2.2.2 131)]) FX hw (wX4_cuts h_t4) (cwV 1 FX.2.2.2.2 (lw_V q1239 q1240 q1241 q141 q1242) rfl rfl rfl (by decide +kernel) ⟨Nat.le_of_ble_eq_true rfl, Nat.le_of_ble_eq_true rfl⟩) (dyn_he hw he_g3) rfl rfl hl.1 rfl (lv_room (Nat.le_of_ble_eq_true rfl)) dX0_cut_24 ⟨rfl, rfl⟩ ⟨Nat.zero_le _, Nat.zero_le _⟩ (fun H locs hw => ?_)
    refine bd hf (fun t5 h_t5 hf => ?_)
    refine clV_i0 (As := [.int t4.1]) (rest := []) FX hw (wX0_gives h_t5) (cwV 1 FX.2.2.2.2 (lw_V q962 q964 qs16 q134 q965) rfl rfl rfl (by decide +kernel) ⟨Nat.le_of_ble_eq_true rfl, Nat.le_of_ble_eq_true rfl⟩) (fx_obj hw (o := (131, 0, 100, 31)) (by decide)) rfl rfl hl.1 rfl (lv_room (Nat.le_of_ble_eq_true rfl)) dX0_cut_27 ⟨rfl, rfl⟩ ⟨Nat.zero_le _, Nat.zero_le _⟩ (fun H locs hw => ?_)
    exact hret _ _ rfl (congrArg (fun z => z.1) (Option.some.inj hf)) (congrArg (fun z => (M, z.2.1, z.2.2.1, z.2.2.2.1)) (Option.some.inj hf)) hw dX0_cut_30
  · have hf := it_neg c_7 hf
    refine lv_aload_n FX.1 FX.2.1 dX0_cut_10 rfl (lv_at hl 1 rfl) ?_
    refine lv_iload_n FX.1 FX.2.1 dX0_cut_11 rfl (lv_at hl 0 rfl) ?_
    refine bd hf (fun t6 h_t6 hf => ?_)
    refine clV_i0 (As := [.int t1]) (rest := []) FX hw (wX0_none h_t6) (cwV 1 FX.2.2.2.2 (lw_V q620 q622 qs3 q134 q623) rfl rfl rfl (by decide +kernel) ⟨Nat.le_of_ble_eq_true rfl, Nat.le_of_ble_eq_true rfl⟩) (fx_obj hw (o := (131, 0, 100, 31)) (by decide)) rfl rfl hl.1 rfl (lv_room (Nat.le_of_ble_eq_true rfl)) dX0_cut_12 ⟨rfl, rfl⟩ ⟨Nat.zero_le _, Nat.zero_le _⟩ (fun H locs hw => ?_)
    refine lv_goto (tgt := 30) FX.1 FX.2.1 dX0_cut_15 (by decide) ?_
    exact hret _ _ rfl (congrArg (fun z => z.1) (Option.some.inj hf)) (congrArg (fun z => (M, z.2.1, z.2.2.1, z.2.2.2.1)) (Option.some.inj hf)) hw dX0_cut_30
abbrev rmX7_mayTangle : Room := { frames := 0, cells := 0, slots := 0, locals := 0 }
set_option maxHeartbeats 4000000 in
theorem wX7_mayTangle {l : Launch} {G : GT} {M C : FS} {K : KT} {a : Nat} {t : Int32} (hf : fX7_mayTangle K a = some t) : CtI l yX7_mayTangle (ws_ yX7_mayTangle cX7_mayTangle 1 (some .boolean)) rmX7_mayTangle G [.ref a] (M, C, K.1, K.2.1) t (M, C, K.1, K.2.1) := by
  refine mkI (ty := .boolean) (by decide) (Nat.le_of_ble_eq_true rfl) (fun p e s m a0 below meth c Q FX hw hname hret ls hl => ?_)
  have hl : lv_has ls 1 [(0, .ref a)] := hl
  unfold fX7_mayTangle at hf
  refine lv_aload_n FX.1 FX.2.1 dX7_mayTangle_0 rfl (lv_at hl 0 rfl) ?_
  refine bd hf (fun v1 h_v1 hf => ?_)
  refine gX7_41 FX hw h_v1 dX7_mayTangle_1 ?_
  refine lv_if_ne (tgt := 18) FX.1 FX.2.1 dX7_mayTangle_4 (by decide) (fun c_4 => ?_) (fun c_4 => ?_)
  · have hf := it_neg c_4 hf
    refine lv_iconst (v := 0) FX.1 FX.2.1 dX7_mayTangle_18 (by decide) ?_
    exact hret _ _ rfl (congrArg (fun z => z) (Option.some.inj hf)) rfl hw dX7_mayTangle_19
  · have hf := it_pos c_4 hf
    refine lv_aload_n FX.1 FX.2.1 dX7_mayTangle_7 rfl (lv_at hl 0 rfl) ?_
    refine bd hf (fun v2 h_v2 hf => ?_)
    refine gX7_37 FX hw h_v2 dX7_mayTangle_8 ?_
    refine lv_if_ne (tgt := 18) FX.1 FX.2.1 dX7_mayTangle_11 (by decide) (fun c_11 => ?_) (fun c_11 => ?_)
    · have hf := it_neg c_11 hf
      refine lv_iconst (v := 0) FX.1 FX.2.1 dX7_mayTangle_18 (by decide) ?_
      exact hret _ _ rfl (congrArg (fun z => z) (Option.some.inj hf)) rfl hw dX7_mayTangle_19
    · have hf := it_pos c_11 hf
      refine lv_iconst (v := 1) FX.1 FX.2.1 dX7_mayTangle_14 (by decide) ?_
      refine lv_goto (tgt := 19) FX.1 FX.2.1 dX7_mayTangle_15 (by decide) ?_
      exact hret _ _ rfl (congrArg (fun z => z) (Option.some.inj hf)) rfl hw dX7_mayTangle_19
abbrev rmX4_clips : Room := { frames := 7, cells := 0, slots := 0, locals := 423 }
set_option maxHeartbeats 4000000 in
theorem wX4_clips {l : Launch} {G : GT} {M C : FS} {K : KT} {a : Nat} {p1 : Int32} {t : (Int32 × KT)} (hf : fX4_clips K a p1 = some t) : CtI l yX4_clips (ws_ yX4_clips cX4_clips 2 (some .boolean)) rmX4_clips G [.ref a, .int p1] (M, C, K.1, K.2.1) t.1 (M, C, t.2.1, t.2.2.1) := by
  refine mkI (ty := .boolean) (by decide) (Nat.le_of_ble_eq_true rfl) (fun p e s m a0 below meth c Q FX hw hname hret ls hl => ?_)
  have hl : lv_has ls 2 [(0, .ref a), (1, .int p1)] := hl
  unfold fX4_clips at hf
  refine lv_aload_n FX.1 FX.2.1 dX4_clips_0 rfl (lv_at hl 0 rfl) ?_
  refine bd hf (fun a1 h_a1 hf => ?_)
  refine gX4_11 FX hw h_a1 dX4_clips_1 ?_
  refine lv_iload_n FX.1 FX.2.1 dX4_clips_4 rfl (lv_at hl 1 rfl) ?_
  refine bd hf (fun a2 h_a2 hf => ?_)
  refine ei_aald 5 rfl FX hw h_a2 dX4_clips_5 ?_
  refine bd hf (fun g3 h_g3 hf => ?_)
  refine bd hf (fun t4 h_t4 hf => ?_)
  obtain ⟨fs_g3, he_g3⟩ := dC_some (gC_some h_g3)
  refine clV_i0 (As := []) (rest := []) FX hw (wX7_mayTangle h_t4) (cwV 0 FX.2.2.2.2 (lw_V q1255 q1256 q1257 q154 q1258) rfl rfl rfl (by decide +kernel) ⟨Nat.le_of_ble_eq_true rfl, Nat.le_of_ble_eq_true rfl⟩) (dyn_he hw he_g3) rfl rfl hl.1 rfl (lv_room (Nat.le_of_ble_eq_true rfl)) dX4_clips_6 ⟨rfl, rfl⟩ ⟨Nat.zero_le _, Nat.zero_le _⟩ (fun H locs hw => ?_)
  refine lv_if_eq (tgt := 20) FX.1 FX.2.1 dX4_clips_9 (by decide) (fun c_9 => ?_) (fun c_9 => ?_)
  · have hf := it_pos c_9 hf
    refine lv_iconst (v := 0) FX.1 FX.2.1 dX4_clips_20 (by decide) ?_
    exact hret _ _ rfl (congrArg (fun z => z.1) (Option.some.inj hf)) (congrArg (fun z => (M, C, z.2.1, z.2.2.1)) (Option.some.inj hf)) hw dX4_clips_21
  · have hf := it_neg c_9 hf
    refine lv_aload_n FX.1 FX.2.1 dX4_clips_12 rfl (lv_at hl 0 rfl) ?_
    refine lv_iload_n FX.1 FX.2.1 dX4_clips_13 rfl (lv_at hl 1 rfl) ?_
    refine bd hf (fun g5 h_g5 hf => ?_)
    refine bd hf (fun t6 h_t6 hf => ?_)
    obtain ⟨fs_g5, he_g5⟩ := dC_some (gC_some h_g5)
    refine clV_i0 (As := [.int p1]) (rest := []) FX hw (wX4_crossings h_t6) (cwV 1 FX.2.2.2.2 (lw_V q1126 q1042 q1043 q141 q1044) rfl rfl rfl (by decide +kernel) ⟨Nat.le_of_ble_eq_true rfl, Nat.le_of_ble_eq_true rfl⟩) (dyn_he hw he_g5) rfl rfl hl.1 rfl (lv_room (Nat.le_of_ble_eq_true rfl)) dX4_clips_14 ⟨rfl, rfl⟩ ⟨Nat.zero_le _, Nat.zero_le _⟩ (fun H locs hw => ?_)
    refine lv_if_le (tgt := 22) FX.1 FX.2.1 dX4_clips_17 (by decide) (fun c_17 => ?_) (fun c_17 => ?_)
    · have hf := it_pos c_17 hf
      refine lv_aload_n FX.1 FX.2.1 dX4_clips_22 rfl (lv_at hl 0 rfl) ?_
      refine bd hf (fun a7 h_a7 hf => ?_)
      refine gX4_11 FX hw h_a7 dX4_clips_23 ?_
      refine lv_iload_n FX.1 FX.2.1 dX4_clips_26 rfl (lv_at hl 1 rfl) ?_
      refine bd hf (fun a8 h_a8 hf => ?_)
      refine ei_aald 5 rfl FX hw h_a8 dX4_clips_27 ?_
      refine lv_iconst (v := 1) FX.1 FX.2.1 dX4_clips_28 (by decide) ?_
      refine bd hf (fun K9 h_K9 hf => ?_)
      refine sX4_151 FX hw (Or.inr rfl) h_K9 dX4_clips_29 (fun H locs hw => ?_)
      refine lv_aload_n FX.1 FX.2.1 dX4_clips_32 rfl (lv_at hl 0 rfl) ?_
      refine lv_dup FX.1 FX.2.1 dX4_clips_33 rfl ?_
      refine bd hf (fun v10 h_v10 hf => ?_)
      refine gX4_57 FX hw h_v10 dX4_clips_34 ?_
      refine lv_bipush (v := 12) FX.1 FX.2.1 dX4_clips_37 (by decide) ?_
      refine lv_iadd FX.1 FX.2.1 dX4_clips_39 ?_
      refine bd hf (fun K11 h_K11 hf => ?_)
      refine sX4_57 FX hw h_K11 dX4_clips_40 (fun H locs hw => ?_)
      refine lv_iconst (v := 1) FX.1 FX.2.1 dX4_clips_43 (by decide) ?_
      exact hret _ _ rfl (congrArg (fun z => z.1) (Option.some.inj hf)) (congrArg (fun z => (M, C, z.2.1, z.2.2.1)) (Option.some.inj hf)) hw dX4_clips_44
    · have hf := it_neg c_17 hf
      refine lv_iconst (v := 0) FX.1 FX.2.1 dX4_clips_20 (by decide) ?_
      exact hret _ _ rfl (congrArg (fun z => z.1) (Option.some.inj hf)) (congrArg (fun z => (M, C, z.2.1, z.2.2.1)) (Option.some.inj hf)) hw dX4_clips_21
abbrev rmX0_clip : Room := { frames := 8, cells := 0, slots := 0, locals := 444 }
set_option maxHeartbeats 4000000 in
theorem wX0_clip {l : Launch} {G : GT} {M C : FS} {K : KT} {p1 : Int32} {t : (Int32 × FS × KT)} (hf : fX0_clip C K p1 = some t) : CtI l yX0_clip (ws_ yX0_clip cX0_clip 2 (some .boolean)) rmX0_clip G [.ref (G.2.2.2 131), .int p1] (M, C, K.1, K.2.1) t.1 (M, t.2.1, t.2.2.1, t.2.2.2.1) := by
  refine mkI (ty := .boolean) (by decide) (Nat.le_of_ble_eq_true rfl) (fun p e s m a0 below meth c Q FX hw hname hret ls hl => ?_)
  have hl : lv_has ls 2 [(0, .ref (G.2.2.2 131)), (1, .int p1)] := hl
  unfold fX0_clip at hf
  refine lv_aload_n FX.1 FX.2.1 dX0_clip_0 rfl (lv_at hl 0 rfl) ?_
  refine lv_aload_n FX.1 FX.2.1 dX0_clip_1 rfl (lv_at hl 0 rfl) ?_
  refine lv_iload_n FX.1 FX.2.1 dX0_clip_2 rfl (lv_at hl 1 rfl) ?_
  refine bd hf (fun t1 h_t1 hf => ?_)
  refine clV_i0 (As := [.int p1]) (rest := [.ref (G.2.2.2 131)]) FX hw (wX0_isLead h_t1) (cwV 1 FX.2.2.2.2 (lw_V q1037 q1039 qs20 q134 q1040) rfl rfl rfl (by decide +kernel) ⟨Nat.le_of_ble_eq_true rfl, Nat.le_of_ble_eq_true rfl⟩) (fx_obj hw (o := (131, 0, 100, 31)) (by decide)) rfl rfl hl.1 rfl (lv_room (Nat.le_of_ble_eq_true rfl)) dX0_clip_3 ⟨rfl, rfl⟩ ⟨Nat.zero_le _, Nat.zero_le _⟩ (fun H locs hw => ?_)
  refine lv_if_ne (tgt := 13) FX.1 FX.2.1 dX0_clip_6 (by decide) (fun c_6 => ?_) (fun c_6 => ?_)
  · have hf := it_neg c_6 hf
    refine lv_aload_n FX.1 FX.2.1 dX0_clip_13 rfl (lv_at hl 0 rfl) ?_
    refine gX0_38 FX hw dX0_clip_14 ?_
    refine bd hf (fun a2 h_a2 hf => ?_)
    rw [show va_rf (C.2.2.1 103) = .ref a2 from congrArg va_rf h_a2]
    refine lv_iload_n FX.1 FX.2.1 dX0_clip_17 rfl (lv_at hl 1 rfl) ?_
    refine bd hf (fun g3 h_g3 hf => ?_)
    refine bd hf (fun t4 h_t4 hf => ?_)
    obtain ⟨fs_g3, he_g3⟩ := dC_some (gC_some h_g3)
    refine clV_i0 (As := [.int p1]) (rest := [.ref (G.2.2.2 131)]) FX hw (wX4_clips h_t4) (cwV 1 FX.2.2.2.2 (lw_V q1251 q1252 q1253 q141 q1254) rfl rfl rfl (by decide +kernel) ⟨Nat.le_of_ble_eq_true rfl, Nat.le_of_ble_eq_true rfl⟩) (dyn_he hw he_g3) rfl rfl hl.1 rfl (lv_room (Nat.le_of_ble_eq_true rfl)) dX0_clip_18 ⟨rfl, rfl⟩ ⟨Nat.zero_le _, Nat.zero_le _⟩ (fun H locs hw => ?_)
    refine lv_if_eq (tgt := 28) FX.1 FX.2.1 dX0_clip_21 (by decide) (fun c_21 => ?_) (fun c_21 => ?_)
    · have hf := it_pos c_21 hf
      refine lv_bipush (v := 9) FX.1 FX.2.1 dX0_clip_28 (by decide) ?_
      refine bd hf (fun t5 h_t5 hf => ?_)
      refine clV_i0 (As := [.int 9]) (rest := []) FX hw (wX0_is h_t5) (cwV 1 FX.2.2.2.2 (lw_V q551 q553 qs2 q134 q554) rfl rfl rfl (by decide +kernel) ⟨Nat.le_of_ble_eq_true rfl, Nat.le_of_ble_eq_true rfl⟩) (fx_obj hw (o := (131, 0, 100, 31)) (by decide)) rfl rfl hl.1 rfl (lv_room (Nat.le_of_ble_eq_true rfl)) dX0_clip_30 ⟨rfl, rfl⟩ ⟨Nat.zero_le _, Nat.zero_le _⟩ (fun H locs hw => ?_)
      refine bd hf (fun b6 h_b6 hf => ?_)
      exact hret _ _ (bool_nar (bz_or h_b6)) (congrArg (fun z => z.1) (Option.some.inj hf)) (congrArg (fun z => (M, z.2.1, z.2.2.1, z.2.2.2.1)) (Option.some.inj hf)) hw dX0_clip_33
    · have hf := it_neg c_21 hf
      refine lv_iconst (v := 0) FX.1 FX.2.1 dX0_clip_24 (by decide) ?_
      refine lv_goto (tgt := 30) FX.1 FX.2.1 dX0_clip_25 (by decide) ?_
      refine bd hf (fun t7 h_t7 hf => ?_)
      refine clV_i0 (As := [.int 0]) (rest := []) FX hw (wX0_is h_t7) (cwV 1 FX.2.2.2.2 (lw_V q551 q553 qs2 q134 q554) rfl rfl rfl (by decide +kernel) ⟨Nat.le_of_ble_eq_true rfl, Nat.le_of_ble_eq_true rfl⟩) (fx_obj hw (o := (131, 0, 100, 31)) (by decide)) rfl rfl hl.1 rfl (lv_room (Nat.le_of_ble_eq_true rfl)) dX0_clip_30 ⟨rfl, rfl⟩ ⟨Nat.zero_le _, Nat.zero_le _⟩ (fun H locs hw => ?_)
      refine bd hf (fun b8 h_b8 hf => ?_)
      exact hret _ _ (bool_nar (bz_or h_b8)) (congrArg (fun z => z.1) (Option.some.inj hf)) (congrArg (fun z => (M, z.2.1, z.2.2.1, z.2.2.2.1)) (Option.some.inj hf)) hw dX0_clip_33
  · have hf := it_pos c_6 hf
    refine lv_iconst (v := 2) FX.1 FX.2.1 dX0_clip_9 (by decide) ?_
    refine lv_goto (tgt := 30) FX.1 FX.2.1 dX0_clip_10 (by decide) ?_
    refine bd hf (fun t9 h_t9 hf => ?_)
    refine clV_i0 (As := [.int 2]) (rest := []) FX hw (wX0_is h_t9) (cwV 1 FX.2.2.2.2 (lw_V q551 q553 qs2 q134 q554) rfl rfl rfl (by decide +kernel) ⟨Nat.le_of_ble_eq_true rfl, Nat.le_of_ble_eq_true rfl⟩) (fx_obj hw (o := (131, 0, 100, 31)) (by decide)) rfl rfl hl.1 rfl (lv_room (Nat.le_of_ble_eq_true rfl)) dX0_clip_30 ⟨rfl, rfl⟩ ⟨Nat.zero_le _, Nat.zero_le _⟩ (fun H locs hw => ?_)
    refine bd hf (fun b10 h_b10 hf => ?_)
    exact hret _ _ (bool_nar (bz_or h_b10)) (congrArg (fun z => z.1) (Option.some.inj hf)) (congrArg (fun z => (M, z.2.1, z.2.2.1, z.2.2.2.1)) (Option.some.inj hf)) hw dX0_clip_33
abbrev rmX0_unclip : Room := { frames := 2, cells := 0, slots := 0, locals := 42 }
set_option maxHeartbeats 4000000 in
theorem wX0_unclip {l : Launch} {G : GT} {M C : FS} {K : KT} {p1 : Int32} {t : (Int32 × FS × KT)} (hf : fX0_unclip C K p1 = some t) : CtI l yX0_unclip (ws_ yX0_unclip cX0_unclip 3 (some .boolean)) rmX0_unclip G [.ref (G.2.2.2 131), .int p1] (M, C, K.1, K.2.1) t.1 (M, t.2.1, t.2.2.1, t.2.2.2.1) := by
  refine mkI (ty := .boolean) (by decide) (Nat.le_of_ble_eq_true rfl) (fun p e s m a0 below meth c Q FX hw hname hret ls hl => ?_)
  have hl : lv_has ls 3 [(0, .ref (G.2.2.2 131)), (1, .int p1)] := hl
  unfold fX0_unclip at hf
  refine lv_aload_n FX.1 FX.2.1 dX0_unclip_0 rfl (lv_at hl 0 rfl) ?_
  refine lv_iload_n FX.1 FX.2.1 dX0_unclip_1 rfl (lv_at hl 1 rfl) ?_
  refine bd hf (fun t1 h_t1 hf => ?_)
  refine clV_i0 (As := [.int p1]) (rest := []) FX hw (wX0_wrongLead h_t1) (cwV 1 FX.2.2.2.2 (lw_V q1193 q1195 qs24 q134 q1196) rfl rfl rfl (by decide +kernel) ⟨Nat.le_of_ble_eq_true rfl, Nat.le_of_ble_eq_true rfl⟩) (fx_obj hw (o := (131, 0, 100, 31)) (by decide)) rfl rfl hl.1 rfl (lv_room (Nat.le_of_ble_eq_true rfl)) dX0_unclip_2 ⟨rfl, rfl⟩ ⟨Nat.zero_le _, Nat.zero_le _⟩ (fun H locs hw => ?_)
  refine lv_istore_n (lv' := [(2, .int t1), (0, .ref (G.2.2.2 131)), (1, .int p1)]) FX.1 FX.2.1 dX0_unclip_5 rfl hl (by decide) rfl (fun ls hl => ?_)
  refine lv_iload_n FX.1 FX.2.1 dX0_unclip_6 rfl (lv_at hl 0 rfl) ?_
  have hK28 : ∀ (x2_28 : Int32) (H : Heap) (locs : List Loc) (ls : Array Slot) , fX0_unclip_J28 C K p1 x2_28 = some t → WS G (M, C, K.1, K.2.1) s H locs → lv_has ls 3 [(0, .ref (G.2.2.2 131)), (1, .int p1), (2, .int x2_28)] → W p l e rmX0_unclip s m a0 below meth c H locs 0 0 Q (F0 m 28 ls []) := by
    intro x2_28 H locs ls hf hw hl
    unfold fX0_unclip_J28 at hf
    refine lv_iload_n FX.1 FX.2.1 dX0_unclip_28 rfl (lv_at hl 2 rfl) ?_
    refine lv_if_ne (tgt := 45) FX.1 FX.2.1 dX0_unclip_29 (by decide) (fun c_29 => ?_) (fun c_29 => ?_)
    · have hf := it_neg c_29 hf
      refine lv_aload_n FX.1 FX.2.1 dX0_unclip_45 rfl (lv_at hl 0 rfl) ?_
      refine lv_iload_n FX.1 FX.2.1 dX0_unclip_46 rfl (lv_at hl 2 rfl) ?_
      refine bd hf (fun t2 h_t2 hf => ?_)
      refine clV_i0 (As := [.int x2_28]) (rest := []) FX hw (wX0_is h_t2) (cwV 1 FX.2.2.2.2 (lw_V q551 q553 qs2 q134 q554) rfl rfl rfl (by decide +kernel) ⟨Nat.le_of_ble_eq_true rfl, Nat.le_of_ble_eq_true rfl⟩) (fx_obj hw (o := (131, 0, 100, 31)) (by decide)) rfl rfl hl.1 rfl (lv_room (Nat.le_of_ble_eq_true rfl)) dX0_unclip_47 ⟨rfl, rfl⟩ ⟨Nat.zero_le _, Nat.zero_le _⟩ (fun H locs hw => ?_)
      refine bd hf (fun b3 h_b3 hf => ?_)
      exact hret _ _ (bool_nar (bz_or h_b3)) (congrArg (fun z => z.1) (Option.some.inj hf)) (congrArg (fun z => (M, z.2.1, z.2.2.1, z.2.2.2.1)) (Option.some.inj hf)) hw dX0_unclip_50
    · have hf := it_pos c_29 hf
      refine lv_aload_n FX.1 FX.2.1 dX0_unclip_32 rfl (lv_at hl 0 rfl) ?_
      refine gX0_38 FX hw dX0_unclip_33 ?_
      refine bd hf (fun a4 h_a4 hf => ?_)
      rw [show va_rf (C.2.2.1 103) = .ref a4 from congrArg va_rf h_a4]
      refine bd hf (fun a5 h_a5 hf => ?_)
      refine gX0_161 FX hw h_a5 dX0_unclip_36 ?_
      refine lv_iload_n FX.1 FX.2.1 dX0_unclip_39 rfl (lv_at hl 1 rfl) ?_
      refine bd hf (fun a6 h_a6 hf => ?_)
      refine ei_aald 5 rfl FX hw h_a6 dX0_unclip_40 ?_
      refine lv_iconst (v := 0) FX.1 FX.2.1 dX0_unclip_41 (by decide) ?_
      refine bd hf (fun K7 h_K7 hf => ?_)
      refine sX0_214 FX hw (Or.inl rfl) h_K7 dX0_unclip_42 (fun H locs hw => ?_)
      refine lv_aload_n FX.1 FX.2.1 dX0_unclip_45 rfl (lv_at hl 0 rfl) ?_
      refine lv_iload_n FX.1 FX.2.1 dX0_unclip_46 rfl (lv_at hl 2 rfl) ?_
      refine bd hf (fun t8 h_t8 hf => ?_)
      refine clV_i0 (As := [.int x2_28]) (rest := []) FX hw (wX0_is h_t8) (cwV 1 FX.2.2.2.2 (lw_V q551 q553 qs2 q134 q554) rfl rfl rfl (by decide +kernel) ⟨Nat.le_of_ble_eq_true rfl, Nat.le_of_ble_eq_true rfl⟩) (fx_obj hw (o := (131, 0, 100, 31)) (by decide)) rfl rfl hl.1 rfl (lv_room (Nat.le_of_ble_eq_true rfl)) dX0_unclip_47 ⟨rfl, rfl⟩ ⟨Nat.zero_le _, Nat.zero_le _⟩ (fun H locs hw => ?_)
      refine bd hf (fun b9 h_b9 hf => ?_)
      exact hret _ _ (bool_nar (bz_or h_b9)) (congrArg (fun z => z.1) (Option.some.inj hf)) (congrArg (fun z => (M, z.2.1, z.2.2.1, z.2.2.2.1)) (Option.some.inj hf)) hw dX0_unclip_50
  refine lv_if_ne (tgt := 28) FX.1 FX.2.1 dX0_unclip_7 (by decide) (fun c_7 => ?_) (fun c_7 => ?_)
  · have hf := it_neg c_7 hf
    exact hK28 _ _ _ _ hf hw (lv_sub hl [1, 2, 0] rfl)
  · have hf := it_pos c_7 hf
    refine lv_aload_n FX.1 FX.2.1 dX0_unclip_10 rfl (lv_at hl 1 rfl) ?_
    refine gX0_38 FX hw dX0_unclip_11 ?_
    refine bd hf (fun a10 h_a10 hf => ?_)
    rw [show va_rf (C.2.2.1 103) = .ref a10 from congrArg va_rf h_a10]
    refine bd hf (fun a11 h_a11 hf => ?_)
    refine gX0_161 FX hw h_a11 dX0_unclip_14 ?_
    refine lv_iload_n FX.1 FX.2.1 dX0_unclip_17 rfl (lv_at hl 2 rfl) ?_
    refine bd hf (fun a12 h_a12 hf => ?_)
    refine ei_aald 5 rfl FX hw h_a12 dX0_unclip_18 ?_
    refine bd hf (fun v13 h_v13 hf => ?_)
    refine gX0_214 FX hw h_v13 dX0_unclip_19 ?_
    refine lv_if_ne (tgt := 28) FX.1 FX.2.1 dX0_unclip_22 (by decide) (fun c_22 => ?_) (fun c_22 => ?_)
    · have hf := it_neg c_22 hf
      exact hK28 _ _ _ _ hf hw (lv_sub hl [1, 2, 0] rfl)
    · have hf := it_pos c_22 hf
      refine lv_bipush (v := 9) FX.1 FX.2.1 dX0_unclip_25 (by decide) ?_
      refine lv_istore_n (lv' := [(2, .int 9), (0, .ref (G.2.2.2 131)), (1, .int p1)]) FX.1 FX.2.1 dX0_unclip_27 rfl hl (by decide) rfl (fun ls hl => ?_)
      exact hK28 _ _ _ _ hf hw (lv_sub hl [1, 2, 0] rfl)
abbrev rmX0_cross (K : KT) : Room := { frames := 7, cells := K.2.2.1, slots := K.2.2.2, locals := 194 }
set_option maxHeartbeats 4000000 in
theorem wX0_cross {l : Launch} {G : GT} {M C : FS} {K : KT} {p1 : Int32} {p2 : Int32} {p3 : Int32} {t : (Int32 × FS × KT)} (hf : fX0_cross C K p1 p2 p3 = some t) : EtI l yX0_cross (ws_ yX0_cross cX0_cross 4 (some .int)) (rmX0_cross K) G [.ref (G.2.2.2 131), .int p1, .int p2, .int p3] (M, C, K.1, K.2.1) t.1 (M, t.2.1, t.2.2.1, t.2.2.2.1) (K.2.2.1 - t.2.2.2.2.1) (K.2.2.2 - t.2.2.2.2.2) := by
  refine ekI (ty := .int) (by decide) (Nat.le_of_ble_eq_true rfl) (fun p e s m a0 below meth c Q FX hw hname hret ls hl => ?_)
  have hl : lv_has ls 4 [(0, .ref (G.2.2.2 131)), (1, .int p1), (2, .int p2), (3, .int p3)] := hl
  unfold fX0_cross at hf
  have hm : Cn K K 0 0 := Cn.rf
  refine lv_aload_n FX.1 FX.2.1 dX0_cross_0 rfl (lv_at hl 0 rfl) ?_
  refine lv_iload_n FX.1 FX.2.1 dX0_cross_1 rfl (lv_at hl 1 rfl) ?_
  refine bd hf (fun t1 h_t1 hf => ?_)
  refine clV_i0 (As := [.int p1]) (rest := []) FX hw (wX0_isLead h_t1) (cwV 1 FX.2.2.2.2 (lw_V q1037 q1039 qs20 q134 q1040) rfl rfl rfl (by decide +kernel) ⟨Nat.le_of_ble_eq_true rfl, Nat.le_of_ble_eq_true rfl⟩) (fx_obj hw (o := (131, 0, 100, 31)) (by decide)) rfl rfl hl.1 rfl (lv_room (Nat.le_of_ble_eq_true rfl)) dX0_cross_2 ⟨rfl, rfl⟩ hm.le (fun H locs hw => ?_)
  refine lv_if_eq (tgt := 16) FX.1 FX.2.1 dX0_cross_5 (by decide) (fun c_5 => ?_) (fun c_5 => ?_)
  · have hf := it_pos c_5 hf
    refine lv_aload_n FX.1 FX.2.1 dX0_cross_16 rfl (lv_at hl 0 rfl) ?_
    refine lv_iconst (v := 2) FX.1 FX.2.1 dX0_cross_17 (by decide) ?_
    refine bd hf (fun t2 h_t2 hf => ?_)
    refine clV_i0 (As := [.int 2]) (rest := []) FX hw (wX0_none h_t2) (cwV 1 FX.2.2.2.2 (lw_V q620 q622 qs3 q134 q623) rfl rfl rfl (by decide +kernel) ⟨Nat.le_of_ble_eq_true rfl, Nat.le_of_ble_eq_true rfl⟩) (fx_obj hw (o := (131, 0, 100, 31)) (by decide)) rfl rfl hl.1 rfl (lv_room (Nat.le_of_ble_eq_true rfl)) dX0_cross_18 ⟨rfl, rfl⟩ hm.le (fun H locs hw => ?_)
    have hk : K = t.2.2 := congrArg (fun z => z.2.2) (Option.some.inj hf)
    have hm : Cn K t.2.2 0 0 := hk ▸ hm
    refine w_cast hm.end_.1 hm.end_.2 ?_
    exact hret _ _ rfl (congrArg (fun z => z.1) (Option.some.inj hf)) (congrArg (fun z => (M, z.2.1, z.2.2.1, z.2.2.2.1)) (Option.some.inj hf)) hw dX0_cross_21
  · have hf := it_neg c_5 hf
    refine lv_aload_n FX.1 FX.2.1 dX0_cross_8 rfl (lv_at hl 0 rfl) ?_
    refine lv_iload_n FX.1 FX.2.1 dX0_cross_9 rfl (lv_at hl 2 rfl) ?_
    refine bd hf (fun t3 h_t3 hf => ?_)
    refine clV_i0 (As := [.int p2]) (rest := []) FX hw (wX0_isLead h_t3) (cwV 1 FX.2.2.2.2 (lw_V q1037 q1039 qs20 q134 q1040) rfl rfl rfl (by decide +kernel) ⟨Nat.le_of_ble_eq_true rfl, Nat.le_of_ble_eq_true rfl⟩) (fx_obj hw (o := (131, 0, 100, 31)) (by decide)) rfl rfl hl.1 rfl (lv_room (Nat.le_of_ble_eq_true rfl)) dX0_cross_10 ⟨rfl, rfl⟩ hm.le (fun H locs hw => ?_)
    refine lv_if_ne (tgt := 22) FX.1 FX.2.1 dX0_cross_13 (by decide) (fun c_13 => ?_) (fun c_13 => ?_)
    · have hf := it_neg c_13 hf
      refine lv_iload_n FX.1 FX.2.1 dX0_cross_22 rfl (lv_at hl 1 rfl) ?_
      refine lv_iload_n FX.1 FX.2.1 dX0_cross_23 rfl (lv_at hl 2 rfl) ?_
      refine lv_icmp_eq (tgt := 39) FX.1 FX.2.1 dX0_cross_24 (by decide) (fun c_24 => ?_) (fun c_24 => ?_)
      · have hf := it_pos c_24 hf
        refine lv_aload_n FX.1 FX.2.1 dX0_cross_39 rfl (lv_at hl 0 rfl) ?_
        refine lv_iconst (v := 5) FX.1 FX.2.1 dX0_cross_40 (by decide) ?_
        refine bd hf (fun t4 h_t4 hf => ?_)
        refine clV_i0 (As := [.int 5]) (rest := []) FX hw (wX0_none h_t4) (cwV 1 FX.2.2.2.2 (lw_V q620 q622 qs3 q134 q623) rfl rfl rfl (by decide +kernel) ⟨Nat.le_of_ble_eq_true rfl, Nat.le_of_ble_eq_true rfl⟩) (fx_obj hw (o := (131, 0, 100, 31)) (by decide)) rfl rfl hl.1 rfl (lv_room (Nat.le_of_ble_eq_true rfl)) dX0_cross_41 ⟨rfl, rfl⟩ hm.le (fun H locs hw => ?_)
        have hk : K = t.2.2 := congrArg (fun z => z.2.2) (Option.some.inj hf)
        have hm : Cn K t.2.2 0 0 := hk ▸ hm
        refine w_cast hm.end_.1 hm.end_.2 ?_
        exact hret _ _ rfl (congrArg (fun z => z.1) (Option.some.inj hf)) (congrArg (fun z => (M, z.2.1, z.2.2.1, z.2.2.2.1)) (Option.some.inj hf)) hw dX0_cross_44
      · have hf := it_neg c_24 hf
        refine lv_iload_n FX.1 FX.2.1 dX0_cross_27 rfl (lv_at hl 3 rfl) ?_
        refine lv_i2l (v := p3.toInt64) FX.1 FX.2.1 dX0_cross_28 rfl ?_
        refine lv_lconst (v := 0) FX.1 FX.2.1 dX0_cross_29 (by decide) ?_
        refine lv_ldc2 FX.1 FX.2.1 FX.2.2.2.1 (FX.2.2.2.2 _ q1267) dX0_cross_30 ?_
        refine bd hf (fun t5 h_t5 hf => ?_)
        refine clS_i0 (As := [.long p3.toInt64, .long 0, .long 3]) (rest := []) FX hw (wX0_isFrom h_t5) (va_cwS 3 FX.2.2.2.2 (lw_S q1119 q1120 q134 q1121) rfl rfl rfl (by decide +kernel) ⟨Nat.le_of_ble_eq_true rfl, Nat.le_of_ble_eq_true rfl⟩) rfl hl.1 rfl (lv_room (Nat.le_of_ble_eq_true rfl)) dX0_cross_33 ⟨rfl, rfl⟩ hm.le (fun H locs hw => ?_)
        refine lv_if_ne (tgt := 45) FX.1 FX.2.1 dX0_cross_36 (by decide) (fun c_36 => ?_) (fun c_36 => ?_)
        · have hf := it_neg c_36 hf
          refine lv_aload_n FX.1 FX.2.1 dX0_cross_45 rfl (lv_at hl 0 rfl) ?_
          refine gX0_38 FX hw dX0_cross_46 ?_
          refine bd hf (fun a6 h_a6 hf => ?_)
          rw [show va_rf (C.2.2.1 103) = .ref a6 from congrArg va_rf h_a6]
          refine bd hf (fun v7 h_v7 hf => ?_)
          refine gX0_217 FX hw h_v7 dX0_cross_49 ?_
          refine lv_bipush (v := 24) FX.1 FX.2.1 dX0_cross_52 (by decide) ?_
          refine lv_icmp_ne (tgt := 64) FX.1 FX.2.1 dX0_cross_54 (by decide) (fun c_54 => ?_) (fun c_54 => ?_)
          · have hf := it_neg c_54 hf
            refine lv_aload_n FX.1 FX.2.1 dX0_cross_64 rfl (lv_at hl 0 rfl) ?_
            refine gX0_38 FX hw dX0_cross_65 ?_
            refine bd hf (fun a8 h_a8 hf => ?_)
            rw [show va_rf (C.2.2.1 103) = .ref a8 from congrArg va_rf h_a8]
            refine bd hf (fun a9 h_a9 hf => ?_)
            refine gX0_161 FX hw h_a9 dX0_cross_68 ?_
            refine lv_iload_n FX.1 FX.2.1 dX0_cross_71 rfl (lv_at hl 1 rfl) ?_
            refine bd hf (fun a10 h_a10 hf => ?_)
            refine ei_aald 5 rfl FX hw h_a10 dX0_cross_72 ?_
            refine bd hf (fun g11 h_g11 hf => ?_)
            refine bd hf (fun t12 h_t12 hf => ?_)
            obtain ⟨fs_g11, he_g11⟩ := dC_some (gC_some h_g11)
            refine clV_i0 (As := []) (rest := []) FX hw (wX7_mayTangle h_t12) (cwV 0 FX.2.2.2.2 (lw_V q1268 q1256 q1257 q154 q1258) rfl rfl rfl (by decide +kernel) ⟨Nat.le_of_ble_eq_true rfl, Nat.le_of_ble_eq_true rfl⟩) (dyn_he hw he_g11) rfl rfl hl.1 rfl (lv_room (Nat.le_of_ble_eq_true rfl)) dX0_cross_73 ⟨rfl, rfl⟩ hm.le (fun H locs hw => ?_)
            refine lv_if_eq (tgt := 94) FX.1 FX.2.1 dX0_cross_76 (by decide) (fun c_76 => ?_) (fun c_76 => ?_)
            · have hf := it_pos c_76 hf
              refine lv_aload_n FX.1 FX.2.1 dX0_cross_94 rfl (lv_at hl 0 rfl) ?_
              refine lv_bipush (v := 9) FX.1 FX.2.1 dX0_cross_95 (by decide) ?_
              refine bd hf (fun t13 h_t13 hf => ?_)
              refine clV_i0 (As := [.int 9]) (rest := []) FX hw (wX0_none h_t13) (cwV 1 FX.2.2.2.2 (lw_V q620 q622 qs3 q134 q623) rfl rfl rfl (by decide +kernel) ⟨Nat.le_of_ble_eq_true rfl, Nat.le_of_ble_eq_true rfl⟩) (fx_obj hw (o := (131, 0, 100, 31)) (by decide)) rfl rfl hl.1 rfl (lv_room (Nat.le_of_ble_eq_true rfl)) dX0_cross_97 ⟨rfl, rfl⟩ hm.le (fun H locs hw => ?_)
              have hk : K = t.2.2 := congrArg (fun z => z.2.2) (Option.some.inj hf)
              have hm : Cn K t.2.2 0 0 := hk ▸ hm
              refine w_cast hm.end_.1 hm.end_.2 ?_
              exact hret _ _ rfl (congrArg (fun z => z.1) (Option.some.inj hf)) (congrArg (fun z => (M, z.2.1, z.2.2.1, z.2.2.2.1)) (Option.some.inj hf)) hw dX0_cross_100
            · have hf := it_neg c_76 hf
              refine lv_aload_n FX.1 FX.2.1 dX0_cross_79 rfl (lv_at hl 0 rfl) ?_
              refine gX0_38 FX hw dX0_cross_80 ?_
              refine bd hf (fun a14 h_a14 hf => ?_)
              rw [show va_rf (C.2.2.1 103) = .ref a14 from congrArg va_rf h_a14]
              refine bd hf (fun a15 h_a15 hf => ?_)
              refine gX0_161 FX hw h_a15 dX0_cross_83 ?_
              refine lv_iload_n FX.1 FX.2.1 dX0_cross_86 rfl (lv_at hl 2 rfl) ?_
              refine bd hf (fun a16 h_a16 hf => ?_)
              refine ei_aald 5 rfl FX hw h_a16 dX0_cross_87 ?_
              refine bd hf (fun g17 h_g17 hf => ?_)
              refine bd hf (fun t18 h_t18 hf => ?_)
              obtain ⟨fs_g17, he_g17⟩ := dC_some (gC_some h_g17)
              refine clV_i0 (As := []) (rest := []) FX hw (wX7_mayTangle h_t18) (cwV 0 FX.2.2.2.2 (lw_V q1268 q1256 q1257 q154 q1258) rfl rfl rfl (by decide +kernel) ⟨Nat.le_of_ble_eq_true rfl, Nat.le_of_ble_eq_true rfl⟩) (dyn_he hw he_g17) rfl rfl hl.1 rfl (lv_room (Nat.le_of_ble_eq_true rfl)) dX0_cross_88 ⟨rfl, rfl⟩ hm.le (fun H locs hw => ?_)
              refine lv_if_ne (tgt := 101) FX.1 FX.2.1 dX0_cross_91 (by decide) (fun c_91 => ?_) (fun c_91 => ?_)
              · have hf := it_neg c_91 hf
                refine lv_aload_n FX.1 FX.2.1 dX0_cross_101 rfl (lv_at hl 0 rfl) ?_
                refine gX0_38 FX hw dX0_cross_102 ?_
                refine bd hf (fun a19 h_a19 hf => ?_)
                rw [show va_rf (C.2.2.1 103) = .ref a19 from congrArg va_rf h_a19]
                refine lv_iload_n FX.1 FX.2.1 dX0_cross_105 rfl (lv_at hl 1 rfl) ?_
                refine lv_iload_n FX.1 FX.2.1 dX0_cross_106 rfl (lv_at hl 2 rfl) ?_
                refine lv_iload_n FX.1 FX.2.1 dX0_cross_107 rfl (lv_at hl 3 rfl) ?_
                refine bd hf (fun g20 h_g20 hf => ?_)
                refine bd hf (fun t21 h_t21 hf => ?_)
                refine bd hf (fun g22 h_g22 hf => ?_)
                obtain ⟨fs_g20, he_g20⟩ := dC_some (gC_some h_g20)
                refine xlV_v (As := [.int p1, .int p2, .int p3]) (rest := []) FX hw (wX4_adds h_t21) (cwV 3 FX.2.2.2.2 (lw_V q1269 q888 q889 q141 q890) rfl rfl rfl (by decide +kernel) ⟨Nat.le_of_ble_eq_true rfl, Nat.le_of_ble_eq_true rfl⟩) (dyn_he hw he_g20) rfl rfl hl.1 rfl (lv_room (Nat.le_of_ble_eq_true rfl)) dX0_cross_108 hm.roomC (fun H locs hw => ?_)
                have hm := hm.sM h_g22
                refine lv_aload_n FX.1 FX.2.1 dX0_cross_111 rfl (lv_at hl 0 rfl) ?_
                refine lv_aload_n FX.1 FX.2.1 dX0_cross_112 rfl (lv_at hl 0 rfl) ?_
                refine gX0_38 FX hw dX0_cross_113 ?_
                refine bd hf (fun a23 h_a23 hf => ?_)
                rw [show va_rf (C.2.2.1 103) = .ref a23 from congrArg va_rf h_a23]
                refine bd hf (fun v24 h_v24 hf => ?_)
                refine gX0_217 FX hw h_v24 dX0_cross_116 ?_
                refine bd hf (fun t25 h_t25 hf => ?_)
                refine clV_i0 (As := [.int v24]) (rest := []) FX hw (wX0_gives h_t25) (cwV 1 FX.2.2.2.2 (lw_V q962 q964 qs16 q134 q965) rfl rfl rfl (by decide +kernel) ⟨Nat.le_of_ble_eq_true rfl, Nat.le_of_ble_eq_true rfl⟩) (fx_obj hw (o := (131, 0, 100, 31)) (by decide)) rfl rfl hl.1 rfl (lv_room (Nat.le_of_ble_eq_true rfl)) dX0_cross_119 ⟨rfl, rfl⟩ hm.le (fun H locs hw => ?_)
                have hk : t21 = t.2.2 := congrArg (fun z => z.2.2) (Option.some.inj hf)
                have hm : Cn K t.2.2 (0 + (K.2.2.1 - t21.2.2.1)) (0 + (K.2.2.2 - t21.2.2.2)) := hk ▸ hm
                refine w_cast hm.end_.1 hm.end_.2 ?_
                exact hret _ _ rfl (congrArg (fun z => z.1) (Option.some.inj hf)) (congrArg (fun z => (M, z.2.1, z.2.2.1, z.2.2.2.1)) (Option.some.inj hf)) hw dX0_cross_122
              · have hf := it_pos c_91 hf
                refine lv_aload_n FX.1 FX.2.1 dX0_cross_94 rfl (lv_at hl 0 rfl) ?_
                refine lv_bipush (v := 9) FX.1 FX.2.1 dX0_cross_95 (by decide) ?_
                refine bd hf (fun t26 h_t26 hf => ?_)
                refine clV_i0 (As := [.int 9]) (rest := []) FX hw (wX0_none h_t26) (cwV 1 FX.2.2.2.2 (lw_V q620 q622 qs3 q134 q623) rfl rfl rfl (by decide +kernel) ⟨Nat.le_of_ble_eq_true rfl, Nat.le_of_ble_eq_true rfl⟩) (fx_obj hw (o := (131, 0, 100, 31)) (by decide)) rfl rfl hl.1 rfl (lv_room (Nat.le_of_ble_eq_true rfl)) dX0_cross_97 ⟨rfl, rfl⟩ hm.le (fun H locs hw => ?_)
                have hk : K = t.2.2 := congrArg (fun z => z.2.2) (Option.some.inj hf)
                have hm : Cn K t.2.2 0 0 := hk ▸ hm
                refine w_cast hm.end_.1 hm.end_.2 ?_
                exact hret _ _ rfl (congrArg (fun z => z.1) (Option.some.inj hf)) (congrArg (fun z => (M, z.2.1, z.2.2.1, z.2.2.2.1)) (Option.some.inj hf)) hw dX0_cross_100
          · have hf := it_pos c_54 hf
            refine lv_aload_n FX.1 FX.2.1 dX0_cross_57 rfl (lv_at hl 0 rfl) ?_
            refine lv_bipush (v := 7) FX.1 FX.2.1 dX0_cross_58 (by decide) ?_
            refine bd hf (fun t27 h_t27 hf => ?_)
            refine clV_i0 (As := [.int 7]) (rest := []) FX hw (wX0_none h_t27) (cwV 1 FX.2.2.2.2 (lw_V q620 q622 qs3 q134 q623) rfl rfl rfl (by decide +kernel) ⟨Nat.le_of_ble_eq_true rfl, Nat.le_of_ble_eq_true rfl⟩) (fx_obj hw (o := (131, 0, 100, 31)) (by decide)) rfl rfl hl.1 rfl (lv_room (Nat.le_of_ble_eq_true rfl)) dX0_cross_60 ⟨rfl, rfl⟩ hm.le (fun H locs hw => ?_)
            have hk : K = t.2.2 := congrArg (fun z => z.2.2) (Option.some.inj hf)
            have hm : Cn K t.2.2 0 0 := hk ▸ hm
            refine w_cast hm.end_.1 hm.end_.2 ?_
            exact hret _ _ rfl (congrArg (fun z => z.1) (Option.some.inj hf)) (congrArg (fun z => (M, z.2.1, z.2.2.1, z.2.2.2.1)) (Option.some.inj hf)) hw dX0_cross_63
        · have hf := it_pos c_36 hf
          refine lv_aload_n FX.1 FX.2.1 dX0_cross_39 rfl (lv_at hl 0 rfl) ?_
          refine lv_iconst (v := 5) FX.1 FX.2.1 dX0_cross_40 (by decide) ?_
          refine bd hf (fun t28 h_t28 hf => ?_)
          refine clV_i0 (As := [.int 5]) (rest := []) FX hw (wX0_none h_t28) (cwV 1 FX.2.2.2.2 (lw_V q620 q622 qs3 q134 q623) rfl rfl rfl (by decide +kernel) ⟨Nat.le_of_ble_eq_true rfl, Nat.le_of_ble_eq_true rfl⟩) (fx_obj hw (o := (131, 0, 100, 31)) (by decide)) rfl rfl hl.1 rfl (lv_room (Nat.le_of_ble_eq_true rfl)) dX0_cross_41 ⟨rfl, rfl⟩ hm.le (fun H locs hw => ?_)
          have hk : K = t.2.2 := congrArg (fun z => z.2.2) (Option.some.inj hf)
          have hm : Cn K t.2.2 0 0 := hk ▸ hm
          refine w_cast hm.end_.1 hm.end_.2 ?_
          exact hret _ _ rfl (congrArg (fun z => z.1) (Option.some.inj hf)) (congrArg (fun z => (M, z.2.1, z.2.2.1, z.2.2.2.1)) (Option.some.inj hf)) hw dX0_cross_44
    · have hf := it_pos c_13 hf
      refine lv_aload_n FX.1 FX.2.1 dX0_cross_16 rfl (lv_at hl 0 rfl) ?_
      refine lv_iconst (v := 2) FX.1 FX.2.1 dX0_cross_17 (by decide) ?_
      refine bd hf (fun t29 h_t29 hf => ?_)
      refine clV_i0 (As := [.int 2]) (rest := []) FX hw (wX0_none h_t29) (cwV 1 FX.2.2.2.2 (lw_V q620 q622 qs3 q134 q623) rfl rfl rfl (by decide +kernel) ⟨Nat.le_of_ble_eq_true rfl, Nat.le_of_ble_eq_true rfl⟩) (fx_obj hw (o := (131, 0, 100, 31)) (by decide)) rfl rfl hl.1 rfl (lv_room (Nat.le_of_ble_eq_true rfl)) dX0_cross_18 ⟨rfl, rfl⟩ hm.le (fun H locs hw => ?_)
      have hk : K = t.2.2 := congrArg (fun z => z.2.2) (Option.some.inj hf)
      have hm : Cn K t.2.2 0 0 := hk ▸ hm
      refine w_cast hm.end_.1 hm.end_.2 ?_
      exact hret _ _ rfl (congrArg (fun z => z.1) (Option.some.inj hf)) (congrArg (fun z => (M, z.2.1, z.2.2.1, z.2.2.2.1)) (Option.some.inj hf)) hw dX0_cross_21
abbrev rmX0_draw : Room := { frames := 0, cells := 0, slots := 0, locals := 0 }
set_option maxHeartbeats 4000000 in
theorem wX0_draw {l : Launch} {G : GT} {M C : FS} {K : KT} {p1 : Int32} {t : (Int32 × FS)} (hf : fX0_draw C p1 = some t) : CtI l yX0_draw (ws_ yX0_draw cX0_draw 2 (some .int)) rmX0_draw G [.ref (G.2.2.2 131), .int p1] (M, C, K.1, K.2.1) t.1 (M, t.2, K.1, K.2.1) := by
  refine mkI (ty := .int) (by decide) (Nat.le_of_ble_eq_true rfl) (fun p e s m a0 below meth c Q FX hw hname hret ls hl => ?_)
  have hl : lv_has ls 2 [(0, .ref (G.2.2.2 131)), (1, .int p1)] := hl
  unfold fX0_draw at hf
  refine lv_aload_n FX.1 FX.2.1 dX0_draw_0 rfl (lv_at hl 0 rfl) ?_
  refine lv_aload_n FX.1 FX.2.1 dX0_draw_1 rfl (lv_at hl 0 rfl) ?_
  refine gX0_321 FX hw dX0_draw_2 ?_
  refine lv_sipush (v := 2897) FX.1 FX.2.1 dX0_draw_5 (by decide) ?_
  refine lv_imul FX.1 FX.2.1 dX0_draw_8 ?_
  refine lv_sipush (v := 10529) FX.1 FX.2.1 dX0_draw_9 (by decide) ?_
  refine lv_iadd FX.1 FX.2.1 dX0_draw_12 ?_
  refine lv_ldcw FX.1 FX.2.1 FX.2.2.2.1 (FX.2.2.2.2 _ q1283) dX0_draw_13 ?_
  refine lv_irem FX.1 FX.2.1 dX0_draw_16 (by decide) ?_
  refine bd hf (fun C1 h_C1 hf => ?_)
  refine sX0_321 FX hw dX0_draw_17 (fun H locs hw => ?_)
  rw [Option.some.inj h_C1] at hw
  refine lv_aload_n FX.1 FX.2.1 dX0_draw_20 rfl (lv_at hl 0 rfl) ?_
  refine gX0_321 FX hw dX0_draw_21 ?_
  refine lv_bipush (v := 8) FX.1 FX.2.1 dX0_draw_24 (by decide) ?_
  refine lv_idiv FX.1 FX.2.1 dX0_draw_26 (by decide) ?_
  refine lv_iload_n FX.1 FX.2.1 dX0_draw_27 rfl (lv_at hl 1 rfl) ?_
  refine bd hf (fun u2 h_u2 hf => ?_)
  refine lv_irem FX.1 FX.2.1 dX0_draw_28 (nz_some h_u2) ?_
  exact hret _ _ rfl (congrArg (fun z => z.1) (Option.some.inj hf)) (congrArg (fun z => (M, z.2, K.1, K.2.1)) (Option.some.inj hf)) hw dX0_draw_29
abbrev rmX0_others : Room := { frames := 1, cells := 0, slots := 0, locals := 20 }
set_option maxHeartbeats 4000000 in
theorem wX0_others {l : Launch} {G : GT} {M C : FS} {K : KT} {p1 : Int32} {t : Int32} (hf : fX0_others C K p1 = some t) : CtI l yX0_others (ws_ yX0_others cX0_others 4 (some .int)) rmX0_others G [.ref (G.2.2.2 131), .int p1] (M, C, K.1, K.2.1) t (M, C, K.1, K.2.1) := by
  refine mkI (ty := .int) (by decide) (Nat.le_of_ble_eq_true rfl) (fun p e s m a0 below meth c Q FX hw hname hret ls hl => ?_)
  have hl : lv_has ls 4 [(0, .ref (G.2.2.2 131)), (1, .int p1)] := hl
  unfold fX0_others at hf
  refine lv_iconst (v := 0) FX.1 FX.2.1 dX0_others_0 (by decide) ?_
  refine lv_istore_n (lv' := [(2, .int 0), (0, .ref (G.2.2.2 131)), (1, .int p1)]) FX.1 FX.2.1 dX0_others_1 rfl hl (by decide) rfl (fun ls hl => ?_)
  refine lv_iconst (v := 0) FX.1 FX.2.1 dX0_others_2 (by decide) ?_
  refine lv_istore_n (lv' := [(3, .int 0), (2, .int 0), (0, .ref (G.2.2.2 131)), (1, .int p1)]) FX.1 FX.2.1 dX0_others_3 rfl hl (by decide) rfl (fun ls hl => ?_)
  refine bd hf (fun u4 ht hf => ?_)
  obtain ⟨n, hn⟩ := lp_iff.mp ht
  have hX4 : ∀ (t4_2 : Int32) (H : Heap) (locs : List Loc) (ls : Array Slot) , t4_2 = u4 → WS G (M, C, K.1, K.2.1) s H locs → lv_has ls 4 [(2, .int t4_2)] → W p l e rmX0_others s m a0 below meth c H locs 0 0 Q (F0 m 49 ls []) := by
    intro t4_2 H locs ls he hw hl
    subst he
    refine lv_iload_n FX.1 FX.2.1 dX0_others_49 rfl (lv_at hl 0 rfl) ?_
    exact hret _ _ rfl (congrArg (fun z => z) (Option.some.inj hf)) rfl hw dX0_others_50
  have hL4 : ∀ (n : Nat) (z4_2 : Int32) (z4_3 : Int32) (H : Heap) (locs : List Loc) (ls : Array Slot) , lpN (fun z => fX0_others_L4 C K p1 z.1 z.2) n (z4_2, z4_3) = some u4 → WS G (M, C, K.1, K.2.1) s H locs → lv_has ls 4 [(0, .ref (G.2.2.2 131)), (1, .int p1), (2, .int z4_2), (3, .int z4_3)] → W p l e rmX0_others s m a0 below meth c H locs 0 0 Q (F0 m 4 ls []) := by
    intro n
    induction n with
    | zero => intro z4_2 z4_3 H locs ls hz; cases hz
    | succ n ih =>
      intro z4_2 z4_3 H locs ls hz hw hl
      refine bd (show (fX0_others_L4 C K p1 z4_2 z4_3).bind _ = some u4 from hz) (fun x4 hf hk4 => ?_)
      unfold fX0_others_L4 at hf
      refine lv_iload_n FX.1 FX.2.1 dX0_others_4 rfl (lv_at hl 3 rfl) ?_
      refine lv_aload_n FX.1 FX.2.1 dX0_others_5 rfl (lv_at hl 0 rfl) ?_
      refine gX0_38 FX hw dX0_others_6 ?_
      refine bd hf (fun a1 h_a1 hf => ?_)
      rw [show va_rf (C.2.2.1 103) = .ref a1 from congrArg va_rf h_a1]
      refine bd hf (fun v2 h_v2 hf => ?_)
      refine gX0_152 FX hw h_v2 dX0_others_9 ?_
      refine lv_icmp_ge (tgt := 49) FX.1 FX.2.1 dX0_others_12 (by decide) (fun c_12 => ?_) (fun c_12 => ?_)
      · have hf := it_pos c_12 hf
        exact hX4 _ _ _ _ (lpe hf hk4) hw (lv_sub hl [2] rfl)
      · have hf := it_neg c_12 hf
        refine lv_iload_n FX.1 FX.2.1 dX0_others_15 rfl (lv_at hl 2 rfl) ?_
        refine lv_iload_n FX.1 FX.2.1 dX0_others_16 rfl (lv_at hl 3 rfl) ?_
        refine lv_iload_n FX.1 FX.2.1 dX0_others_17 rfl (lv_at hl 1 rfl) ?_
        refine lv_icmp_eq (tgt := 40) FX.1 FX.2.1 dX0_others_18 (by decide) (fun c_18 => ?_) (fun c_18 => ?_)
        · have hf := it_pos c_18 hf
          refine lv_iconst (v := 0) FX.1 FX.2.1 dX0_others_40 (by decide) ?_
          refine lv_iadd FX.1 FX.2.1 dX0_others_41 ?_
          refine lv_istore_n (lv' := [(2, .int (z4_2 + 0)), (0, .ref (G.2.2.2 131)), (1, .int p1), (3, .int z4_3)]) FX.1 FX.2.1 dX0_others_42 rfl hl (by decide) rfl (fun ls hl => ?_)
          refine lv_iinc (v := (z4_3 + 1)) (lv' := [(3, .int (z4_3 + 1)), (2, .int (z4_2 + 0)), (0, .ref (G.2.2.2 131)), (1, .int p1)]) FX.1 FX.2.1 dX0_others_43 hl (k := 3) rfl (congrArg (fun q : Int32 => z4_3 + q) (by decide : Int32.ofInt 1 = 1)) (by decide) rfl (fun ls hl => ?_)
          refine lv_goto (tgt := 4) FX.1 FX.2.1 dX0_others_46 (by decide) ?_
          exact ih _ _ _ _ _ (lpc hf hk4) hw (lv_sub hl [2, 3, 1, 0] rfl)
        · have hf := it_neg c_18 hf
          refine lv_aload_n FX.1 FX.2.1 dX0_others_21 rfl (lv_at hl 0 rfl) ?_
          refine gX0_38 FX hw dX0_others_22 ?_
          refine bd hf (fun a3 h_a3 hf => ?_)
          rw [show va_rf (C.2.2.1 103) = .ref a3 from congrArg va_rf h_a3]
          refine bd hf (fun a4 h_a4 hf => ?_)
          refine gX0_161 FX hw h_a4 dX0_others_25 ?_
          refine lv_iload_n FX.1 FX.2.1 dX0_others_28 rfl (lv_at hl 3 rfl) ?_
          refine bd hf (fun a5 h_a5 hf => ?_)
          refine ei_aald 5 rfl FX hw h_a5 dX0_others_29 ?_
          refine bd hf (fun g6 h_g6 hf => ?_)
          refine bd hf (fun t7 h_t7 hf => ?_)
          obtain ⟨fs_g6, he_g6⟩ := dC_some (gC_some h_g6)
          refine clV_i0 (As := []) (rest := [.int z4_2]) FX hw (wX7_mayTangle h_t7) (cwV 0 FX.2.2.2.2 (lw_V q1268 q1256 q1257 q154 q1258) rfl rfl rfl (by decide +kernel) ⟨Nat.le_of_ble_eq_true rfl, Nat.le_of_ble_eq_true rfl⟩) (dyn_he hw he_g6) rfl rfl hl.1 rfl (lv_room (Nat.le_of_ble_eq_true rfl)) dX0_others_30 ⟨rfl, rfl⟩ ⟨Nat.zero_le _, Nat.zero_le _⟩ (fun H locs hw => ?_)
          refine lv_if_eq (tgt := 40) FX.1 FX.2.1 dX0_others_33 (by decide) (fun c_33 => ?_) (fun c_33 => ?_)
          · have hf := it_pos c_33 hf
            refine lv_iconst (v := 0) FX.1 FX.2.1 dX0_others_40 (by decide) ?_
            refine lv_iadd FX.1 FX.2.1 dX0_others_41 ?_
            refine lv_istore_n (lv' := [(2, .int (z4_2 + 0)), (0, .ref (G.2.2.2 131)), (1, .int p1), (3, .int z4_3)]) FX.1 FX.2.1 dX0_others_42 rfl hl (by decide) rfl (fun ls hl => ?_)
            refine lv_iinc (v := (z4_3 + 1)) (lv' := [(3, .int (z4_3 + 1)), (2, .int (z4_2 + 0)), (0, .ref (G.2.2.2 131)), (1, .int p1)]) FX.1 FX.2.1 dX0_others_43 hl (k := 3) rfl (congrArg (fun q : Int32 => z4_3 + q) (by decide : Int32.ofInt 1 = 1)) (by decide) rfl (fun ls hl => ?_)
            refine lv_goto (tgt := 4) FX.1 FX.2.1 dX0_others_46 (by decide) ?_
            exact ih _ _ _ _ _ (lpc hf hk4) hw (lv_sub hl [2, 3, 1, 0] rfl)
          · have hf := it_neg c_33 hf
            refine lv_iconst (v := 1) FX.1 FX.2.1 dX0_others_36 (by decide) ?_
            refine lv_goto (tgt := 41) FX.1 FX.2.1 dX0_others_37 (by decide) ?_
            refine lv_iadd FX.1 FX.2.1 dX0_others_41 ?_
            refine lv_istore_n (lv' := [(2, .int (z4_2 + 1)), (0, .ref (G.2.2.2 131)), (1, .int p1), (3, .int z4_3)]) FX.1 FX.2.1 dX0_others_42 rfl hl (by decide) rfl (fun ls hl => ?_)
            refine lv_iinc (v := (z4_3 + 1)) (lv' := [(3, .int (z4_3 + 1)), (2, .int (z4_2 + 1)), (0, .ref (G.2.2.2 131)), (1, .int p1)]) FX.1 FX.2.1 dX0_others_43 hl (k := 3) rfl (congrArg (fun q : Int32 => z4_3 + q) (by decide : Int32.ofInt 1 = 1)) (by decide) rfl (fun ls hl => ?_)
            refine lv_goto (tgt := 4) FX.1 FX.2.1 dX0_others_46 (by decide) ?_
            exact ih _ _ _ _ _ (lpc hf hk4) hw (lv_sub hl [2, 3, 1, 0] rfl)
  exact hL4 n _ _ _ _ _ hn hw (lv_sub hl [2, 3, 1, 0] rfl)
abbrev rmX0_other : Room := { frames := 1, cells := 0, slots := 0, locals := 20 }
set_option maxHeartbeats 4000000 in
theorem wX0_other {l : Launch} {G : GT} {M C : FS} {K : KT} {p1 : Int32} {p2 : Int32} {t : Int32} (hf : fX0_other C K p1 p2 = some t) : CtI l yX0_other (ws_ yX0_other cX0_other 5 (some .int)) rmX0_other G [.ref (G.2.2.2 131), .int p1, .int p2] (M, C, K.1, K.2.1) t (M, C, K.1, K.2.1) := by
  refine mkI (ty := .int) (by decide) (Nat.le_of_ble_eq_true rfl) (fun p e s m a0 below meth c Q FX hw hname hret ls hl => ?_)
  have hl : lv_has ls 5 [(0, .ref (G.2.2.2 131)), (1, .int p1), (2, .int p2)] := hl
  unfold fX0_other at hf
  refine lv_iload_n FX.1 FX.2.1 dX0_other_0 rfl (lv_at hl 2 rfl) ?_
  refine lv_istore_n (lv' := [(3, .int p2), (0, .ref (G.2.2.2 131)), (1, .int p1), (2, .int p2)]) FX.1 FX.2.1 dX0_other_1 rfl hl (by decide) rfl (fun ls hl => ?_)
  refine lv_iconst (v := 0) FX.1 FX.2.1 dX0_other_2 (by decide) ?_
  refine lv_istore (lv' := [(4, .int 0), (3, .int p2), (0, .ref (G.2.2.2 131)), (1, .int p1), (2, .int p2)]) FX.1 FX.2.1 dX0_other_3 hl (by decide) rfl (fun ls hl => ?_)
  refine bd hf (fun u5 ht hf => ?_)
  obtain ⟨n, hn⟩ := lp_iff.mp ht
  have hX5 : ∀ (t5_4 : Int32) (H : Heap) (locs : List Loc) (ls : Array Slot) , t5_4 = u5 → WS G (M, C, K.1, K.2.1) s H locs → lv_has ls 5 [(4, .int t5_4)] → W p l e rmX0_other s m a0 below meth c H locs 0 0 Q (F0 m 67 ls []) := by
    intro t5_4 H locs ls he hw hl
    subst he
    refine lv_iload FX.1 FX.2.1 dX0_other_67 (lv_at hl 0 rfl) ?_
    exact hret _ _ rfl (congrArg (fun z => z) (Option.some.inj hf)) rfl hw dX0_other_69
  have hL5 : ∀ (n : Nat) (z5_3 : Int32) (z5_4 : Int32) (H : Heap) (locs : List Loc) (ls : Array Slot) , lpN (fun z => fX0_other_L5 C K p1 z.1 z.2) n (z5_3, z5_4) = some u5 → WS G (M, C, K.1, K.2.1) s H locs → lv_has ls 5 [(0, .ref (G.2.2.2 131)), (1, .int p1), (3, .int z5_3), (4, .int z5_4)] → W p l e rmX0_other s m a0 below meth c H locs 0 0 Q (F0 m 5 ls []) := by
    intro n
    induction n with
    | zero => intro z5_3 z5_4 H locs ls hz; cases hz
    | succ n ih =>
      intro z5_3 z5_4 H locs ls hz hw hl
      refine bd (show (fX0_other_L5 C K p1 z5_3 z5_4).bind _ = some u5 from hz) (fun x5 hf hk5 => ?_)
      unfold fX0_other_L5 at hf
      refine lv_iload FX.1 FX.2.1 dX0_other_5 (lv_at hl 3 rfl) ?_
      refine lv_iload_n FX.1 FX.2.1 dX0_other_7 rfl (lv_at hl 1 rfl) ?_
      have hK31 : ∀ (H : Heap) (locs : List Loc) (ls : Array Slot) , fX0_other_J31 C K p1 z5_3 z5_4  = some x5 → WS G (M, C, K.1, K.2.1) s H locs → lv_has ls 5 [(0, .ref (G.2.2.2 131)), (1, .int p1), (3, .int z5_3), (4, .int z5_4)] → W p l e rmX0_other s m a0 below meth c H locs 0 0 Q (F0 m 31 ls []) := by
        intro  H locs ls hf hw hl
        unfold fX0_other_J31 at hf
        refine lv_iload_n FX.1 FX.2.1 dX0_other_31 rfl (lv_at hl 2 rfl) ?_
        refine lv_iload FX.1 FX.2.1 dX0_other_32 (lv_at hl 3 rfl) ?_
        refine lv_iload_n FX.1 FX.2.1 dX0_other_34 rfl (lv_at hl 1 rfl) ?_
        refine lv_icmp_eq (tgt := 58) FX.1 FX.2.1 dX0_other_35 (by decide) (fun c_35 => ?_) (fun c_35 => ?_)
        · have hf := it_pos c_35 hf
          refine lv_iconst (v := 0) FX.1 FX.2.1 dX0_other_58 (by decide) ?_
          refine lv_isub FX.1 FX.2.1 dX0_other_59 ?_
          refine lv_istore_n (lv' := [(3, .int (z5_3 - 0)), (0, .ref (G.2.2.2 131)), (1, .int p1), (4, .int z5_4)]) FX.1 FX.2.1 dX0_other_60 rfl hl (by decide) rfl (fun ls hl => ?_)
          refine lv_iinc (v := (z5_4 + 1)) (lv' := [(4, .int (z5_4 + 1)), (3, .int (z5_3 - 0)), (0, .ref (G.2.2.2 131)), (1, .int p1)]) FX.1 FX.2.1 dX0_other_61 hl (k := 3) rfl (congrArg (fun q : Int32 => z5_4 + q) (by decide : Int32.ofInt 1 = 1)) (by decide) rfl (fun ls hl => ?_)
          refine lv_goto (tgt := 5) FX.1 FX.2.1 dX0_other_64 (by decide) ?_
          exact ih _ _ _ _ _ (lpc hf hk5) hw (lv_sub hl [2, 3, 1, 0] rfl)
        · have hf := it_neg c_35 hf
          refine lv_aload_n FX.1 FX.2.1 dX0_other_38 rfl (lv_at hl 0 rfl) ?_
          refine gX0_38 FX hw dX0_other_39 ?_
          refine bd hf (fun a1 h_a1 hf => ?_)
          rw [show va_rf (C.2.2.1 103) = .ref a1 from congrArg va_rf h_a1]
          refine bd hf (fun a2 h_a2 hf => ?_)
          refine gX0_161 FX hw h_a2 dX0_other_42 ?_
          refine lv_iload FX.1 FX.2.1 dX0_other_45 (lv_at hl 3 rfl) ?_
          refine bd hf (fun a3 h_a3 hf => ?_)
          refine ei_aald 5 rfl FX hw h_a3 dX0_other_47 ?_
          refine bd hf (fun g4 h_g4 hf => ?_)
          refine bd hf (fun t5 h_t5 hf => ?_)
          obtain ⟨fs_g4, he_g4⟩ := dC_some (gC_some h_g4)
          refine clV_i0 (As := []) (rest := [.int z5_3]) FX hw (wX7_mayTangle h_t5) (cwV 0 FX.2.2.2.2 (lw_V q1268 q1256 q1257 q154 q1258) rfl rfl rfl (by decide +kernel) ⟨Nat.le_of_ble_eq_true rfl, Nat.le_of_ble_eq_true rfl⟩) (dyn_he hw he_g4) rfl rfl hl.1 rfl (lv_room (Nat.le_of_ble_eq_true rfl)) dX0_other_48 ⟨rfl, rfl⟩ ⟨Nat.zero_le _, Nat.zero_le _⟩ (fun H locs hw => ?_)
          refine lv_if_eq (tgt := 58) FX.1 FX.2.1 dX0_other_51 (by decide) (fun c_51 => ?_) (fun c_51 => ?_)
          · have hf := it_pos c_51 hf
            refine lv_iconst (v := 0) FX.1 FX.2.1 dX0_other_58 (by decide) ?_
            refine lv_isub FX.1 FX.2.1 dX0_other_59 ?_
            refine lv_istore_n (lv' := [(3, .int (z5_3 - 0)), (0, .ref (G.2.2.2 131)), (1, .int p1), (4, .int z5_4)]) FX.1 FX.2.1 dX0_other_60 rfl hl (by decide) rfl (fun ls hl => ?_)
            refine lv_iinc (v := (z5_4 + 1)) (lv' := [(4, .int (z5_4 + 1)), (3, .int (z5_3 - 0)), (0, .ref (G.2.2.2 131)), (1, .int p1)]) FX.1 FX.2.1 dX0_other_61 hl (k := 3) rfl (congrArg (fun q : Int32 => z5_4 + q) (by decide : Int32.ofInt 1 = 1)) (by decide) rfl (fun ls hl => ?_)
            refine lv_goto (tgt := 5) FX.1 FX.2.1 dX0_other_64 (by decide) ?_
            exact ih _ _ _ _ _ (lpc hf hk5) hw (lv_sub hl [2, 3, 1, 0] rfl)
          · have hf := it_neg c_51 hf
            refine lv_iconst (v := 1) FX.1 FX.2.1 dX0_other_54 (by decide) ?_
            refine lv_goto (tgt := 59) FX.1 FX.2.1 dX0_other_55 (by decide) ?_
            refine lv_isub FX.1 FX.2.1 dX0_other_59 ?_
            refine lv_istore_n (lv' := [(3, .int (z5_3 - 1)), (0, .ref (G.2.2.2 131)), (1, .int p1), (4, .int z5_4)]) FX.1 FX.2.1 dX0_other_60 rfl hl (by decide) rfl (fun ls hl => ?_)
            refine lv_iinc (v := (z5_4 + 1)) (lv' := [(4, .int (z5_4 + 1)), (3, .int (z5_3 - 1)), (0, .ref (G.2.2.2 131)), (1, .int p1)]) FX.1 FX.2.1 dX0_other_61 hl (k := 3) rfl (congrArg (fun q : Int32 => z5_4 + q) (by decide : Int32.ofInt 1 = 1)) (by decide) rfl (fun ls hl => ?_)
            refine lv_goto (tgt := 5) FX.1 FX.2.1 dX0_other_64 (by decide) ?_
            exact ih _ _ _ _ _ (lpc hf hk5) hw (lv_sub hl [2, 3, 1, 0] rfl)
      refine lv_icmp_eq (tgt := 31) FX.1 FX.2.1 dX0_other_8 (by decide) (fun c_8 => ?_) (fun c_8 => ?_)
      · have hf := it_pos c_8 hf
        exact hK31  _ _ _ hf hw (lv_sub hl [0, 1, 2, 3] rfl)
      · have hf := it_neg c_8 hf
        refine lv_aload_n FX.1 FX.2.1 dX0_other_11 rfl (lv_at hl 0 rfl) ?_
        refine gX0_38 FX hw dX0_other_12 ?_
        refine bd hf (fun a6 h_a6 hf => ?_)
        rw [show va_rf (C.2.2.1 103) = .ref a6 from congrArg va_rf h_a6]
        refine bd hf (fun a7 h_a7 hf => ?_)
        refine gX0_161 FX hw h_a7 dX0_other_15 ?_
        refine lv_iload FX.1 FX.2.1 dX0_other_18 (lv_at hl 3 rfl) ?_
        refine bd hf (fun a8 h_a8 hf => ?_)
        refine ei_aald 5 rfl FX hw h_a8 dX0_other_20 ?_
        refine bd hf (fun g9 h_g9 hf => ?_)
        refine bd hf (fun t10 h_t10 hf => ?_)
        obtain ⟨fs_g9, he_g9⟩ := dC_some (gC_some h_g9)
        refine clV_i0 (As := []) (rest := []) FX hw (wX7_mayTangle h_t10) (cwV 0 FX.2.2.2.2 (lw_V q1268 q1256 q1257 q154 q1258) rfl rfl rfl (by decide +kernel) ⟨Nat.le_of_ble_eq_true rfl, Nat.le_of_ble_eq_true rfl⟩) (dyn_he hw he_g9) rfl rfl hl.1 rfl (lv_room (Nat.le_of_ble_eq_true rfl)) dX0_other_21 ⟨rfl, rfl⟩ ⟨Nat.zero_le _, Nat.zero_le _⟩ (fun H locs hw => ?_)
        refine lv_if_eq (tgt := 31) FX.1 FX.2.1 dX0_other_24 (by decide) (fun c_24 => ?_) (fun c_24 => ?_)
        · have hf := it_pos c_24 hf
          exact hK31  _ _ _ hf hw (lv_sub hl [0, 1, 2, 3] rfl)
        · have hf := it_neg c_24 hf
          refine lv_iload_n FX.1 FX.2.1 dX0_other_27 rfl (lv_at hl 2 rfl) ?_
          refine lv_if_le (tgt := 67) FX.1 FX.2.1 dX0_other_28 (by decide) (fun c_28 => ?_) (fun c_28 => ?_)
          · have hf := it_pos c_28 hf
            exact hX5 _ _ _ _ (lpe hf hk5) hw (lv_sub hl [3] rfl)
          · have hf := it_neg c_28 hf
            exact hK31  _ _ _ hf hw (lv_sub hl [0, 1, 2, 3] rfl)
  exact hL5 n _ _ _ _ _ hn hw (lv_sub hl [2, 3, 1, 0] rfl)
