abbrev rmX0_fresh : Room := { frames := 9, cells := 0, slots := 0, locals := 478 }
set_option maxHeartbeats 4000000 in
theorem wX0_fresh {l : Launch} {G : GT} {M C : FS} {K : KT} {p1 : Int32} {p2 : Int32} {t : (Int32 × FS)} (hf : fX0_fresh C K p1 p2 = some t) : CtI l yX0_fresh (ws_ yX0_fresh cX0_fresh 4 (some .boolean)) rmX0_fresh G [.ref (G.2.2.2 131), .int p1, .int p2] (M, C, K.1, K.2.1) t.1 (M, t.2, K.1, K.2.1) := by
  refine mkI (ty := .boolean) (by decide) (Nat.le_of_ble_eq_true rfl) (fun p e s m a0 below meth c Q FX hw hname hret ls hl => ?_)
  have hl : lv_has ls 4 [(0, .ref (G.2.2.2 131)), (1, .int p1), (2, .int p2)] := hl
  unfold fX0_fresh at hf
  refine lv_aload_n FX.1 FX.2.1 dX0_fresh_0 rfl (lv_at hl 0 rfl) ?_
  refine lv_iload_n FX.1 FX.2.1 dX0_fresh_1 rfl (lv_at hl 1 rfl) ?_
  refine bd hf (fun t1 h_t1 hf => ?_)
  refine clV_i0 (As := [.int p1]) (rest := []) FX hw (wX0_wrongLead h_t1) (cwV 1 FX.2.2.2.2 (lw_V q1193 q1195 qs24 q134 q1196) rfl rfl rfl (by decide +kernel) ⟨Nat.le_of_ble_eq_true rfl, Nat.le_of_ble_eq_true rfl⟩) (fx_obj hw (o := (131, 0, 100, 31)) (by decide)) rfl rfl hl.1 rfl (lv_room (Nat.le_of_ble_eq_true rfl)) dX0_fresh_2 ⟨rfl, rfl⟩ ⟨Nat.zero_le _, Nat.zero_le _⟩ (fun H locs hw => ?_)
  refine lv_istore_n (lv' := [(3, .int t1), (0, .ref (G.2.2.2 131)), (1, .int p1), (2, .int p2)]) FX.1 FX.2.1 dX0_fresh_5 rfl hl (by decide) rfl (fun ls hl => ?_)
  refine lv_iload_n FX.1 FX.2.1 dX0_fresh_6 rfl (lv_at hl 0 rfl) ?_
  refine lv_if_le (tgt := 16) FX.1 FX.2.1 dX0_fresh_7 (by decide) (fun c_7 => ?_) (fun c_7 => ?_)
  · have hf := it_pos c_7 hf
    refine lv_iload_n FX.1 FX.2.1 dX0_fresh_16 rfl (lv_at hl 3 rfl) ?_
    refine lv_i2l (v := p2.toInt64) FX.1 FX.2.1 dX0_fresh_17 rfl ?_
    refine lv_lconst (v := 0) FX.1 FX.2.1 dX0_fresh_18 (by decide) ?_
    refine lv_ldc2 FX.1 FX.2.1 FX.2.2.2.1 (FX.2.2.2.2 _ q1430) dX0_fresh_19 ?_
    refine bd hf (fun t2 h_t2 hf => ?_)
    refine clS_i0 (As := [.long p2.toInt64, .long 0, .long 999]) (rest := []) FX hw (wX0_isFrom h_t2) (va_cwS 3 FX.2.2.2.2 (lw_S q1119 q1120 q134 q1121) rfl rfl rfl (by decide +kernel) ⟨Nat.le_of_ble_eq_true rfl, Nat.le_of_ble_eq_true rfl⟩) rfl hl.1 rfl (lv_room (Nat.le_of_ble_eq_true rfl)) dX0_fresh_22 ⟨rfl, rfl⟩ ⟨Nat.zero_le _, Nat.zero_le _⟩ (fun H locs hw => ?_)
    refine lv_if_ne (tgt := 34) FX.1 FX.2.1 dX0_fresh_25 (by decide) (fun c_25 => ?_) (fun c_25 => ?_)
    · have hf := it_neg c_25 hf
      refine lv_aload_n FX.1 FX.2.1 dX0_fresh_34 rfl (lv_at hl 1 rfl) ?_
      refine lv_aload_n FX.1 FX.2.1 dX0_fresh_35 rfl (lv_at hl 1 rfl) ?_
      refine lv_iload_n FX.1 FX.2.1 dX0_fresh_36 rfl (lv_at hl 2 rfl) ?_
      refine bd hf (fun t3 h_t3 hf => ?_)
      refine clV_i0 (As := [.int p1]) (rest := [.ref (G.2.2.2 131)]) FX hw (wX0_aloneOf h_t3) (cwV 1 FX.2.2.2.2 (lw_V q1364 q1366 qs30 q134 q1367) rfl rfl rfl (by decide +kernel) ⟨Nat.le_of_ble_eq_true rfl, Nat.le_of_ble_eq_true rfl⟩) (fx_obj hw (o := (131, 0, 100, 31)) (by decide)) rfl rfl hl.1 rfl (lv_room (Nat.le_of_ble_eq_true rfl)) dX0_fresh_37 ⟨rfl, rfl⟩ ⟨Nat.zero_le _, Nat.zero_le _⟩ (fun H locs hw => ?_)
      refine lv_i2l (v := t3.1.toInt64) FX.1 FX.2.1 dX0_fresh_40 rfl ?_
      refine lv_iload_n FX.1 FX.2.1 dX0_fresh_41 rfl (lv_at hl 3 rfl) ?_
      refine lv_i2l (v := p2.toInt64) FX.1 FX.2.1 dX0_fresh_42 rfl ?_
      refine lv_lmul FX.1 FX.2.1 dX0_fresh_43 ?_
      refine lv_ldc2 FX.1 FX.2.1 FX.2.2.2.1 (FX.2.2.2.2 _ q1431) dX0_fresh_44 ?_
      refine lv_aload_n FX.1 FX.2.1 dX0_fresh_47 rfl (lv_at hl 1 rfl) ?_
      refine gX0_38 FX hw dX0_fresh_48 ?_
      refine bd hf (fun a4 h_a4 hf => ?_)
      rw [show va_rf (t3.2.2.2.1 103) = .ref a4 from congrArg va_rf h_a4]
      refine bd hf (fun a5 h_a5 hf => ?_)
      refine gX0_161 FX hw h_a5 dX0_fresh_51 ?_
      refine lv_iload_n FX.1 FX.2.1 dX0_fresh_54 rfl (lv_at hl 2 rfl) ?_
      refine bd hf (fun a6 h_a6 hf => ?_)
      refine ei_aald 5 rfl FX hw h_a6 dX0_fresh_55 ?_
      refine bd hf (fun v7 h_v7 hf => ?_)
      refine gX0_248 FX hw h_v7 dX0_fresh_56 ?_
      refine lv_i2l (v := v7.toInt64) FX.1 FX.2.1 dX0_fresh_59 rfl ?_
      refine lv_lmul FX.1 FX.2.1 dX0_fresh_60 ?_
      refine lv_lsub FX.1 FX.2.1 dX0_fresh_61 ?_
      refine lv_ldc2 FX.1 FX.2.1 FX.2.2.2.1 (FX.2.2.2.2 _ q1431) dX0_fresh_62 ?_
      refine bd hf (fun t8 h_t8 hf => ?_)
      refine clV_i0 (As := [.long ((t3.1.toInt64 * p2.toInt64) - (60 * v7.toInt64)), .long 60]) (rest := []) FX hw (wX0_tell h_t8) (cwV 2 FX.2.2.2.2 (lw_V q1432 q1434 qs38 q134 q1435) rfl rfl rfl (by decide +kernel) ⟨Nat.le_of_ble_eq_true rfl, Nat.le_of_ble_eq_true rfl⟩) (fx_obj hw (o := (131, 0, 100, 31)) (by decide)) rfl rfl hl.1 rfl (lv_room (Nat.le_of_ble_eq_true rfl)) dX0_fresh_65 ⟨rfl, rfl⟩ ⟨Nat.zero_le _, Nat.zero_le _⟩ (fun H locs hw => ?_)
      refine bd hf (fun b9 h_b9 hf => ?_)
      exact hret _ _ (bool_nar (bz_or h_b9)) (congrArg (fun z => z.1) (Option.some.inj hf)) (congrArg (fun z => (M, z.2, K.1, K.2.1)) (Option.some.inj hf)) hw dX0_fresh_68
    · have hf := it_pos c_25 hf
      refine lv_aload_n FX.1 FX.2.1 dX0_fresh_28 rfl (lv_at hl 1 rfl) ?_
      refine lv_iconst (v := 5) FX.1 FX.2.1 dX0_fresh_29 (by decide) ?_
      refine bd hf (fun t10 h_t10 hf => ?_)
      refine clV_i0 (As := [.int 5]) (rest := []) FX hw (wX0_is h_t10) (cwV 1 FX.2.2.2.2 (lw_V q551 q553 qs2 q134 q554) rfl rfl rfl (by decide +kernel) ⟨Nat.le_of_ble_eq_true rfl, Nat.le_of_ble_eq_true rfl⟩) (fx_obj hw (o := (131, 0, 100, 31)) (by decide)) rfl rfl hl.1 rfl (lv_room (Nat.le_of_ble_eq_true rfl)) dX0_fresh_30 ⟨rfl, rfl⟩ ⟨Nat.zero_le _, Nat.zero_le _⟩ (fun H locs hw => ?_)
      refine bd hf (fun b11 h_b11 hf => ?_)
      exact hret _ _ (bool_nar (bz_or h_b11)) (congrArg (fun z => z.1) (Option.some.inj hf)) (congrArg (fun z => (M, z.2, K.1, K.2.1)) (Option.some.inj hf)) hw dX0_fresh_33
  · have hf := it_neg c_7 hf
    refine lv_aload_n FX.1 FX.2.1 dX0_fresh_10 rfl (lv_at hl 1 rfl) ?_
    refine lv_iload_n FX.1 FX.2.1 dX0_fresh_11 rfl (lv_at hl 0 rfl) ?_
    refine bd hf (fun t12 h_t12 hf => ?_)
    refine clV_i0 (As := [.int t1]) (rest := []) FX hw (wX0_is h_t12) (cwV 1 FX.2.2.2.2 (lw_V q551 q553 qs2 q134 q554) rfl rfl rfl (by decide +kernel) ⟨Nat.le_of_ble_eq_true rfl, Nat.le_of_ble_eq_true rfl⟩) (fx_obj hw (o := (131, 0, 100, 31)) (by decide)) rfl rfl hl.1 rfl (lv_room (Nat.le_of_ble_eq_true rfl)) dX0_fresh_12 ⟨rfl, rfl⟩ ⟨Nat.zero_le _, Nat.zero_le _⟩ (fun H locs hw => ?_)
    refine bd hf (fun b13 h_b13 hf => ?_)
    exact hret _ _ (bool_nar (bz_or h_b13)) (congrArg (fun z => z.1) (Option.some.inj hf)) (congrArg (fun z => (M, z.2, K.1, K.2.1)) (Option.some.inj hf)) hw dX0_fresh_15
abbrev rmX0_risks : Room := { frames := 2, cells := 0, slots := 0, locals := 80 }
set_option maxHeartbeats 4000000 in
theorem wX0_risks {l : Launch} {G : GT} {M C : FS} {K : KT} {t : Int32} (hf : fX0_risks C K = some t) : CtI l yX0_risks (ws_ yX0_risks cX0_risks 3 (some .int)) rmX0_risks G [.ref (G.2.2.2 131)] (M, C, K.1, K.2.1) t (M, C, K.1, K.2.1) := by
  refine mkI (ty := .int) (by decide) (Nat.le_of_ble_eq_true rfl) (fun p e s m a0 below meth c Q FX hw hname hret ls hl => ?_)
  have hl : lv_has ls 3 [(0, .ref (G.2.2.2 131))] := hl
  unfold fX0_risks at hf
  refine lv_iconst (v := 0) FX.1 FX.2.1 dX0_risks_0 (by decide) ?_
  refine lv_istore_n (lv' := [(1, .int 0), (0, .ref (G.2.2.2 131))]) FX.1 FX.2.1 dX0_risks_1 rfl hl (by decide) rfl (fun ls hl => ?_)
  refine lv_iconst (v := 0) FX.1 FX.2.1 dX0_risks_2 (by decide) ?_
  refine lv_istore_n (lv' := [(2, .int 0), (1, .int 0), (0, .ref (G.2.2.2 131))]) FX.1 FX.2.1 dX0_risks_3 rfl hl (by decide) rfl (fun ls hl => ?_)
  refine bd hf (fun u4 ht hf => ?_)
  obtain ⟨n, hn⟩ := lp_iff.mp ht
  have hX4 : ∀ (t4_1 : Int32) (H : Heap) (locs : List Loc) (ls : Array Slot) , t4_1 = u4 → WS G (M, C, K.1, K.2.1) s H locs → lv_has ls 3 [(1, .int t4_1)] → W p l e rmX0_risks s m a0 below meth c H locs 0 0 Q (F0 m 63 ls []) := by
    intro t4_1 H locs ls he hw hl
    subst he
    refine lv_iload_n FX.1 FX.2.1 dX0_risks_63 rfl (lv_at hl 0 rfl) ?_
    exact hret _ _ rfl (congrArg (fun z => z) (Option.some.inj hf)) rfl hw dX0_risks_64
  have hL4 : ∀ (n : Nat) (z4_1 : Int32) (z4_2 : Int32) (H : Heap) (locs : List Loc) (ls : Array Slot) , lpN (fun z => fX0_risks_L4 C K z.1 z.2) n (z4_1, z4_2) = some u4 → WS G (M, C, K.1, K.2.1) s H locs → lv_has ls 3 [(0, .ref (G.2.2.2 131)), (1, .int z4_1), (2, .int z4_2)] → W p l e rmX0_risks s m a0 below meth c H locs 0 0 Q (F0 m 4 ls []) := by
    intro n
    induction n with
    | zero => intro z4_1 z4_2 H locs ls hz; cases hz
    | succ n ih =>
      intro z4_1 z4_2 H locs ls hz hw hl
      refine bd (show (fX0_risks_L4 C K z4_1 z4_2).bind _ = some u4 from hz) (fun x4 hf hk4 => ?_)
      unfold fX0_risks_L4 at hf
      refine lv_iload_n FX.1 FX.2.1 dX0_risks_4 rfl (lv_at hl 2 rfl) ?_
      refine lv_aload_n FX.1 FX.2.1 dX0_risks_5 rfl (lv_at hl 0 rfl) ?_
      refine gX0_38 FX hw dX0_risks_6 ?_
      refine bd hf (fun a1 h_a1 hf => ?_)
      rw [show va_rf (C.2.2.1 103) = .ref a1 from congrArg va_rf h_a1]
      refine bd hf (fun v2 h_v2 hf => ?_)
      refine gX0_152 FX hw h_v2 dX0_risks_9 ?_
      refine lv_icmp_ge (tgt := 63) FX.1 FX.2.1 dX0_risks_12 (by decide) (fun c_12 => ?_) (fun c_12 => ?_)
      · have hf := it_pos c_12 hf
        exact hX4 _ _ _ _ (lpe hf hk4) hw (lv_sub hl [1] rfl)
      · have hf := it_neg c_12 hf
        refine lv_iload_n FX.1 FX.2.1 dX0_risks_15 rfl (lv_at hl 1 rfl) ?_
        refine lv_aload_n FX.1 FX.2.1 dX0_risks_16 rfl (lv_at hl 0 rfl) ?_
        refine gX0_38 FX hw dX0_risks_17 ?_
        refine bd hf (fun a3 h_a3 hf => ?_)
        rw [show va_rf (C.2.2.1 103) = .ref a3 from congrArg va_rf h_a3]
        refine bd hf (fun a4 h_a4 hf => ?_)
        refine gX0_161 FX hw h_a4 dX0_risks_20 ?_
        refine lv_iload_n FX.1 FX.2.1 dX0_risks_23 rfl (lv_at hl 2 rfl) ?_
        refine bd hf (fun a5 h_a5 hf => ?_)
        refine ei_aald 5 rfl FX hw h_a5 dX0_risks_24 ?_
        refine bd hf (fun g6 h_g6 hf => ?_)
        refine bd hf (fun t7 h_t7 hf => ?_)
        obtain ⟨fs_g6, he_g6⟩ := dC_some (gC_some h_g6)
        refine clV_i0 (As := []) (rest := [.int z4_1]) FX hw (wX7_mayTangle h_t7) (cwV 0 FX.2.2.2.2 (lw_V q1268 q1256 q1257 q154 q1258) rfl rfl rfl (by decide +kernel) ⟨Nat.le_of_ble_eq_true rfl, Nat.le_of_ble_eq_true rfl⟩) (dyn_he hw he_g6) rfl rfl hl.1 rfl (lv_room (Nat.le_of_ble_eq_true rfl)) dX0_risks_25 ⟨rfl, rfl⟩ ⟨Nat.zero_le _, Nat.zero_le _⟩ (fun H locs hw => ?_)
        refine lv_if_eq (tgt := 54) FX.1 FX.2.1 dX0_risks_28 (by decide) (fun c_28 => ?_) (fun c_28 => ?_)
        · have hf := it_pos c_28 hf
          refine lv_iconst (v := 0) FX.1 FX.2.1 dX0_risks_54 (by decide) ?_
          refine lv_iadd FX.1 FX.2.1 dX0_risks_55 ?_
          refine lv_istore_n (lv' := [(1, .int (z4_1 + 0)), (0, .ref (G.2.2.2 131)), (2, .int z4_2)]) FX.1 FX.2.1 dX0_risks_56 rfl hl (by decide) rfl (fun ls hl => ?_)
          refine lv_iinc (v := (z4_2 + 1)) (lv' := [(2, .int (z4_2 + 1)), (1, .int (z4_1 + 0)), (0, .ref (G.2.2.2 131))]) FX.1 FX.2.1 dX0_risks_57 hl (k := 2) rfl (congrArg (fun q : Int32 => z4_2 + q) (by decide : Int32.ofInt 1 = 1)) (by decide) rfl (fun ls hl => ?_)
          refine lv_goto (tgt := 4) FX.1 FX.2.1 dX0_risks_60 (by decide) ?_
          exact ih _ _ _ _ _ (lpc hf hk4) hw (lv_sub hl [2, 1, 0] rfl)
        · have hf := it_neg c_28 hf
          refine lv_aload_n FX.1 FX.2.1 dX0_risks_31 rfl (lv_at hl 0 rfl) ?_
          refine lv_iload_n FX.1 FX.2.1 dX0_risks_32 rfl (lv_at hl 2 rfl) ?_
          refine bd hf (fun t8 h_t8 hf => ?_)
          refine clV_i0 (As := [.int z4_2]) (rest := [.int z4_1]) FX hw (wX0_others h_t8) (cwV 1 FX.2.2.2.2 (lw_V q1284 q1286 qs27 q134 q1287) rfl rfl rfl (by decide +kernel) ⟨Nat.le_of_ble_eq_true rfl, Nat.le_of_ble_eq_true rfl⟩) (fx_obj hw (o := (131, 0, 100, 31)) (by decide)) rfl rfl hl.1 rfl (lv_room (Nat.le_of_ble_eq_true rfl)) dX0_risks_33 ⟨rfl, rfl⟩ ⟨Nat.zero_le _, Nat.zero_le _⟩ (fun H locs hw => ?_)
          refine lv_if_le (tgt := 54) FX.1 FX.2.1 dX0_risks_36 (by decide) (fun c_36 => ?_) (fun c_36 => ?_)
          · have hf := it_pos c_36 hf
            refine lv_iconst (v := 0) FX.1 FX.2.1 dX0_risks_54 (by decide) ?_
            refine lv_iadd FX.1 FX.2.1 dX0_risks_55 ?_
            refine lv_istore_n (lv' := [(1, .int (z4_1 + 0)), (0, .ref (G.2.2.2 131)), (2, .int z4_2)]) FX.1 FX.2.1 dX0_risks_56 rfl hl (by decide) rfl (fun ls hl => ?_)
            refine lv_iinc (v := (z4_2 + 1)) (lv' := [(2, .int (z4_2 + 1)), (1, .int (z4_1 + 0)), (0, .ref (G.2.2.2 131))]) FX.1 FX.2.1 dX0_risks_57 hl (k := 2) rfl (congrArg (fun q : Int32 => z4_2 + q) (by decide : Int32.ofInt 1 = 1)) (by decide) rfl (fun ls hl => ?_)
            refine lv_goto (tgt := 4) FX.1 FX.2.1 dX0_risks_60 (by decide) ?_
            exact ih _ _ _ _ _ (lpc hf hk4) hw (lv_sub hl [2, 1, 0] rfl)
          · have hf := it_neg c_36 hf
            refine lv_aload_n FX.1 FX.2.1 dX0_risks_39 rfl (lv_at hl 0 rfl) ?_
            refine gX0_38 FX hw dX0_risks_40 ?_
            refine bd hf (fun a9 h_a9 hf => ?_)
            rw [show va_rf (C.2.2.1 103) = .ref a9 from congrArg va_rf h_a9]
            refine bd hf (fun a10 h_a10 hf => ?_)
            refine gX0_161 FX hw h_a10 dX0_risks_43 ?_
            refine lv_iload_n FX.1 FX.2.1 dX0_risks_46 rfl (lv_at hl 2 rfl) ?_
            refine bd hf (fun a11 h_a11 hf => ?_)
            refine ei_aald 5 rfl FX hw h_a11 dX0_risks_47 ?_
            refine bd hf (fun g12 h_g12 hf => ?_)
            refine bd hf (fun t13 h_t13 hf => ?_)
            obtain ⟨fs_g12, he_g12⟩ := dC_some (gC_some h_g12)
            refine clV_i0 (As := []) (rest := [.int z4_1]) FX hw (wX7_risk h_t13) (cwV 0 FX.2.2.2.2 (lw_V q1053 q1054 q1055 q154 q1056) rfl rfl rfl (by decide +kernel) ⟨Nat.le_of_ble_eq_true rfl, Nat.le_of_ble_eq_true rfl⟩) (dyn_he hw he_g12) rfl rfl hl.1 rfl (lv_room (Nat.le_of_ble_eq_true rfl)) dX0_risks_48 ⟨rfl, rfl⟩ ⟨Nat.zero_le _, Nat.zero_le _⟩ (fun H locs hw => ?_)
            refine lv_goto (tgt := 55) FX.1 FX.2.1 dX0_risks_51 (by decide) ?_
            refine lv_iadd FX.1 FX.2.1 dX0_risks_55 ?_
            refine lv_istore_n (lv' := [(1, .int (z4_1 + t13)), (0, .ref (G.2.2.2 131)), (2, .int z4_2)]) FX.1 FX.2.1 dX0_risks_56 rfl hl (by decide) rfl (fun ls hl => ?_)
            refine lv_iinc (v := (z4_2 + 1)) (lv' := [(2, .int (z4_2 + 1)), (1, .int (z4_1 + t13)), (0, .ref (G.2.2.2 131))]) FX.1 FX.2.1 dX0_risks_57 hl (k := 2) rfl (congrArg (fun q : Int32 => z4_2 + q) (by decide : Int32.ofInt 1 = 1)) (by decide) rfl (fun ls hl => ?_)
            refine lv_goto (tgt := 4) FX.1 FX.2.1 dX0_risks_60 (by decide) ?_
            exact ih _ _ _ _ _ (lpc hf hk4) hw (lv_sub hl [2, 1, 0] rfl)
  exact hL4 n _ _ _ _ _ hn hw (lv_sub hl [2, 1, 0] rfl)
abbrev rmX0_grows : Room := { frames := 3, cells := 0, slots := 0, locals := 102 }
set_option maxHeartbeats 4000000 in
theorem wX0_grows {l : Launch} {G : GT} {M C : FS} {K : KT} {t : (Int32 × FS)} (hf : fX0_grows C K = some t) : CtI l yX0_grows (ws_ yX0_grows cX0_grows 1 (some .boolean)) rmX0_grows G [.ref (G.2.2.2 131)] (M, C, K.1, K.2.1) t.1 (M, t.2, K.1, K.2.1) := by
  refine mkI (ty := .boolean) (by decide) (Nat.le_of_ble_eq_true rfl) (fun p e s m a0 below meth c Q FX hw hname hret ls hl => ?_)
  have hl : lv_has ls 1 [(0, .ref (G.2.2.2 131))] := hl
  unfold fX0_grows at hf
  refine lv_aload_n FX.1 FX.2.1 dX0_grows_0 rfl (lv_at hl 0 rfl) ?_
  refine lv_aload_n FX.1 FX.2.1 dX0_grows_1 rfl (lv_at hl 0 rfl) ?_
  refine bd hf (fun t1 h_t1 hf => ?_)
  refine clV_i0 (As := []) (rest := [.ref (G.2.2.2 131)]) FX hw (wX0_risks h_t1) (cwV 0 FX.2.2.2.2 (lw_V q1443 q1445 qs39 q134 q1446) rfl rfl rfl (by decide +kernel) ⟨Nat.le_of_ble_eq_true rfl, Nat.le_of_ble_eq_true rfl⟩) (fx_obj hw (o := (131, 0, 100, 31)) (by decide)) rfl rfl hl.1 rfl (lv_room (Nat.le_of_ble_eq_true rfl)) dX0_grows_2 ⟨rfl, rfl⟩ ⟨Nat.zero_le _, Nat.zero_le _⟩ (fun H locs hw => ?_)
  refine lv_i2l (v := t1.toInt64) FX.1 FX.2.1 dX0_grows_5 rfl ?_
  refine lv_ldc2 FX.1 FX.2.1 FX.2.2.2.1 (FX.2.2.2.2 _ q1447) dX0_grows_6 ?_
  refine bd hf (fun t2 h_t2 hf => ?_)
  refine clV_i0 (As := [.long t1.toInt64, .long 16]) (rest := []) FX hw (wX0_tell h_t2) (cwV 2 FX.2.2.2.2 (lw_V q1432 q1434 qs38 q134 q1435) rfl rfl rfl (by decide +kernel) ⟨Nat.le_of_ble_eq_true rfl, Nat.le_of_ble_eq_true rfl⟩) (fx_obj hw (o := (131, 0, 100, 31)) (by decide)) rfl rfl hl.1 rfl (lv_room (Nat.le_of_ble_eq_true rfl)) dX0_grows_9 ⟨rfl, rfl⟩ ⟨Nat.zero_le _, Nat.zero_le _⟩ (fun H locs hw => ?_)
  refine bd hf (fun b3 h_b3 hf => ?_)
  exact hret _ _ (bool_nar (bz_or h_b3)) (congrArg (fun z => z.1) (Option.some.inj hf)) (congrArg (fun z => (M, z.2, K.1, K.2.1)) (Option.some.inj hf)) hw dX0_grows_12
abbrev rmX0_clips : Room := { frames := 3, cells := 0, slots := 0, locals := 102 }
set_option maxHeartbeats 4000000 in
theorem wX0_clips {l : Launch} {G : GT} {M C : FS} {K : KT} {t : (Int32 × FS)} (hf : fX0_clips C K = some t) : CtI l yX0_clips (ws_ yX0_clips cX0_clips 3 (some .int)) rmX0_clips G [.ref (G.2.2.2 131)] (M, C, K.1, K.2.1) t.1 (M, t.2, K.1, K.2.1) := by
  refine mkI (ty := .int) (by decide) (Nat.le_of_ble_eq_true rfl) (fun p e s m a0 below meth c Q FX hw hname hret ls hl => ?_)
  have hl : lv_has ls 3 [(0, .ref (G.2.2.2 131))] := hl
  unfold fX0_clips at hf
  refine lv_aload_n FX.1 FX.2.1 dX0_clips_0 rfl (lv_at hl 0 rfl) ?_
  refine gX0_38 FX hw dX0_clips_1 ?_
  refine bd hf (fun a1 h_a1 hf => ?_)
  rw [show va_rf (C.2.2.1 103) = .ref a1 from congrArg va_rf h_a1]
  refine bd hf (fun g2 h_g2 hf => ?_)
  refine bd hf (fun t3 h_t3 hf => ?_)
  obtain ⟨fs_g2, he_g2⟩ := dC_some (gC_some h_g2)
  refine clV_i0 (As := []) (rest := []) FX hw (wX4_inSet h_t3) (cwV 0 FX.2.2.2.2 (lw_V q1025 q1026 q1027 q141 q1028) rfl rfl rfl (by decide +kernel) ⟨Nat.le_of_ble_eq_true rfl, Nat.le_of_ble_eq_true rfl⟩) (dyn_he hw he_g2) rfl rfl hl.1 rfl (lv_room (Nat.le_of_ble_eq_true rfl)) dX0_clips_4 ⟨rfl, rfl⟩ ⟨Nat.zero_le _, Nat.zero_le _⟩ (fun H locs hw => ?_)
  refine lv_aload_n FX.1 FX.2.1 dX0_clips_7 rfl (lv_at hl 0 rfl) ?_
  refine bd hf (fun t4 h_t4 hf => ?_)
  refine clV_i0 (As := []) (rest := [.int t3]) FX hw (wX0_clipped h_t4) (cwV 0 FX.2.2.2.2 (lw_V q1029 q1031 qs19 q134 q1032) rfl rfl rfl (by decide +kernel) ⟨Nat.le_of_ble_eq_true rfl, Nat.le_of_ble_eq_true rfl⟩) (fx_obj hw (o := (131, 0, 100, 31)) (by decide)) rfl rfl hl.1 rfl (lv_room (Nat.le_of_ble_eq_true rfl)) dX0_clips_8 ⟨rfl, rfl⟩ ⟨Nat.zero_le _, Nat.zero_le _⟩ (fun H locs hw => ?_)
  refine lv_iconst (v := (-1)) FX.1 FX.2.1 dX0_clips_11 (by decide) ?_
  refine lv_ixor FX.1 FX.2.1 dX0_clips_12 ?_
  refine lv_iand FX.1 FX.2.1 dX0_clips_13 ?_
  refine bd hf (fun t5 h_t5 hf => ?_)
  refine clS_i0 (As := [.int (t3 &&& (t4 ^^^ (-1)))]) (rest := []) FX hw (wJ12_bitCount h_t5) (va_cwS 1 FX.2.2.2.2 (lw_S q1452 q1230 q161 q1231) rfl rfl rfl (by decide +kernel) ⟨Nat.le_of_ble_eq_true rfl, Nat.le_of_ble_eq_true rfl⟩) rfl hl.1 rfl (lv_room (Nat.le_of_ble_eq_true rfl)) dX0_clips_14 ⟨rfl, rfl⟩ ⟨Nat.zero_le _, Nat.zero_le _⟩ (fun H locs hw => ?_)
  refine lv_istore_n (lv' := [(1, .int t5), (0, .ref (G.2.2.2 131))]) FX.1 FX.2.1 dX0_clips_17 rfl hl (by decide) rfl (fun ls hl => ?_)
  refine lv_iconst (v := 1) FX.1 FX.2.1 dX0_clips_18 (by decide) ?_
  refine lv_istore_n (lv' := [(2, .int 1), (1, .int t5), (0, .ref (G.2.2.2 131))]) FX.1 FX.2.1 dX0_clips_19 rfl hl (by decide) rfl (fun ls hl => ?_)
  refine bd hf (fun u20 ht hf => ?_)
  obtain ⟨n, hn⟩ := lp_iff.mp ht
  have hR20 : ∀ v, Sum.inl v = u20 → _ := fun v he => ell hf he
  have hX20 : ∀ (Ct20 : FS) (H : Heap) (locs : List Loc) (ls : Array Slot) , Sum.inr Ct20 = u20 → WS G (M, Ct20, K.1, K.2.1) s H locs → lv_has ls 3 [(0, .ref (G.2.2.2 131))] → W p l e rmX0_clips s m a0 below meth c H locs 0 0 Q (F0 m 57 ls []) := by
    intro Ct20 H locs ls he hw hl
    have hf := elr hf he
    refine lv_aload_n FX.1 FX.2.1 dX0_clips_57 rfl (lv_at hl 0 rfl) ?_
    refine lv_bipush (v := 8) FX.1 FX.2.1 dX0_clips_58 (by decide) ?_
    refine bd hf (fun t8 h_t8 hf => ?_)
    refine clV_i0 (As := [.int 8]) (rest := []) FX hw (wX0_none h_t8) (cwV 1 FX.2.2.2.2 (lw_V q620 q622 qs3 q134 q623) rfl rfl rfl (by decide +kernel) ⟨Nat.le_of_ble_eq_true rfl, Nat.le_of_ble_eq_true rfl⟩) (fx_obj hw (o := (131, 0, 100, 31)) (by decide)) rfl rfl hl.1 rfl (lv_room (Nat.le_of_ble_eq_true rfl)) dX0_clips_60 ⟨rfl, rfl⟩ ⟨Nat.zero_le _, Nat.zero_le _⟩ (fun H locs hw => ?_)
    exact hret _ _ rfl (congrArg (fun z => z.1) (Option.some.inj hf)) (congrArg (fun z => (M, z.2, K.1, K.2.1)) (Option.some.inj hf)) hw dX0_clips_63
  have hL20 : ∀ (n : Nat) (z20_2 : Int32) (Cz20 : FS) (H : Heap) (locs : List Loc) (ls : Array Slot) , lpN (fun z => fX0_clips_L20 K t5 z.1 z.2) n (z20_2, Cz20) = some u20 → WS G (M, Cz20, K.1, K.2.1) s H locs → lv_has ls 3 [(0, .ref (G.2.2.2 131)), (1, .int t5), (2, .int z20_2)] → W p l e rmX0_clips s m a0 below meth c H locs 0 0 Q (F0 m 20 ls []) := by
    intro n
    induction n with
    | zero => intro z20_2 Cz20 H locs ls hz; cases hz
    | succ n ih =>
      intro z20_2 Cz20 H locs ls hz hw hl
      refine bd (show (fX0_clips_L20 K t5 z20_2 Cz20).bind _ = some u20 from hz) (fun x20 hf hk20 => ?_)
      unfold fX0_clips_L20 at hf
      refine lv_iload_n FX.1 FX.2.1 dX0_clips_20 rfl (lv_at hl 2 rfl) ?_
      refine lv_sipush (v := 999) FX.1 FX.2.1 dX0_clips_21 (by decide) ?_
      refine lv_icmp_gt (tgt := 57) FX.1 FX.2.1 dX0_clips_24 (by decide) (fun c_24 => ?_) (fun c_24 => ?_)
      · have hf := it_pos c_24 hf
        exact hX20 _ _ _ _ (lpe hf hk20) hw (lv_sub hl [0] rfl)
      · have hf := it_neg c_24 hf
        refine lv_iload_n FX.1 FX.2.1 dX0_clips_27 rfl (lv_at hl 2 rfl) ?_
        refine lv_aload_n FX.1 FX.2.1 dX0_clips_28 rfl (lv_at hl 0 rfl) ?_
        refine bd hf (fun t6 h_t6 hf => ?_)
        refine clV_i0 (As := []) (rest := [.int z20_2]) FX hw (wX0_risks h_t6) (cwV 0 FX.2.2.2.2 (lw_V q1443 q1445 qs39 q134 q1446) rfl rfl rfl (by decide +kernel) ⟨Nat.le_of_ble_eq_true rfl, Nat.le_of_ble_eq_true rfl⟩) (fx_obj hw (o := (131, 0, 100, 31)) (by decide)) rfl rfl hl.1 rfl (lv_room (Nat.le_of_ble_eq_true rfl)) dX0_clips_29 ⟨rfl, rfl⟩ ⟨Nat.zero_le _, Nat.zero_le _⟩ (fun H locs hw => ?_)
        refine lv_imul FX.1 FX.2.1 dX0_clips_32 ?_
        refine lv_iconst (v := 5) FX.1 FX.2.1 dX0_clips_33 (by decide) ?_
        refine lv_imul FX.1 FX.2.1 dX0_clips_34 ?_
        refine lv_bipush (v := 12) FX.1 FX.2.1 dX0_clips_35 (by decide) ?_
        refine lv_iload_n FX.1 FX.2.1 dX0_clips_37 rfl (lv_at hl 1 rfl) ?_
        refine lv_imul FX.1 FX.2.1 dX0_clips_38 ?_
        refine lv_bipush (v := 16) FX.1 FX.2.1 dX0_clips_39 (by decide) ?_
        refine lv_imul FX.1 FX.2.1 dX0_clips_41 ?_
        refine lv_icmp_le (tgt := 51) FX.1 FX.2.1 dX0_clips_42 (by decide) (fun c_42 => ?_) (fun c_42 => ?_)
        · have hf := it_pos c_42 hf
          refine lv_iinc (v := (z20_2 + 1)) (lv' := [(2, .int (z20_2 + 1)), (0, .ref (G.2.2.2 131)), (1, .int t5)]) FX.1 FX.2.1 dX0_clips_51 hl (k := 2) rfl (congrArg (fun q : Int32 => z20_2 + q) (by decide : Int32.ofInt 1 = 1)) (by decide) rfl (fun ls hl => ?_)
          refine lv_goto (tgt := 20) FX.1 FX.2.1 dX0_clips_54 (by decide) ?_
          exact ih _ _ _ _ _ (lpc hf hk20) hw (lv_sub hl [1, 2, 0] rfl)
        · have hf := it_neg c_42 hf
          refine lv_aload_n FX.1 FX.2.1 dX0_clips_45 rfl (lv_at hl 0 rfl) ?_
          refine lv_iload_n FX.1 FX.2.1 dX0_clips_46 rfl (lv_at hl 2 rfl) ?_
          refine bd hf (fun t7 h_t7 hf => ?_)
          refine clV_i0 (As := [.int z20_2]) (rest := []) FX hw (wX0_gives h_t7) (cwV 1 FX.2.2.2.2 (lw_V q962 q964 qs16 q134 q965) rfl rfl rfl (by decide +kernel) ⟨Nat.le_of_ble_eq_true rfl, Nat.le_of_ble_eq_true rfl⟩) (fx_obj hw (o := (131, 0, 100, 31)) (by decide)) rfl rfl hl.1 rfl (lv_room (Nat.le_of_ble_eq_true rfl)) dX0_clips_47 ⟨rfl, rfl⟩ ⟨Nat.zero_le _, Nat.zero_le _⟩ (fun H locs hw => ?_)
          have hf := hR20 _ (lpe hf hk20)
          exact hret _ _ rfl (congrArg (fun z => z.1) (Option.some.inj hf)) (congrArg (fun z => (M, z.2, K.1, K.2.1)) (Option.some.inj hf)) hw dX0_clips_50
  exact hL20 n _ _ _ _ _ hn hw (lv_sub hl [2, 1, 0] rfl)
abbrev rmX0_tryOf : Room := { frames := 1, cells := 0, slots := 0, locals := 22 }
set_option maxHeartbeats 4000000 in
theorem wX0_tryOf {l : Launch} {G : GT} {M C : FS} {K : KT} {p1 : Int32} {p2 : Int32} {t : Int32} (hf : fX0_tryOf C K p1 p2 = some t) : CtI l yX0_tryOf (ws_ yX0_tryOf cX0_tryOf 7 (some .int)) rmX0_tryOf G [.ref (G.2.2.2 131), .int p1, .int p2] (M, C, K.1, K.2.1) t (M, C, K.1, K.2.1) := by
  refine mkI (ty := .int) (by decide) (Nat.le_of_ble_eq_true rfl) (fun p e s m a0 below meth c Q FX hw hname hret ls hl => ?_)
  have hl : lv_has ls 7 [(0, .ref (G.2.2.2 131)), (1, .int p1), (2, .int p2)] := hl
  unfold fX0_tryOf at hf
  refine lv_aload_n FX.1 FX.2.1 dX0_tryOf_0 rfl (lv_at hl 0 rfl) ?_
  refine gX0_38 FX hw dX0_tryOf_1 ?_
  refine bd hf (fun a1 h_a1 hf => ?_)
  rw [show va_rf (C.2.2.1 103) = .ref a1 from congrArg va_rf h_a1]
  refine bd hf (fun a2 h_a2 hf => ?_)
  refine gX0_281 FX hw h_a2 dX0_tryOf_4 ?_
  refine lv_iload_n FX.1 FX.2.1 dX0_tryOf_7 rfl (lv_at hl 1 rfl) ?_
  refine bd hf (fun v3 h_v3 hf => ?_)
  refine ei_ald FX hw h_v3 dX0_tryOf_8 ?_
  refine lv_aload_n FX.1 FX.2.1 dX0_tryOf_9 rfl (lv_at hl 0 rfl) ?_
  refine gX0_38 FX hw dX0_tryOf_10 ?_
  refine bd hf (fun a4 h_a4 hf => ?_)
  rw [show va_rf (C.2.2.1 103) = .ref a4 from congrArg va_rf h_a4]
  refine bd hf (fun g5 h_g5 hf => ?_)
  refine bd hf (fun t6 h_t6 hf => ?_)
  obtain ⟨fs_g5, he_g5⟩ := dC_some (gC_some h_g5)
  refine clV_i0 (As := []) (rest := [.int v3]) FX hw (wX4_inSet h_t6) (cwV 0 FX.2.2.2.2 (lw_V q1025 q1026 q1027 q141 q1028) rfl rfl rfl (by decide +kernel) ⟨Nat.le_of_ble_eq_true rfl, Nat.le_of_ble_eq_true rfl⟩) (dyn_he hw he_g5) rfl rfl hl.1 rfl (lv_room (Nat.le_of_ble_eq_true rfl)) dX0_tryOf_13 ⟨rfl, rfl⟩ ⟨Nat.zero_le _, Nat.zero_le _⟩ (fun H locs hw => ?_)
  refine lv_iand FX.1 FX.2.1 dX0_tryOf_16 ?_
  refine lv_istore_n (lv' := [(3, .int (v3 &&& t6)), (0, .ref (G.2.2.2 131)), (1, .int p1), (2, .int p2)]) FX.1 FX.2.1 dX0_tryOf_17 rfl hl (by decide) rfl (fun ls hl => ?_)
  refine lv_iconst (v := 0) FX.1 FX.2.1 dX0_tryOf_18 (by decide) ?_
  refine lv_istore (lv' := [(4, .int 0), (3, .int (v3 &&& t6)), (0, .ref (G.2.2.2 131)), (1, .int p1), (2, .int p2)]) FX.1 FX.2.1 dX0_tryOf_19 hl (by decide) rfl (fun ls hl => ?_)
  refine bd hf (fun u21 ht hf => ?_)
  obtain ⟨n, hn⟩ := lp_iff.mp ht
  have hR21 : ∀ v, Sum.inl v = u21 → _ := fun v he => ell hf he
  have hX21 : ∀ (H : Heap) (locs : List Loc) (ls : Array Slot) , Sum.inr () = u21 → WS G (M, C, K.1, K.2.1) s H locs → lv_has ls 7 [] → W p l e rmX0_tryOf s m a0 below meth c H locs 0 0 Q (F0 m 167 ls []) := by
    intro H locs ls he hw hl
    have hf := elr hf he
    refine lv_iconst (v := (-1)) FX.1 FX.2.1 dX0_tryOf_167 (by decide) ?_
    exact hret _ _ rfl (congrArg (fun z => z) (Option.some.inj hf)) rfl hw dX0_tryOf_168
  have hL21 : ∀ (n : Nat) (z21_4 : Int32) (H : Heap) (locs : List Loc) (ls : Array Slot) , lpN (fX0_tryOf_L21 C K p2 v3 t6) n z21_4 = some u21 → WS G (M, C, K.1, K.2.1) s H locs → lv_has ls 7 [(0, .ref (G.2.2.2 131)), (2, .int p2), (3, .int (v3 &&& t6)), (4, .int z21_4)] → W p l e rmX0_tryOf s m a0 below meth c H locs 0 0 Q (F0 m 21 ls []) := by
    intro n
    induction n with
    | zero => intro z21_4 H locs ls hz; cases hz
    | succ n ih =>
      intro z21_4 H locs ls hz hw hl
      refine bd (show (fX0_tryOf_L21 C K p2 v3 t6 z21_4).bind _ = some u21 from hz) (fun x21 hf hk21 => ?_)
      unfold fX0_tryOf_L21 at hf
      refine lv_iload FX.1 FX.2.1 dX0_tryOf_21 (lv_at hl 3 rfl) ?_
      refine lv_aload_n FX.1 FX.2.1 dX0_tryOf_23 rfl (lv_at hl 0 rfl) ?_
      refine gX0_38 FX hw dX0_tryOf_24 ?_
      refine bd hf (fun a7 h_a7 hf => ?_)
      rw [show va_rf (C.2.2.1 103) = .ref a7 from congrArg va_rf h_a7]
      refine bd hf (fun v8 h_v8 hf => ?_)
      refine gX0_152 FX hw h_v8 dX0_tryOf_27 ?_
      refine lv_icmp_ge (tgt := 167) FX.1 FX.2.1 dX0_tryOf_30 (by decide) (fun c_30 => ?_) (fun c_30 => ?_)
      · have hf := it_pos c_30 hf
        exact hX21 _ _ _ (lpe hf hk21) hw (lv_sub hl [] rfl)
      · have hf := it_neg c_30 hf
        refine lv_iconst (v := 0) FX.1 FX.2.1 dX0_tryOf_33 (by decide) ?_
        refine lv_istore (lv' := [(5, .int 0), (0, .ref (G.2.2.2 131)), (2, .int p2), (3, .int (v3 &&& t6)), (4, .int z21_4)]) FX.1 FX.2.1 dX0_tryOf_34 hl (by decide) rfl (fun ls hl => ?_)
        refine lv_iconst (v := 0) FX.1 FX.2.1 dX0_tryOf_36 (by decide) ?_
        refine lv_istore (lv' := [(6, .int 0), (5, .int 0), (0, .ref (G.2.2.2 131)), (2, .int p2), (3, .int (v3 &&& t6)), (4, .int z21_4)]) FX.1 FX.2.1 dX0_tryOf_37 hl (by decide) rfl (fun ls hl => ?_)
        refine bd hf (fun u39 ht hf => ?_)
        obtain ⟨n, hn⟩ := lp_iff.mp ht
        have hX39 : ∀ (t39_5 : Int32) (H : Heap) (locs : List Loc) (ls : Array Slot) , t39_5 = u39 → WS G (M, C, K.1, K.2.1) s H locs → lv_has ls 7 [(0, .ref (G.2.2.2 131)), (2, .int p2), (3, .int (v3 &&& t6)), (4, .int z21_4), (5, .int t39_5)] → W p l e rmX0_tryOf s m a0 below meth c H locs 0 0 Q (F0 m 142 ls []) := by
          intro t39_5 H locs ls he hw hl
          subst he
          refine lv_iload_n FX.1 FX.2.1 dX0_tryOf_142 rfl (lv_at hl 2 rfl) ?_
          refine lv_iload FX.1 FX.2.1 dX0_tryOf_143 (lv_at hl 3 rfl) ?_
          refine lv_ishr FX.1 FX.2.1 dX0_tryOf_145 ?_
          refine lv_iconst (v := 1) FX.1 FX.2.1 dX0_tryOf_146 (by decide) ?_
          refine lv_iand FX.1 FX.2.1 dX0_tryOf_147 ?_
          refine lv_iconst (v := 1) FX.1 FX.2.1 dX0_tryOf_148 (by decide) ?_
          refine lv_icmp_ne (tgt := 161) FX.1 FX.2.1 dX0_tryOf_149 (by decide) (fun c_149 => ?_) (fun c_149 => ?_)
          · have hf := it_neg c_149 hf
            refine lv_iinc (v := (z21_4 + 1)) (lv' := [(4, .int (z21_4 + 1)), (0, .ref (G.2.2.2 131)), (2, .int p2), (3, .int (v3 &&& t6)), (5, .int t39_5)]) FX.1 FX.2.1 dX0_tryOf_161 hl (k := 3) rfl (congrArg (fun q : Int32 => z21_4 + q) (by decide : Int32.ofInt 1 = 1)) (by decide) rfl (fun ls hl => ?_)
            refine lv_goto (tgt := 21) FX.1 FX.2.1 dX0_tryOf_164 (by decide) ?_
            exact ih _ _ _ _ (lpc hf hk21) hw (lv_sub hl [1, 2, 3, 0] rfl)
          · have hf := it_pos c_149 hf
            refine lv_iload FX.1 FX.2.1 dX0_tryOf_152 (lv_at hl 4 rfl) ?_
            refine lv_iload_n FX.1 FX.2.1 dX0_tryOf_154 rfl (lv_at hl 1 rfl) ?_
            refine lv_icmp_ne (tgt := 161) FX.1 FX.2.1 dX0_tryOf_155 (by decide) (fun c_155 => ?_) (fun c_155 => ?_)
            · have hf := it_neg c_155 hf
              refine lv_iinc (v := (z21_4 + 1)) (lv' := [(4, .int (z21_4 + 1)), (0, .ref (G.2.2.2 131)), (2, .int p2), (3, .int (v3 &&& t6)), (5, .int t39_5)]) FX.1 FX.2.1 dX0_tryOf_161 hl (k := 3) rfl (congrArg (fun q : Int32 => z21_4 + q) (by decide : Int32.ofInt 1 = 1)) (by decide) rfl (fun ls hl => ?_)
              refine lv_goto (tgt := 21) FX.1 FX.2.1 dX0_tryOf_164 (by decide) ?_
              exact ih _ _ _ _ (lpc hf hk21) hw (lv_sub hl [1, 2, 3, 0] rfl)
            · have hf := it_pos c_155 hf
              refine lv_iload FX.1 FX.2.1 dX0_tryOf_158 (lv_at hl 3 rfl) ?_
              have hf := hR21 _ (lpe hf hk21)
              exact hret _ _ rfl (congrArg (fun z => z) (Option.some.inj hf)) rfl hw dX0_tryOf_160
        have hL39 : ∀ (n : Nat) (z39_5 : Int32) (z39_6 : Int32) (H : Heap) (locs : List Loc) (ls : Array Slot) , lpN (fun z => fX0_tryOf_L39 C K v3 t6 z21_4 z.1 z.2) n (z39_5, z39_6) = some u39 → WS G (M, C, K.1, K.2.1) s H locs → lv_has ls 7 [(0, .ref (G.2.2.2 131)), (2, .int p2), (3, .int (v3 &&& t6)), (4, .int z21_4), (5, .int z39_5), (6, .int z39_6)] → W p l e rmX0_tryOf s m a0 below meth c H locs 0 0 Q (F0 m 39 ls []) := by
          intro n
          induction n with
          | zero => intro z39_5 z39_6 H locs ls hz; cases hz
          | succ n ih =>
            intro z39_5 z39_6 H locs ls hz hw hl
            refine bd (show (fX0_tryOf_L39 C K v3 t6 z21_4 z39_5 z39_6).bind _ = some u39 from hz) (fun x39 hf hk39 => ?_)
            unfold fX0_tryOf_L39 at hf
            refine lv_iload FX.1 FX.2.1 dX0_tryOf_39 (lv_at hl 5 rfl) ?_
            refine lv_aload_n FX.1 FX.2.1 dX0_tryOf_41 rfl (lv_at hl 0 rfl) ?_
            refine gX0_38 FX hw dX0_tryOf_42 ?_
            refine bd hf (fun a9 h_a9 hf => ?_)
            rw [show va_rf (C.2.2.1 103) = .ref a9 from congrArg va_rf h_a9]
            refine bd hf (fun v10 h_v10 hf => ?_)
            refine gX0_152 FX hw h_v10 dX0_tryOf_45 ?_
            refine lv_icmp_ge (tgt := 142) FX.1 FX.2.1 dX0_tryOf_48 (by decide) (fun c_48 => ?_) (fun c_48 => ?_)
            · have hf := it_pos c_48 hf
              exact hX39 _ _ _ _ (lpe hf hk39) hw (lv_sub hl [0, 1, 2, 3, 4] rfl)
            · have hf := it_neg c_48 hf
              refine lv_iload FX.1 FX.2.1 dX0_tryOf_51 (lv_at hl 4 rfl) ?_
              refine lv_iload_n FX.1 FX.2.1 dX0_tryOf_53 rfl (lv_at hl 2 rfl) ?_
              refine lv_iload FX.1 FX.2.1 dX0_tryOf_54 (lv_at hl 5 rfl) ?_
              refine lv_ishr FX.1 FX.2.1 dX0_tryOf_56 ?_
              refine lv_iconst (v := 1) FX.1 FX.2.1 dX0_tryOf_57 (by decide) ?_
              refine lv_iand FX.1 FX.2.1 dX0_tryOf_58 ?_
              refine lv_iconst (v := 1) FX.1 FX.2.1 dX0_tryOf_59 (by decide) ?_
              refine lv_icmp_ne (tgt := 132) FX.1 FX.2.1 dX0_tryOf_60 (by decide) (fun c_60 => ?_) (fun c_60 => ?_)
              · have hf := it_neg c_60 hf
                refine lv_iconst (v := 0) FX.1 FX.2.1 dX0_tryOf_132 (by decide) ?_
                refine lv_iadd FX.1 FX.2.1 dX0_tryOf_133 ?_
                refine lv_istore (lv' := [(5, .int (z39_5 + 0)), (0, .ref (G.2.2.2 131)), (2, .int p2), (3, .int (v3 &&& t6)), (4, .int z21_4), (6, .int z39_6)]) FX.1 FX.2.1 dX0_tryOf_134 hl (by decide) rfl (fun ls hl => ?_)
                refine lv_iinc (v := (z39_6 + 1)) (lv' := [(6, .int (z39_6 + 1)), (5, .int (z39_5 + 0)), (0, .ref (G.2.2.2 131)), (2, .int p2), (3, .int (v3 &&& t6)), (4, .int z21_4)]) FX.1 FX.2.1 dX0_tryOf_136 hl (k := 5) rfl (congrArg (fun q : Int32 => z39_6 + q) (by decide : Int32.ofInt 1 = 1)) (by decide) rfl (fun ls hl => ?_)
                refine lv_goto (tgt := 39) FX.1 FX.2.1 dX0_tryOf_139 (by decide) ?_
                exact ih _ _ _ _ _ (lpc hf hk39) hw (lv_sub hl [2, 3, 4, 5, 1, 0] rfl)
              · have hf := it_pos c_60 hf
                refine lv_aload_n FX.1 FX.2.1 dX0_tryOf_63 rfl (lv_at hl 0 rfl) ?_
                refine gX0_38 FX hw dX0_tryOf_64 ?_
                refine bd hf (fun a11 h_a11 hf => ?_)
                rw [show va_rf (C.2.2.1 103) = .ref a11 from congrArg va_rf h_a11]
                refine bd hf (fun a12 h_a12 hf => ?_)
                refine gX0_161 FX hw h_a12 dX0_tryOf_67 ?_
                refine lv_iload FX.1 FX.2.1 dX0_tryOf_70 (lv_at hl 5 rfl) ?_
                refine bd hf (fun a13 h_a13 hf => ?_)
                refine ei_aald 5 rfl FX hw h_a13 dX0_tryOf_72 ?_
                refine bd hf (fun v14 h_v14 hf => ?_)
                refine gX0_251 FX hw h_v14 dX0_tryOf_73 ?_
                refine lv_aload_n FX.1 FX.2.1 dX0_tryOf_76 rfl (lv_at hl 0 rfl) ?_
                refine gX0_38 FX hw dX0_tryOf_77 ?_
                refine bd hf (fun a15 h_a15 hf => ?_)
                rw [show va_rf (C.2.2.1 103) = .ref a15 from congrArg va_rf h_a15]
                refine bd hf (fun a16 h_a16 hf => ?_)
                refine gX0_161 FX hw h_a16 dX0_tryOf_80 ?_
                refine lv_iload FX.1 FX.2.1 dX0_tryOf_83 (lv_at hl 3 rfl) ?_
                refine bd hf (fun a17 h_a17 hf => ?_)
                refine ei_aald 5 rfl FX hw h_a17 dX0_tryOf_85 ?_
                refine bd hf (fun v18 h_v18 hf => ?_)
                refine gX0_251 FX hw h_v18 dX0_tryOf_86 ?_
                refine lv_icmp_gt (tgt := 128) FX.1 FX.2.1 dX0_tryOf_89 (by decide) (fun c_89 => ?_) (fun c_89 => ?_)
                · have hf := it_pos c_89 hf
                  refine lv_iconst (v := 1) FX.1 FX.2.1 dX0_tryOf_128 (by decide) ?_
                  refine lv_goto (tgt := 133) FX.1 FX.2.1 dX0_tryOf_129 (by decide) ?_
                  refine lv_iadd FX.1 FX.2.1 dX0_tryOf_133 ?_
                  refine lv_istore (lv' := [(5, .int (z39_5 + 1)), (0, .ref (G.2.2.2 131)), (2, .int p2), (3, .int (v3 &&& t6)), (4, .int z21_4), (6, .int z39_6)]) FX.1 FX.2.1 dX0_tryOf_134 hl (by decide) rfl (fun ls hl => ?_)
                  refine lv_iinc (v := (z39_6 + 1)) (lv' := [(6, .int (z39_6 + 1)), (5, .int (z39_5 + 1)), (0, .ref (G.2.2.2 131)), (2, .int p2), (3, .int (v3 &&& t6)), (4, .int z21_4)]) FX.1 FX.2.1 dX0_tryOf_136 hl (k := 5) rfl (congrArg (fun q : Int32 => z39_6 + q) (by decide : Int32.ofInt 1 = 1)) (by decide) rfl (fun ls hl => ?_)
                  refine lv_goto (tgt := 39) FX.1 FX.2.1 dX0_tryOf_139 (by decide) ?_
                  exact ih _ _ _ _ _ (lpc hf hk39) hw (lv_sub hl [2, 3, 4, 5, 1, 0] rfl)
                · have hf := it_neg c_89 hf
                  refine lv_aload_n FX.1 FX.2.1 dX0_tryOf_92 rfl (lv_at hl 0 rfl) ?_
                  refine gX0_38 FX hw dX0_tryOf_93 ?_
                  refine bd hf (fun a19 h_a19 hf => ?_)
                  rw [show va_rf (C.2.2.1 103) = .ref a19 from congrArg va_rf h_a19]
                  refine bd hf (fun a20 h_a20 hf => ?_)
                  refine gX0_161 FX hw h_a20 dX0_tryOf_96 ?_
                  refine lv_iload FX.1 FX.2.1 dX0_tryOf_99 (lv_at hl 5 rfl) ?_
                  refine bd hf (fun a21 h_a21 hf => ?_)
                  refine ei_aald 5 rfl FX hw h_a21 dX0_tryOf_101 ?_
                  refine bd hf (fun v22 h_v22 hf => ?_)
                  refine gX0_251 FX hw h_v22 dX0_tryOf_102 ?_
                  refine lv_aload_n FX.1 FX.2.1 dX0_tryOf_105 rfl (lv_at hl 0 rfl) ?_
                  refine gX0_38 FX hw dX0_tryOf_106 ?_
                  refine bd hf (fun a23 h_a23 hf => ?_)
                  rw [show va_rf (C.2.2.1 103) = .ref a23 from congrArg va_rf h_a23]
                  refine bd hf (fun a24 h_a24 hf => ?_)
                  refine gX0_161 FX hw h_a24 dX0_tryOf_109 ?_
                  refine lv_iload FX.1 FX.2.1 dX0_tryOf_112 (lv_at hl 3 rfl) ?_
                  refine bd hf (fun a25 h_a25 hf => ?_)
                  refine ei_aald 5 rfl FX hw h_a25 dX0_tryOf_114 ?_
                  refine bd hf (fun v26 h_v26 hf => ?_)
                  refine gX0_251 FX hw h_v26 dX0_tryOf_115 ?_
                  refine lv_icmp_ne (tgt := 132) FX.1 FX.2.1 dX0_tryOf_118 (by decide) (fun c_118 => ?_) (fun c_118 => ?_)
                  · have hf := it_neg c_118 hf
                    refine lv_iconst (v := 0) FX.1 FX.2.1 dX0_tryOf_132 (by decide) ?_
                    refine lv_iadd FX.1 FX.2.1 dX0_tryOf_133 ?_
                    refine lv_istore (lv' := [(5, .int (z39_5 + 0)), (0, .ref (G.2.2.2 131)), (2, .int p2), (3, .int (v3 &&& t6)), (4, .int z21_4), (6, .int z39_6)]) FX.1 FX.2.1 dX0_tryOf_134 hl (by decide) rfl (fun ls hl => ?_)
                    refine lv_iinc (v := (z39_6 + 1)) (lv' := [(6, .int (z39_6 + 1)), (5, .int (z39_5 + 0)), (0, .ref (G.2.2.2 131)), (2, .int p2), (3, .int (v3 &&& t6)), (4, .int z21_4)]) FX.1 FX.2.1 dX0_tryOf_136 hl (k := 5) rfl (congrArg (fun q : Int32 => z39_6 + q) (by decide : Int32.ofInt 1 = 1)) (by decide) rfl (fun ls hl => ?_)
                    refine lv_goto (tgt := 39) FX.1 FX.2.1 dX0_tryOf_139 (by decide) ?_
                    exact ih _ _ _ _ _ (lpc hf hk39) hw (lv_sub hl [2, 3, 4, 5, 1, 0] rfl)
                  · have hf := it_pos c_118 hf
                    refine lv_iload FX.1 FX.2.1 dX0_tryOf_121 (lv_at hl 5 rfl) ?_
                    refine lv_iload FX.1 FX.2.1 dX0_tryOf_123 (lv_at hl 3 rfl) ?_
                    refine lv_icmp_ge (tgt := 132) FX.1 FX.2.1 dX0_tryOf_125 (by decide) (fun c_125 => ?_) (fun c_125 => ?_)
                    · have hf := it_pos c_125 hf
                      refine lv_iconst (v := 0) FX.1 FX.2.1 dX0_tryOf_132 (by decide) ?_
                      refine lv_iadd FX.1 FX.2.1 dX0_tryOf_133 ?_
                      refine lv_istore (lv' := [(5, .int (z39_5 + 0)), (0, .ref (G.2.2.2 131)), (2, .int p2), (3, .int (v3 &&& t6)), (4, .int z21_4), (6, .int z39_6)]) FX.1 FX.2.1 dX0_tryOf_134 hl (by decide) rfl (fun ls hl => ?_)
                      refine lv_iinc (v := (z39_6 + 1)) (lv' := [(6, .int (z39_6 + 1)), (5, .int (z39_5 + 0)), (0, .ref (G.2.2.2 131)), (2, .int p2), (3, .int (v3 &&& t6)), (4, .int z21_4)]) FX.1 FX.2.1 dX0_tryOf_136 hl (k := 5) rfl (congrArg (fun q : Int32 => z39_6 + q) (by decide : Int32.ofInt 1 = 1)) (by decide) rfl (fun ls hl => ?_)
                      refine lv_goto (tgt := 39) FX.1 FX.2.1 dX0_tryOf_139 (by decide) ?_
                      exact ih _ _ _ _ _ (lpc hf hk39) hw (lv_sub hl [2, 3, 4, 5, 1, 0] rfl)
                    · have hf := it_neg c_125 hf
                      refine lv_iconst (v := 1) FX.1 FX.2.1 dX0_tryOf_128 (by decide) ?_
                      refine lv_goto (tgt := 133) FX.1 FX.2.1 dX0_tryOf_129 (by decide) ?_
                      refine lv_iadd FX.1 FX.2.1 dX0_tryOf_133 ?_
                      refine lv_istore (lv' := [(5, .int (z39_5 + 1)), (0, .ref (G.2.2.2 131)), (2, .int p2), (3, .int (v3 &&& t6)), (4, .int z21_4), (6, .int z39_6)]) FX.1 FX.2.1 dX0_tryOf_134 hl (by decide) rfl (fun ls hl => ?_)
                      refine lv_iinc (v := (z39_6 + 1)) (lv' := [(6, .int (z39_6 + 1)), (5, .int (z39_5 + 1)), (0, .ref (G.2.2.2 131)), (2, .int p2), (3, .int (v3 &&& t6)), (4, .int z21_4)]) FX.1 FX.2.1 dX0_tryOf_136 hl (k := 5) rfl (congrArg (fun q : Int32 => z39_6 + q) (by decide : Int32.ofInt 1 = 1)) (by decide) rfl (fun ls hl => ?_)
                      refine lv_goto (tgt := 39) FX.1 FX.2.1 dX0_tryOf_139 (by decide) ?_
                      exact ih _ _ _ _ _ (lpc hf hk39) hw (lv_sub hl [2, 3, 4, 5, 1, 0] rfl)
        exact hL39 n _ _ _ _ _ hn hw (lv_sub hl [2, 3, 4, 5, 1, 0] rfl)
  exact hL21 n _ _ _ _ hn hw (lv_sub hl [2, 4, 1, 0] rfl)
abbrev rmX0_tries : Room := { frames := 2, cells := 0, slots := 0, locals := 90 }
set_option maxHeartbeats 4000000 in
theorem wX0_tries {l : Launch} {G : GT} {M C : FS} {K : KT} {p1 : Int32} {t : (Int32 × FS)} (hf : fX0_tries C K p1 = some t) : CtI l yX0_tries (ws_ yX0_tries cX0_tries 6 (some .boolean)) rmX0_tries G [.ref (G.2.2.2 131), .int p1] (M, C, K.1, K.2.1) t.1 (M, t.2, K.1, K.2.1) := by
  refine mkI (ty := .boolean) (by decide) (Nat.le_of_ble_eq_true rfl) (fun p e s m a0 below meth c Q FX hw hname hret ls hl => ?_)
  have hl : lv_has ls 6 [(0, .ref (G.2.2.2 131)), (1, .int p1)] := hl
  unfold fX0_tries at hf
  refine lv_aload_n FX.1 FX.2.1 dX0_tries_0 rfl (lv_at hl 0 rfl) ?_
  refine lv_iload_n FX.1 FX.2.1 dX0_tries_1 rfl (lv_at hl 1 rfl) ?_
  refine bd hf (fun t1 h_t1 hf => ?_)
  refine clV_i0 (As := [.int p1]) (rest := []) FX hw (wX0_isLook h_t1) (cwV 1 FX.2.2.2.2 (lw_V q1098 q1100 qs22 q134 q1101) rfl rfl rfl (by decide +kernel) ⟨Nat.le_of_ble_eq_true rfl, Nat.le_of_ble_eq_true rfl⟩) (fx_obj hw (o := (131, 0, 100, 31)) (by decide)) rfl rfl hl.1 rfl (lv_room (Nat.le_of_ble_eq_true rfl)) dX0_tries_2 ⟨rfl, rfl⟩ ⟨Nat.zero_le _, Nat.zero_le _⟩ (fun H locs hw => ?_)
  refine lv_if_ne (tgt := 14) FX.1 FX.2.1 dX0_tries_5 (by decide) (fun c_5 => ?_) (fun c_5 => ?_)
  · have hf := it_neg c_5 hf
    refine lv_aload_n FX.1 FX.2.1 dX0_tries_14 rfl (lv_at hl 0 rfl) ?_
    refine lv_iload_n FX.1 FX.2.1 dX0_tries_15 rfl (lv_at hl 1 rfl) ?_
    refine lv_iconst (v := 0) FX.1 FX.2.1 dX0_tries_16 (by decide) ?_
    refine bd hf (fun t2 h_t2 hf => ?_)
    refine clV_i0 (As := [.int p1, .int 0]) (rest := []) FX hw (wX0_tryOf h_t2) (cwV 2 FX.2.2.2.2 (lw_V q1457 q1459 qs40 q134 q1460) rfl rfl rfl (by decide +kernel) ⟨Nat.le_of_ble_eq_true rfl, Nat.le_of_ble_eq_true rfl⟩) (fx_obj hw (o := (131, 0, 100, 31)) (by decide)) rfl rfl hl.1 rfl (lv_room (Nat.le_of_ble_eq_true rfl)) dX0_tries_17 ⟨rfl, rfl⟩ ⟨Nat.zero_le _, Nat.zero_le _⟩ (fun H locs hw => ?_)
    refine lv_iconst (v := (-1)) FX.1 FX.2.1 dX0_tries_20 (by decide) ?_
    refine lv_icmp_ne (tgt := 31) FX.1 FX.2.1 dX0_tries_21 (by decide) (fun c_21 => ?_) (fun c_21 => ?_)
    · have hf := it_neg c_21 hf
      refine lv_iconst (v := 0) FX.1 FX.2.1 dX0_tries_31 (by decide) ?_
      refine lv_istore_n (lv' := [(2, .int 0), (0, .ref (G.2.2.2 131)), (1, .int p1)]) FX.1 FX.2.1 dX0_tries_32 rfl hl (by decide) rfl (fun ls hl => ?_)
      refine lv_iconst (v := 0) FX.1 FX.2.1 dX0_tries_33 (by decide) ?_
      refine lv_istore_n (lv' := [(3, .int 0), (2, .int 0), (0, .ref (G.2.2.2 131)), (1, .int p1)]) FX.1 FX.2.1 dX0_tries_34 rfl hl (by decide) rfl (fun ls hl => ?_)
      refine lv_iconst (v := 0) FX.1 FX.2.1 dX0_tries_35 (by decide) ?_
      refine lv_istore (lv' := [(4, .int 0), (3, .int 0), (2, .int 0), (0, .ref (G.2.2.2 131)), (1, .int p1)]) FX.1 FX.2.1 dX0_tries_36 hl (by decide) rfl (fun ls hl => ?_)
      refine bd hf (fun u38 ht hf => ?_)
      obtain ⟨n, hn⟩ := lp_iff.mp ht
      have hX38 : ∀ (t38_2 : Int32) (t38_3 : Int32) (H : Heap) (locs : List Loc) (ls : Array Slot) , (t38_2, t38_3) = u38 → WS G (M, C, K.1, K.2.1) s H locs → lv_has ls 6 [(0, .ref (G.2.2.2 131)), (2, .int t38_2), (3, .int t38_3)] → W p l e rmX0_tries s m a0 below meth c H locs 0 0 Q (F0 m 90 ls []) := by
        intro t38_2 t38_3 H locs ls he hw hl
        subst he
        have hf : fX0_tries_X38 C t38_2 t38_3 = some t := hf
        unfold fX0_tries_X38 at hf
        refine lv_iload_n FX.1 FX.2.1 dX0_tries_90 rfl (lv_at hl 1 rfl) ?_
        refine lv_if_ne (tgt := 103) FX.1 FX.2.1 dX0_tries_91 (by decide) (fun c_91 => ?_) (fun c_91 => ?_)
        · have hf := it_neg c_91 hf
          refine lv_aload_n FX.1 FX.2.1 dX0_tries_103 rfl (lv_at hl 0 rfl) ?_
          refine lv_iload_n FX.1 FX.2.1 dX0_tries_104 rfl (lv_at hl 2 rfl) ?_
          refine lv_i2l (v := t38_3.toInt64) FX.1 FX.2.1 dX0_tries_105 rfl ?_
          refine lv_iload_n FX.1 FX.2.1 dX0_tries_106 rfl (lv_at hl 1 rfl) ?_
          refine lv_i2l (v := t38_2.toInt64) FX.1 FX.2.1 dX0_tries_107 rfl ?_
          refine bd hf (fun t9 h_t9 hf => ?_)
          refine clV_i0 (As := [.long t38_3.toInt64, .long t38_2.toInt64]) (rest := []) FX hw (wX0_tell h_t9) (cwV 2 FX.2.2.2.2 (lw_V q1432 q1434 qs38 q134 q1435) rfl rfl rfl (by decide +kernel) ⟨Nat.le_of_ble_eq_true rfl, Nat.le_of_ble_eq_true rfl⟩) (fx_obj hw (o := (131, 0, 100, 31)) (by decide)) rfl rfl hl.1 rfl (lv_room (Nat.le_of_ble_eq_true rfl)) dX0_tries_108 ⟨rfl, rfl⟩ ⟨Nat.zero_le _, Nat.zero_le _⟩ (fun H locs hw => ?_)
          refine bd hf (fun b10 h_b10 hf => ?_)
          exact hret _ _ (bool_nar (bz_or h_b10)) (congrArg (fun z => z.1) (Option.some.inj hf)) (congrArg (fun z => (M, z.2, K.1, K.2.1)) (Option.some.inj hf)) hw dX0_tries_111
        · have hf := it_pos c_91 hf
          refine lv_aload_n FX.1 FX.2.1 dX0_tries_94 rfl (lv_at hl 0 rfl) ?_
          refine lv_bipush (v := 9) FX.1 FX.2.1 dX0_tries_95 (by decide) ?_
          refine bd hf (fun t11 h_t11 hf => ?_)
          refine clV_i0 (As := [.int 9]) (rest := []) FX hw (wX0_is h_t11) (cwV 1 FX.2.2.2.2 (lw_V q551 q553 qs2 q134 q554) rfl rfl rfl (by decide +kernel) ⟨Nat.le_of_ble_eq_true rfl, Nat.le_of_ble_eq_true rfl⟩) (fx_obj hw (o := (131, 0, 100, 31)) (by decide)) rfl rfl hl.1 rfl (lv_room (Nat.le_of_ble_eq_true rfl)) dX0_tries_97 ⟨rfl, rfl⟩ ⟨Nat.zero_le _, Nat.zero_le _⟩ (fun H locs hw => ?_)
          refine lv_goto (tgt := 111) FX.1 FX.2.1 dX0_tries_100 (by decide) ?_
          refine bd hf (fun b12 h_b12 hf => ?_)
          exact hret _ _ (bool_nar (bz_or h_b12)) (congrArg (fun z => z.1) (Option.some.inj hf)) (congrArg (fun z => (M, z.2, K.1, K.2.1)) (Option.some.inj hf)) hw dX0_tries_111
      have hL38 : ∀ (n : Nat) (z38_2 : Int32) (z38_3 : Int32) (z38_4 : Int32) (H : Heap) (locs : List Loc) (ls : Array Slot) , lpN (fun z => fX0_tries_L38 C K p1 z.1 z.2.1 z.2.2) n (z38_2, z38_3, z38_4) = some u38 → WS G (M, C, K.1, K.2.1) s H locs → lv_has ls 6 [(0, .ref (G.2.2.2 131)), (1, .int p1), (2, .int z38_2), (3, .int z38_3), (4, .int z38_4)] → W p l e rmX0_tries s m a0 below meth c H locs 0 0 Q (F0 m 38 ls []) := by
        intro n
        induction n with
        | zero => intro z38_2 z38_3 z38_4 H locs ls hz; cases hz
        | succ n ih =>
          intro z38_2 z38_3 z38_4 H locs ls hz hw hl
          refine bd (show (fX0_tries_L38 C K p1 z38_2 z38_3 z38_4).bind _ = some u38 from hz) (fun x38 hf hk38 => ?_)
          unfold fX0_tries_L38 at hf
          refine lv_aload_n FX.1 FX.2.1 dX0_tries_38 rfl (lv_at hl 0 rfl) ?_
          refine lv_iload_n FX.1 FX.2.1 dX0_tries_39 rfl (lv_at hl 1 rfl) ?_
          refine lv_iload FX.1 FX.2.1 dX0_tries_40 (lv_at hl 4 rfl) ?_
          refine bd hf (fun t3 h_t3 hf => ?_)
          refine clV_i0 (As := [.int p1, .int z38_4]) (rest := []) FX hw (wX0_tryOf h_t3) (cwV 2 FX.2.2.2.2 (lw_V q1457 q1459 qs40 q134 q1460) rfl rfl rfl (by decide +kernel) ⟨Nat.le_of_ble_eq_true rfl, Nat.le_of_ble_eq_true rfl⟩) (fx_obj hw (o := (131, 0, 100, 31)) (by decide)) rfl rfl hl.1 rfl (lv_room (Nat.le_of_ble_eq_true rfl)) dX0_tries_42 ⟨rfl, rfl⟩ ⟨Nat.zero_le _, Nat.zero_le _⟩ (fun H locs hw => ?_)
          refine lv_iconst (v := (-1)) FX.1 FX.2.1 dX0_tries_45 (by decide) ?_
          refine lv_icmp_eq (tgt := 90) FX.1 FX.2.1 dX0_tries_46 (by decide) (fun c_46 => ?_) (fun c_46 => ?_)
          · have hf := it_pos c_46 hf
            exact hX38 _ _ _ _ _ (lpe hf hk38) hw (lv_sub hl [0, 2, 3] rfl)
          · have hf := it_neg c_46 hf
            refine lv_aload_n FX.1 FX.2.1 dX0_tries_49 rfl (lv_at hl 0 rfl) ?_
            refine gX0_38 FX hw dX0_tries_50 ?_
            refine bd hf (fun a4 h_a4 hf => ?_)
            rw [show va_rf (C.2.2.1 103) = .ref a4 from congrArg va_rf h_a4]
            refine bd hf (fun a5 h_a5 hf => ?_)
            refine gX0_161 FX hw h_a5 dX0_tries_53 ?_
            refine lv_aload_n FX.1 FX.2.1 dX0_tries_56 rfl (lv_at hl 0 rfl) ?_
            refine lv_iload_n FX.1 FX.2.1 dX0_tries_57 rfl (lv_at hl 1 rfl) ?_
            refine lv_iload FX.1 FX.2.1 dX0_tries_58 (lv_at hl 4 rfl) ?_
            refine bd hf (fun t6 h_t6 hf => ?_)
            refine clV_i0 (As := [.int p1, .int z38_4]) (rest := [.ref a5]) FX hw (wX0_tryOf h_t6) (cwV 2 FX.2.2.2.2 (lw_V q1457 q1459 qs40 q134 q1460) rfl rfl rfl (by decide +kernel) ⟨Nat.le_of_ble_eq_true rfl, Nat.le_of_ble_eq_true rfl⟩) (fx_obj hw (o := (131, 0, 100, 31)) (by decide)) rfl rfl hl.1 rfl (lv_room (Nat.le_of_ble_eq_true rfl)) dX0_tries_60 ⟨rfl, rfl⟩ ⟨Nat.zero_le _, Nat.zero_le _⟩ (fun H locs hw => ?_)
            refine bd hf (fun a7 h_a7 hf => ?_)
            refine ei_aald 5 rfl FX hw h_a7 dX0_tries_63 ?_
            refine bd hf (fun v8 h_v8 hf => ?_)
            refine gX0_251 FX hw h_v8 dX0_tries_64 ?_
            refine lv_istore (lv' := [(5, .int v8), (0, .ref (G.2.2.2 131)), (1, .int p1), (2, .int z38_2), (3, .int z38_3), (4, .int z38_4)]) FX.1 FX.2.1 dX0_tries_67 hl (by decide) rfl (fun ls hl => ?_)
            refine lv_iload_n FX.1 FX.2.1 dX0_tries_69 rfl (lv_at hl 3 rfl) ?_
            refine lv_iload FX.1 FX.2.1 dX0_tries_70 (lv_at hl 0 rfl) ?_
            refine lv_iadd FX.1 FX.2.1 dX0_tries_72 ?_
            refine lv_istore_n (lv' := [(2, .int (z38_2 + v8)), (5, .int v8), (0, .ref (G.2.2.2 131)), (1, .int p1), (3, .int z38_3), (4, .int z38_4)]) FX.1 FX.2.1 dX0_tries_73 rfl hl (by decide) rfl (fun ls hl => ?_)
            refine lv_iload_n FX.1 FX.2.1 dX0_tries_74 rfl (lv_at hl 4 rfl) ?_
            refine lv_iload FX.1 FX.2.1 dX0_tries_75 (lv_at hl 5 rfl) ?_
            refine lv_iconst (v := 1) FX.1 FX.2.1 dX0_tries_77 (by decide) ?_
            refine lv_iadd FX.1 FX.2.1 dX0_tries_78 ?_
            refine lv_iload FX.1 FX.2.1 dX0_tries_79 (lv_at hl 1 rfl) ?_
            refine lv_imul FX.1 FX.2.1 dX0_tries_81 ?_
            refine lv_iadd FX.1 FX.2.1 dX0_tries_82 ?_
            refine lv_istore_n (lv' := [(3, .int (z38_3 + ((z38_4 + 1) * v8))), (2, .int (z38_2 + v8)), (5, .int v8), (0, .ref (G.2.2.2 131)), (1, .int p1), (4, .int z38_4)]) FX.1 FX.2.1 dX0_tries_83 rfl hl (by decide) rfl (fun ls hl => ?_)
            refine lv_iinc (v := (z38_4 + 1)) (lv' := [(4, .int (z38_4 + 1)), (3, .int (z38_3 + ((z38_4 + 1) * v8))), (2, .int (z38_2 + v8)), (5, .int v8), (0, .ref (G.2.2.2 131)), (1, .int p1)]) FX.1 FX.2.1 dX0_tries_84 hl (k := 5) rfl (congrArg (fun q : Int32 => z38_4 + q) (by decide : Int32.ofInt 1 = 1)) (by decide) rfl (fun ls hl => ?_)
            refine lv_goto (tgt := 38) FX.1 FX.2.1 dX0_tries_87 (by decide) ?_
            exact ih _ _ _ _ _ _ (lpc hf hk38) hw (lv_sub hl [4, 5, 2, 1, 0] rfl)
      exact hL38 n _ _ _ _ _ _ hn hw (lv_sub hl [3, 4, 2, 1, 0] rfl)
    · have hf := it_pos c_21 hf
      refine lv_aload_n FX.1 FX.2.1 dX0_tries_24 rfl (lv_at hl 0 rfl) ?_
      refine lv_bipush (v := 8) FX.1 FX.2.1 dX0_tries_25 (by decide) ?_
      refine bd hf (fun t13 h_t13 hf => ?_)
      refine clV_i0 (As := [.int 8]) (rest := []) FX hw (wX0_is h_t13) (cwV 1 FX.2.2.2.2 (lw_V q551 q553 qs2 q134 q554) rfl rfl rfl (by decide +kernel) ⟨Nat.le_of_ble_eq_true rfl, Nat.le_of_ble_eq_true rfl⟩) (fx_obj hw (o := (131, 0, 100, 31)) (by decide)) rfl rfl hl.1 rfl (lv_room (Nat.le_of_ble_eq_true rfl)) dX0_tries_27 ⟨rfl, rfl⟩ ⟨Nat.zero_le _, Nat.zero_le _⟩ (fun H locs hw => ?_)
      refine bd hf (fun b14 h_b14 hf => ?_)
      exact hret _ _ (bool_nar (bz_or h_b14)) (congrArg (fun z => z.1) (Option.some.inj hf)) (congrArg (fun z => (M, z.2, K.1, K.2.1)) (Option.some.inj hf)) hw dX0_tries_30
  · have hf := it_pos c_5 hf
    refine lv_aload_n FX.1 FX.2.1 dX0_tries_8 rfl (lv_at hl 0 rfl) ?_
    refine lv_iconst (v := 2) FX.1 FX.2.1 dX0_tries_9 (by decide) ?_
    refine bd hf (fun t15 h_t15 hf => ?_)
    refine clV_i0 (As := [.int 2]) (rest := []) FX hw (wX0_is h_t15) (cwV 1 FX.2.2.2.2 (lw_V q551 q553 qs2 q134 q554) rfl rfl rfl (by decide +kernel) ⟨Nat.le_of_ble_eq_true rfl, Nat.le_of_ble_eq_true rfl⟩) (fx_obj hw (o := (131, 0, 100, 31)) (by decide)) rfl rfl hl.1 rfl (lv_room (Nat.le_of_ble_eq_true rfl)) dX0_tries_10 ⟨rfl, rfl⟩ ⟨Nat.zero_le _, Nat.zero_le _⟩ (fun H locs hw => ?_)
    refine bd hf (fun b16 h_b16 hf => ?_)
    exact hret _ _ (bool_nar (bz_or h_b16)) (congrArg (fun z => z.1) (Option.some.inj hf)) (congrArg (fun z => (M, z.2, K.1, K.2.1)) (Option.some.inj hf)) hw dX0_tries_13
abbrev rmX0_nextTry : Room := { frames := 2, cells := 0, slots := 0, locals := 48 }
set_option maxHeartbeats 4000000 in
theorem wX0_nextTry {l : Launch} {G : GT} {M C : FS} {K : KT} {p1 : Int32} {p2 : Int32} {t : (Int32 × FS)} (hf : fX0_nextTry C K p1 p2 = some t) : CtI l yX0_nextTry (ws_ yX0_nextTry cX0_nextTry 3 (some .int)) rmX0_nextTry G [.ref (G.2.2.2 131), .int p1, .int p2] (M, C, K.1, K.2.1) t.1 (M, t.2, K.1, K.2.1) := by
  refine mkI (ty := .int) (by decide) (Nat.le_of_ble_eq_true rfl) (fun p e s m a0 below meth c Q FX hw hname hret ls hl => ?_)
  have hl : lv_has ls 3 [(0, .ref (G.2.2.2 131)), (1, .int p1), (2, .int p2)] := hl
  unfold fX0_nextTry at hf
  refine lv_aload_n FX.1 FX.2.1 dX0_nextTry_0 rfl (lv_at hl 0 rfl) ?_
  refine lv_iload_n FX.1 FX.2.1 dX0_nextTry_1 rfl (lv_at hl 1 rfl) ?_
  refine bd hf (fun t1 h_t1 hf => ?_)
  refine clV_i0 (As := [.int p1]) (rest := []) FX hw (wX0_isLook h_t1) (cwV 1 FX.2.2.2.2 (lw_V q1098 q1100 qs22 q134 q1101) rfl rfl rfl (by decide +kernel) ⟨Nat.le_of_ble_eq_true rfl, Nat.le_of_ble_eq_true rfl⟩) (fx_obj hw (o := (131, 0, 100, 31)) (by decide)) rfl rfl hl.1 rfl (lv_room (Nat.le_of_ble_eq_true rfl)) dX0_nextTry_2 ⟨rfl, rfl⟩ ⟨Nat.zero_le _, Nat.zero_le _⟩ (fun H locs hw => ?_)
  refine lv_if_eq (tgt := 21) FX.1 FX.2.1 dX0_nextTry_5 (by decide) (fun c_5 => ?_) (fun c_5 => ?_)
  · have hf := it_pos c_5 hf
    refine lv_aload_n FX.1 FX.2.1 dX0_nextTry_21 rfl (lv_at hl 0 rfl) ?_
    refine lv_iconst (v := 2) FX.1 FX.2.1 dX0_nextTry_22 (by decide) ?_
    refine bd hf (fun t2 h_t2 hf => ?_)
    refine clV_i0 (As := [.int 2]) (rest := []) FX hw (wX0_none h_t2) (cwV 1 FX.2.2.2.2 (lw_V q620 q622 qs3 q134 q623) rfl rfl rfl (by decide +kernel) ⟨Nat.le_of_ble_eq_true rfl, Nat.le_of_ble_eq_true rfl⟩) (fx_obj hw (o := (131, 0, 100, 31)) (by decide)) rfl rfl hl.1 rfl (lv_room (Nat.le_of_ble_eq_true rfl)) dX0_nextTry_23 ⟨rfl, rfl⟩ ⟨Nat.zero_le _, Nat.zero_le _⟩ (fun H locs hw => ?_)
    exact hret _ _ rfl (congrArg (fun z => z.1) (Option.some.inj hf)) (congrArg (fun z => (M, z.2, K.1, K.2.1)) (Option.some.inj hf)) hw dX0_nextTry_26
  · have hf := it_neg c_5 hf
    refine lv_aload_n FX.1 FX.2.1 dX0_nextTry_8 rfl (lv_at hl 0 rfl) ?_
    refine lv_aload_n FX.1 FX.2.1 dX0_nextTry_9 rfl (lv_at hl 0 rfl) ?_
    refine lv_iload_n FX.1 FX.2.1 dX0_nextTry_10 rfl (lv_at hl 1 rfl) ?_
    refine lv_iload_n FX.1 FX.2.1 dX0_nextTry_11 rfl (lv_at hl 2 rfl) ?_
    refine bd hf (fun t3 h_t3 hf => ?_)
    refine clV_i0 (As := [.int p1, .int p2]) (rest := [.ref (G.2.2.2 131)]) FX hw (wX0_tryOf h_t3) (cwV 2 FX.2.2.2.2 (lw_V q1457 q1459 qs40 q134 q1460) rfl rfl rfl (by decide +kernel) ⟨Nat.le_of_ble_eq_true rfl, Nat.le_of_ble_eq_true rfl⟩) (fx_obj hw (o := (131, 0, 100, 31)) (by decide)) rfl rfl hl.1 rfl (lv_room (Nat.le_of_ble_eq_true rfl)) dX0_nextTry_12 ⟨rfl, rfl⟩ ⟨Nat.zero_le _, Nat.zero_le _⟩ (fun H locs hw => ?_)
    refine bd hf (fun t4 h_t4 hf => ?_)
    refine clV_i0 (As := [.int t3]) (rest := []) FX hw (wX0_orNothing h_t4) (cwV 1 FX.2.2.2.2 (lw_V q1090 q1092 qs21 q134 q1093) rfl rfl rfl (by decide +kernel) ⟨Nat.le_of_ble_eq_true rfl, Nat.le_of_ble_eq_true rfl⟩) (fx_obj hw (o := (131, 0, 100, 31)) (by decide)) rfl rfl hl.1 rfl (lv_room (Nat.le_of_ble_eq_true rfl)) dX0_nextTry_15 ⟨rfl, rfl⟩ ⟨Nat.zero_le _, Nat.zero_le _⟩ (fun H locs hw => ?_)
    refine lv_goto (tgt := 26) FX.1 FX.2.1 dX0_nextTry_18 (by decide) ?_
    exact hret _ _ rfl (congrArg (fun z => z.1) (Option.some.inj hf)) (congrArg (fun z => (M, z.2, K.1, K.2.1)) (Option.some.inj hf)) hw dX0_nextTry_26
abbrev rmX0_boxes : Room := { frames := 1, cells := 0, slots := 0, locals := 60 }
set_option maxHeartbeats 4000000 in
theorem wX0_boxes {l : Launch} {G : GT} {M C : FS} {K : KT} {p1 : Int32} {t : (Int32 × FS)} (hf : fX0_boxes C K p1 = some t) : CtI l yX0_boxes (ws_ yX0_boxes cX0_boxes 8 (some .int)) rmX0_boxes G [.ref (G.2.2.2 131), .int p1] (M, C, K.1, K.2.1) t.1 (M, t.2, K.1, K.2.1) := by
  refine mkI (ty := .int) (by decide) (Nat.le_of_ble_eq_true rfl) (fun p e s m a0 below meth c Q FX hw hname hret ls hl => ?_)
  have hl : lv_has ls 8 [(0, .ref (G.2.2.2 131)), (1, .int p1)] := hl
  unfold fX0_boxes at hf
  refine lv_iload_n FX.1 FX.2.1 dX0_boxes_0 rfl (lv_at hl 1 rfl) ?_
  refine lv_i2l (v := p1.toInt64) FX.1 FX.2.1 dX0_boxes_1 rfl ?_
  refine lv_lconst (v := 1) FX.1 FX.2.1 dX0_boxes_2 (by decide) ?_
  refine lv_ldc2 FX.1 FX.2.1 FX.2.2.2.1 (FX.2.2.2.2 _ q1469) dX0_boxes_3 ?_
  refine bd hf (fun t1 h_t1 hf => ?_)
  refine clS_i0 (As := [.long p1.toInt64, .long 1, .long 99]) (rest := []) FX hw (wX0_isFrom h_t1) (va_cwS 3 FX.2.2.2.2 (lw_S q1119 q1120 q134 q1121) rfl rfl rfl (by decide +kernel) ⟨Nat.le_of_ble_eq_true rfl, Nat.le_of_ble_eq_true rfl⟩) rfl hl.1 rfl (lv_room (Nat.le_of_ble_eq_true rfl)) dX0_boxes_6 ⟨rfl, rfl⟩ ⟨Nat.zero_le _, Nat.zero_le _⟩ (fun H locs hw => ?_)
  refine lv_if_ne (tgt := 18) FX.1 FX.2.1 dX0_boxes_9 (by decide) (fun c_9 => ?_) (fun c_9 => ?_)
  · have hf := it_neg c_9 hf
    refine lv_aload_n FX.1 FX.2.1 dX0_boxes_18 rfl (lv_at hl 0 rfl) ?_
    refine gX0_38 FX hw dX0_boxes_19 ?_
    refine bd hf (fun a2 h_a2 hf => ?_)
    rw [show va_rf (C.2.2.1 103) = .ref a2 from congrArg va_rf h_a2]
    refine bd hf (fun g3 h_g3 hf => ?_)
    refine bd hf (fun t4 h_t4 hf => ?_)
    obtain ⟨fs_g3, he_g3⟩ := dC_some (gC_some h_g3)
    refine clV_i0 (As := []) (rest := []) FX hw (wX4_inSet h_t4) (cwV 0 FX.2.2.2.2 (lw_V q1025 q1026 q1027 q141 q1028) rfl rfl rfl (by decide +kernel) ⟨Nat.le_of_ble_eq_true rfl, Nat.le_of_ble_eq_true rfl⟩) (dyn_he hw he_g3) rfl rfl hl.1 rfl (lv_room (Nat.le_of_ble_eq_true rfl)) dX0_boxes_22 ⟨rfl, rfl⟩ ⟨Nat.zero_le _, Nat.zero_le _⟩ (fun H locs hw => ?_)
    refine lv_istore_n (lv' := [(2, .int t4), (0, .ref (G.2.2.2 131)), (1, .int p1)]) FX.1 FX.2.1 dX0_boxes_25 rfl hl (by decide) rfl (fun ls hl => ?_)
    refine lv_iconst (v := 0) FX.1 FX.2.1 dX0_boxes_26 (by decide) ?_
    refine lv_istore_n (lv' := [(3, .int 0), (2, .int t4), (0, .ref (G.2.2.2 131)), (1, .int p1)]) FX.1 FX.2.1 dX0_boxes_27 rfl hl (by decide) rfl (fun ls hl => ?_)
    refine bd hf (fun u28 ht hf => ?_)
    obtain ⟨n, hn⟩ := lp_iff.mp ht
    have hR28 : ∀ v, Sum.inl v = u28 → _ := fun v he => ell hf he
    have hX28 : ∀ (Ct28 : FS) (H : Heap) (locs : List Loc) (ls : Array Slot) , Sum.inr Ct28 = u28 → WS G (M, Ct28, K.1, K.2.1) s H locs → lv_has ls 8 [(0, .ref (G.2.2.2 131)), (1, .int p1), (2, .int t4)] → W p l e rmX0_boxes s m a0 below meth c H locs 0 0 Q (F0 m 77 ls []) := by
      intro Ct28 H locs ls he hw hl
      have hf := elr hf he
      refine lv_aload_n FX.1 FX.2.1 dX0_boxes_77 rfl (lv_at hl 0 rfl) ?_
      refine gX0_75 FX hw dX0_boxes_78 ?_
      refine lv_iconst (v := 0) FX.1 FX.2.1 dX0_boxes_81 (by decide) ?_
      refine lv_iload_n FX.1 FX.2.1 dX0_boxes_82 rfl (lv_at hl 1 rfl) ?_
      refine bd hf (fun C12 h_C12 hf => ?_)
      refine as124 FX hw h_C12 dX0_boxes_83 (fun H locs hw => ?_)
      refine lv_iconst (v := 1) FX.1 FX.2.1 dX0_boxes_84 (by decide) ?_
      refine lv_istore_n (lv' := [(3, .int 1), (0, .ref (G.2.2.2 131)), (1, .int p1), (2, .int t4)]) FX.1 FX.2.1 dX0_boxes_85 rfl hl (by decide) rfl (fun ls hl => ?_)
      refine bd hf (fun u86 ht hf => ?_)
      obtain ⟨n, hn⟩ := lp_iff.mp ht
      have hX86 : ∀ (Ct86 : FS) (H : Heap) (locs : List Loc) (ls : Array Slot) , Ct86 = u86 → WS G (M, Ct86, K.1, K.2.1) s H locs → lv_has ls 8 [(0, .ref (G.2.2.2 131)), (2, .int t4)] → W p l e rmX0_boxes s m a0 below meth c H locs 0 0 Q (F0 m 225 ls []) := by
        intro Ct86 H locs ls he hw hl
        subst he
        refine lv_aload_n FX.1 FX.2.1 dX0_boxes_225 rfl (lv_at hl 0 rfl) ?_
        refine lv_aload_n FX.1 FX.2.1 dX0_boxes_226 rfl (lv_at hl 0 rfl) ?_
        refine gX0_75 FX hw dX0_boxes_227 ?_
        refine lv_iload_n FX.1 FX.2.1 dX0_boxes_230 rfl (lv_at hl 1 rfl) ?_
        refine bd hf (fun v21 h_v21 hf => ?_)
        refine al124 FX hw h_v21 dX0_boxes_231 ?_
        refine lv_bipush (v := 100) FX.1 FX.2.1 dX0_boxes_232 (by decide) ?_
        refine lv_idiv FX.1 FX.2.1 dX0_boxes_234 (by decide) ?_
        refine bd hf (fun t22 h_t22 hf => ?_)
        refine clV_i0 (As := [.int (v21 / 100)]) (rest := []) FX hw (wX0_gives h_t22) (cwV 1 FX.2.2.2.2 (lw_V q962 q964 qs16 q134 q965) rfl rfl rfl (by decide +kernel) ⟨Nat.le_of_ble_eq_true rfl, Nat.le_of_ble_eq_true rfl⟩) (fx_obj hw (o := (131, 0, 100, 31)) (by decide)) rfl rfl hl.1 rfl (lv_room (Nat.le_of_ble_eq_true rfl)) dX0_boxes_235 ⟨rfl, rfl⟩ ⟨Nat.zero_le _, Nat.zero_le _⟩ (fun H locs hw => ?_)
        exact hret _ _ rfl (congrArg (fun z => z.1) (Option.some.inj hf)) (congrArg (fun z => (M, z.2, K.1, K.2.1)) (Option.some.inj hf)) hw dX0_boxes_238
      have hL86 : ∀ (n : Nat) (z86_3 : Int32) (Cz86 : FS) (H : Heap) (locs : List Loc) (ls : Array Slot) , lpN (fun z => fX0_boxes_L86 K p1 t4 z.1 z.2) n (z86_3, Cz86) = some u86 → WS G (M, Cz86, K.1, K.2.1) s H locs → lv_has ls 8 [(0, .ref (G.2.2.2 131)), (1, .int p1), (2, .int t4), (3, .int z86_3)] → W p l e rmX0_boxes s m a0 below meth c H locs 0 0 Q (F0 m 86 ls []) := by
        intro n
        induction n with
        | zero => intro z86_3 Cz86 H locs ls hz; cases hz
        | succ n ih =>
          intro z86_3 Cz86 H locs ls hz hw hl
          refine bd (show (fX0_boxes_L86 K p1 t4 z86_3 Cz86).bind _ = some u86 from hz) (fun x86 hf hk86 => ?_)
          unfold fX0_boxes_L86 at hf
          refine lv_iload_n FX.1 FX.2.1 dX0_boxes_86 rfl (lv_at hl 3 rfl) ?_
          refine lv_iload_n FX.1 FX.2.1 dX0_boxes_87 rfl (lv_at hl 2 rfl) ?_
          refine lv_icmp_gt (tgt := 225) FX.1 FX.2.1 dX0_boxes_88 (by decide) (fun c_88 => ?_) (fun c_88 => ?_)
          · have hf := it_pos c_88 hf
            exact hX86 _ _ _ _ (lpe hf hk86) hw (lv_sub hl [0, 2] rfl)
          · have hf := it_neg c_88 hf
            refine lv_iload_n FX.1 FX.2.1 dX0_boxes_91 rfl (lv_at hl 3 rfl) ?_
            refine lv_iload_n FX.1 FX.2.1 dX0_boxes_92 rfl (lv_at hl 2 rfl) ?_
            refine lv_iconst (v := (-1)) FX.1 FX.2.1 dX0_boxes_93 (by decide) ?_
            refine lv_ixor FX.1 FX.2.1 dX0_boxes_94 ?_
            refine lv_iand FX.1 FX.2.1 dX0_boxes_95 ?_
            refine lv_if_eq (tgt := 102) FX.1 FX.2.1 dX0_boxes_96 (by decide) (fun c_96 => ?_) (fun c_96 => ?_)
            · have hf := it_pos c_96 hf
              refine lv_ldcw FX.1 FX.2.1 FX.2.2.2.1 (FX.2.2.2.2 _ q1368) dX0_boxes_102 ?_
              refine lv_istore (lv' := [(4, .int 1000000), (0, .ref (G.2.2.2 131)), (1, .int p1), (2, .int t4), (3, .int z86_3)]) FX.1 FX.2.1 dX0_boxes_105 hl (by decide) rfl (fun ls hl => ?_)
              refine lv_iconst (v := 0) FX.1 FX.2.1 dX0_boxes_107 (by decide) ?_
              refine lv_istore (lv' := [(5, .int 0), (4, .int 1000000), (0, .ref (G.2.2.2 131)), (1, .int p1), (2, .int t4), (3, .int z86_3)]) FX.1 FX.2.1 dX0_boxes_108 hl (by decide) rfl (fun ls hl => ?_)
              refine bd hf (fun u110 ht hf => ?_)
              obtain ⟨n, hn⟩ := lp_iff.mp ht
              have hX110 : ∀ (t110_4 : Int32) (H : Heap) (locs : List Loc) (ls : Array Slot) , t110_4 = u110 → WS G (M, Cz86, K.1, K.2.1) s H locs → lv_has ls 8 [(0, .ref (G.2.2.2 131)), (1, .int p1), (2, .int t4), (3, .int z86_3), (4, .int t110_4)] → W p l e rmX0_boxes s m a0 below meth c H locs 0 0 Q (F0 m 211 ls []) := by
                intro t110_4 H locs ls he hw hl
                subst he
                refine lv_aload_n FX.1 FX.2.1 dX0_boxes_211 rfl (lv_at hl 0 rfl) ?_
                refine gX0_75 FX hw dX0_boxes_212 ?_
                refine lv_iload_n FX.1 FX.2.1 dX0_boxes_215 rfl (lv_at hl 3 rfl) ?_
                refine lv_iload FX.1 FX.2.1 dX0_boxes_216 (lv_at hl 4 rfl) ?_
                refine bd hf (fun C20 h_C20 hf => ?_)
                refine as124 FX hw h_C20 dX0_boxes_218 (fun H locs hw => ?_)
                refine lv_iinc (v := (z86_3 + 1)) (lv' := [(3, .int (z86_3 + 1)), (0, .ref (G.2.2.2 131)), (1, .int p1), (2, .int t4), (4, .int t110_4)]) FX.1 FX.2.1 dX0_boxes_219 hl (k := 3) rfl (congrArg (fun q : Int32 => z86_3 + q) (by decide : Int32.ofInt 1 = 1)) (by decide) rfl (fun ls hl => ?_)
                refine lv_goto (tgt := 86) FX.1 FX.2.1 dX0_boxes_222 (by decide) ?_
                exact ih _ _ _ _ _ (lpc hf hk86) hw (lv_sub hl [1, 2, 3, 0] rfl)
              have hL110 : ∀ (n : Nat) (z110_4 : Int32) (z110_5 : Int32) (H : Heap) (locs : List Loc) (ls : Array Slot) , lpN (fun z => fX0_boxes_L110 K p1 z86_3 Cz86 z.1 z.2) n (z110_4, z110_5) = some u110 → WS G (M, Cz86, K.1, K.2.1) s H locs → lv_has ls 8 [(0, .ref (G.2.2.2 131)), (1, .int p1), (2, .int t4), (3, .int z86_3), (4, .int z110_4), (5, .int z110_5)] → W p l e rmX0_boxes s m a0 below meth c H locs 0 0 Q (F0 m 110 ls []) := by
                intro n
                induction n with
                | zero => intro z110_4 z110_5 H locs ls hz; cases hz
                | succ n ih =>
                  intro z110_4 z110_5 H locs ls hz hw hl
                  refine bd (show (fX0_boxes_L110 K p1 z86_3 Cz86 z110_4 z110_5).bind _ = some u110 from hz) (fun x110 hf hk110 => ?_)
                  unfold fX0_boxes_L110 at hf
                  refine lv_iload FX.1 FX.2.1 dX0_boxes_110 (lv_at hl 5 rfl) ?_
                  refine lv_aload_n FX.1 FX.2.1 dX0_boxes_112 rfl (lv_at hl 0 rfl) ?_
                  refine gX0_38 FX hw dX0_boxes_113 ?_
                  refine bd hf (fun a13 h_a13 hf => ?_)
                  rw [show va_rf (Cz86.2.2.1 103) = .ref a13 from congrArg va_rf h_a13]
                  refine bd hf (fun v14 h_v14 hf => ?_)
                  refine gX0_152 FX hw h_v14 dX0_boxes_116 ?_
                  refine lv_icmp_ge (tgt := 211) FX.1 FX.2.1 dX0_boxes_119 (by decide) (fun c_119 => ?_) (fun c_119 => ?_)
                  · have hf := it_pos c_119 hf
                    exact hX110 _ _ _ _ (lpe hf hk110) hw (lv_sub hl [0, 1, 2, 3, 4] rfl)
                  · have hf := it_neg c_119 hf
                    refine lv_iload_n FX.1 FX.2.1 dX0_boxes_122 rfl (lv_at hl 3 rfl) ?_
                    refine lv_iload FX.1 FX.2.1 dX0_boxes_123 (lv_at hl 5 rfl) ?_
                    refine lv_ishr FX.1 FX.2.1 dX0_boxes_125 ?_
                    refine lv_iconst (v := 1) FX.1 FX.2.1 dX0_boxes_126 (by decide) ?_
                    refine lv_iand FX.1 FX.2.1 dX0_boxes_127 ?_
                    refine lv_if_ne (tgt := 134) FX.1 FX.2.1 dX0_boxes_128 (by decide) (fun c_128 => ?_) (fun c_128 => ?_)
                    · have hf := it_neg c_128 hf
                      refine lv_aload_n FX.1 FX.2.1 dX0_boxes_134 rfl (lv_at hl 0 rfl) ?_
                      refine gX0_75 FX hw dX0_boxes_135 ?_
                      refine lv_iload_n FX.1 FX.2.1 dX0_boxes_138 rfl (lv_at hl 3 rfl) ?_
                      refine lv_iconst (v := 1) FX.1 FX.2.1 dX0_boxes_139 (by decide) ?_
                      refine lv_iload FX.1 FX.2.1 dX0_boxes_140 (lv_at hl 5 rfl) ?_
                      refine lv_ishl FX.1 FX.2.1 dX0_boxes_142 ?_
                      refine lv_iconst (v := (-1)) FX.1 FX.2.1 dX0_boxes_143 (by decide) ?_
                      refine lv_ixor FX.1 FX.2.1 dX0_boxes_144 ?_
                      refine lv_iand FX.1 FX.2.1 dX0_boxes_145 ?_
                      refine bd hf (fun v15 h_v15 hf => ?_)
                      refine al124 FX hw h_v15 dX0_boxes_146 ?_
                      refine lv_istore (lv' := [(6, .int v15), (0, .ref (G.2.2.2 131)), (1, .int p1), (2, .int t4), (3, .int z86_3), (4, .int z110_4), (5, .int z110_5)]) FX.1 FX.2.1 dX0_boxes_147 hl (by decide) rfl (fun ls hl => ?_)
                      refine lv_aload_n FX.1 FX.2.1 dX0_boxes_149 rfl (lv_at hl 1 rfl) ?_
                      refine gX0_38 FX hw dX0_boxes_150 ?_
                      refine bd hf (fun a16 h_a16 hf => ?_)
                      rw [show va_rf (Cz86.2.2.1 103) = .ref a16 from congrArg va_rf h_a16]
                      refine bd hf (fun a17 h_a17 hf => ?_)
                      refine gX0_161 FX hw h_a17 dX0_boxes_153 ?_
                      refine lv_iload FX.1 FX.2.1 dX0_boxes_156 (lv_at hl 6 rfl) ?_
                      refine bd hf (fun a18 h_a18 hf => ?_)
                      refine ei_aald 5 rfl FX hw h_a18 dX0_boxes_158 ?_
                      refine bd hf (fun v19 h_v19 hf => ?_)
                      refine gX0_236 FX hw h_v19 dX0_boxes_159 ?_
                      refine lv_istore (lv' := [(7, .int v19), (6, .int v15), (0, .ref (G.2.2.2 131)), (1, .int p1), (2, .int t4), (3, .int z86_3), (4, .int z110_4), (5, .int z110_5)]) FX.1 FX.2.1 dX0_boxes_162 hl (by decide) rfl (fun ls hl => ?_)
                      refine lv_iload FX.1 FX.2.1 dX0_boxes_164 (lv_at hl 6 rfl) ?_
                      refine lv_iload FX.1 FX.2.1 dX0_boxes_166 (lv_at hl 1 rfl) ?_
                      refine lv_bipush (v := 100) FX.1 FX.2.1 dX0_boxes_168 (by decide) ?_
                      refine lv_irem FX.1 FX.2.1 dX0_boxes_170 (by decide) ?_
                      refine lv_iload FX.1 FX.2.1 dX0_boxes_171 (lv_at hl 0 rfl) ?_
                      refine lv_iadd FX.1 FX.2.1 dX0_boxes_173 ?_
                      refine lv_iload_n FX.1 FX.2.1 dX0_boxes_174 rfl (lv_at hl 3 rfl) ?_
                      refine lv_icmp_gt (tgt := 186) FX.1 FX.2.1 dX0_boxes_175 (by decide) (fun c_175 => ?_) (fun c_175 => ?_)
                      · have hf := it_pos c_175 hf
                        refine lv_iload FX.1 FX.2.1 dX0_boxes_186 (lv_at hl 1 rfl) ?_
                        refine lv_bipush (v := 100) FX.1 FX.2.1 dX0_boxes_188 (by decide) ?_
                        refine lv_idiv FX.1 FX.2.1 dX0_boxes_190 (by decide) ?_
                        refine lv_bipush (v := 100) FX.1 FX.2.1 dX0_boxes_191 (by decide) ?_
                        refine lv_imul FX.1 FX.2.1 dX0_boxes_193 ?_
                        refine lv_bipush (v := 100) FX.1 FX.2.1 dX0_boxes_194 (by decide) ?_
                        refine lv_iadd FX.1 FX.2.1 dX0_boxes_196 ?_
                        refine lv_iload FX.1 FX.2.1 dX0_boxes_197 (lv_at hl 0 rfl) ?_
                        refine lv_iadd FX.1 FX.2.1 dX0_boxes_199 ?_
                        refine va_mmin FX.1 FX.2.1 (FX.2.2.1.trans hl.1.symm) FX.2.2.2.1 (FX.2.2.2.2 _ q1292) (FX.2.2.2.2 _ q682) (FX.2.2.2.2 _ q150) (FX.2.2.2.2 _ q683) (Nat.le_of_ble_eq_true rfl) (Nat.le_of_ble_eq_true rfl) (Nat.le_of_ble_eq_true rfl) (Nat.le_of_ble_eq_true rfl) dX0_boxes_200 ?_
                        refine lv_istore (lv' := [(4, .int (if ((((v15 / 100) * 100) + 100) + v19) < z110_4 then ((((v15 / 100) * 100) + 100) + v19) else z110_4)), (7, .int v19), (6, .int v15), (0, .ref (G.2.2.2 131)), (1, .int p1), (2, .int t4), (3, .int z86_3), (5, .int z110_5)]) FX.1 FX.2.1 dX0_boxes_203 hl (by decide) rfl (fun ls hl => ?_)
                        refine lv_iinc (v := (z110_5 + 1)) (lv' := [(5, .int (z110_5 + 1)), (4, .int (if ((((v15 / 100) * 100) + 100) + v19) < z110_4 then ((((v15 / 100) * 100) + 100) + v19) else z110_4)), (7, .int v19), (6, .int v15), (0, .ref (G.2.2.2 131)), (1, .int p1), (2, .int t4), (3, .int z86_3)]) FX.1 FX.2.1 dX0_boxes_205 hl (k := 7) rfl (congrArg (fun q : Int32 => z110_5 + q) (by decide : Int32.ofInt 1 = 1)) (by decide) rfl (fun ls hl => ?_)
                        refine lv_goto (tgt := 110) FX.1 FX.2.1 dX0_boxes_208 (by decide) ?_
                        exact ih _ _ _ _ _ (lpc hf hk110) hw (lv_sub hl [4, 5, 6, 7, 1, 0] rfl)
                      · have hf := it_neg c_175 hf
                        refine lv_iload FX.1 FX.2.1 dX0_boxes_178 (lv_at hl 1 rfl) ?_
                        refine lv_iload FX.1 FX.2.1 dX0_boxes_180 (lv_at hl 0 rfl) ?_
                        refine lv_iadd FX.1 FX.2.1 dX0_boxes_182 ?_
                        refine lv_goto (tgt := 200) FX.1 FX.2.1 dX0_boxes_183 (by decide) ?_
                        refine va_mmin FX.1 FX.2.1 (FX.2.2.1.trans hl.1.symm) FX.2.2.2.1 (FX.2.2.2.2 _ q1292) (FX.2.2.2.2 _ q682) (FX.2.2.2.2 _ q150) (FX.2.2.2.2 _ q683) (Nat.le_of_ble_eq_true rfl) (Nat.le_of_ble_eq_true rfl) (Nat.le_of_ble_eq_true rfl) (Nat.le_of_ble_eq_true rfl) dX0_boxes_200 ?_
                        refine lv_istore (lv' := [(4, .int (if (v15 + v19) < z110_4 then (v15 + v19) else z110_4)), (7, .int v19), (6, .int v15), (0, .ref (G.2.2.2 131)), (1, .int p1), (2, .int t4), (3, .int z86_3), (5, .int z110_5)]) FX.1 FX.2.1 dX0_boxes_203 hl (by decide) rfl (fun ls hl => ?_)
                        refine lv_iinc (v := (z110_5 + 1)) (lv' := [(5, .int (z110_5 + 1)), (4, .int (if (v15 + v19) < z110_4 then (v15 + v19) else z110_4)), (7, .int v19), (6, .int v15), (0, .ref (G.2.2.2 131)), (1, .int p1), (2, .int t4), (3, .int z86_3)]) FX.1 FX.2.1 dX0_boxes_205 hl (k := 7) rfl (congrArg (fun q : Int32 => z110_5 + q) (by decide : Int32.ofInt 1 = 1)) (by decide) rfl (fun ls hl => ?_)
                        refine lv_goto (tgt := 110) FX.1 FX.2.1 dX0_boxes_208 (by decide) ?_
                        exact ih _ _ _ _ _ (lpc hf hk110) hw (lv_sub hl [4, 5, 6, 7, 1, 0] rfl)
                    · have hf := it_pos c_128 hf
                      refine lv_goto (tgt := 205) FX.1 FX.2.1 dX0_boxes_131 (by decide) ?_
                      refine lv_iinc (v := (z110_5 + 1)) (lv' := [(5, .int (z110_5 + 1)), (0, .ref (G.2.2.2 131)), (1, .int p1), (2, .int t4), (3, .int z86_3), (4, .int z110_4)]) FX.1 FX.2.1 dX0_boxes_205 hl (k := 5) rfl (congrArg (fun q : Int32 => z110_5 + q) (by decide : Int32.ofInt 1 = 1)) (by decide) rfl (fun ls hl => ?_)
                      refine lv_goto (tgt := 110) FX.1 FX.2.1 dX0_boxes_208 (by decide) ?_
                      exact ih _ _ _ _ _ (lpc hf hk110) hw (lv_sub hl [1, 2, 3, 4, 5, 0] rfl)
              exact hL110 n _ _ _ _ _ hn hw (lv_sub hl [2, 3, 4, 5, 1, 0] rfl)
            · have hf := it_neg c_96 hf
              refine lv_goto (tgt := 219) FX.1 FX.2.1 dX0_boxes_99 (by decide) ?_
              refine lv_iinc (v := (z86_3 + 1)) (lv' := [(3, .int (z86_3 + 1)), (0, .ref (G.2.2.2 131)), (1, .int p1), (2, .int t4)]) FX.1 FX.2.1 dX0_boxes_219 hl (k := 3) rfl (congrArg (fun q : Int32 => z86_3 + q) (by decide : Int32.ofInt 1 = 1)) (by decide) rfl (fun ls hl => ?_)
              refine lv_goto (tgt := 86) FX.1 FX.2.1 dX0_boxes_222 (by decide) ?_
              exact ih _ _ _ _ _ (lpc hf hk86) hw (lv_sub hl [1, 2, 3, 0] rfl)
      exact hL86 n _ _ _ _ _ hn hw (lv_sub hl [1, 2, 3, 0] rfl)
    have hL28 : ∀ (n : Nat) (z28_3 : Int32) (Cz28 : FS) (H : Heap) (locs : List Loc) (ls : Array Slot) , lpN (fun z => fX0_boxes_L28 K p1 t4 z.1 z.2) n (z28_3, Cz28) = some u28 → WS G (M, Cz28, K.1, K.2.1) s H locs → lv_has ls 8 [(0, .ref (G.2.2.2 131)), (1, .int p1), (2, .int t4), (3, .int z28_3)] → W p l e rmX0_boxes s m a0 below meth c H locs 0 0 Q (F0 m 28 ls []) := by
      intro n
      induction n with
      | zero => intro z28_3 Cz28 H locs ls hz; cases hz
      | succ n ih =>
        intro z28_3 Cz28 H locs ls hz hw hl
        refine bd (show (fX0_boxes_L28 K p1 t4 z28_3 Cz28).bind _ = some u28 from hz) (fun x28 hf hk28 => ?_)
        unfold fX0_boxes_L28 at hf
        refine lv_iload_n FX.1 FX.2.1 dX0_boxes_28 rfl (lv_at hl 3 rfl) ?_
        refine lv_aload_n FX.1 FX.2.1 dX0_boxes_29 rfl (lv_at hl 0 rfl) ?_
        refine gX0_38 FX hw dX0_boxes_30 ?_
        refine bd hf (fun a5 h_a5 hf => ?_)
        rw [show va_rf (Cz28.2.2.1 103) = .ref a5 from congrArg va_rf h_a5]
        refine bd hf (fun v6 h_v6 hf => ?_)
        refine gX0_152 FX hw h_v6 dX0_boxes_33 ?_
        refine lv_icmp_ge (tgt := 77) FX.1 FX.2.1 dX0_boxes_36 (by decide) (fun c_36 => ?_) (fun c_36 => ?_)
        · have hf := it_pos c_36 hf
          exact hX28 _ _ _ _ (lpe hf hk28) hw (lv_sub hl [0, 1, 2] rfl)
        · have hf := it_neg c_36 hf
          refine lv_iload_n FX.1 FX.2.1 dX0_boxes_39 rfl (lv_at hl 2 rfl) ?_
          refine lv_iload_n FX.1 FX.2.1 dX0_boxes_40 rfl (lv_at hl 3 rfl) ?_
          refine lv_ishr FX.1 FX.2.1 dX0_boxes_41 ?_
          refine lv_iconst (v := 1) FX.1 FX.2.1 dX0_boxes_42 (by decide) ?_
          refine lv_iand FX.1 FX.2.1 dX0_boxes_43 ?_
          refine lv_iconst (v := 1) FX.1 FX.2.1 dX0_boxes_44 (by decide) ?_
          refine lv_icmp_ne (tgt := 71) FX.1 FX.2.1 dX0_boxes_45 (by decide) (fun c_45 => ?_) (fun c_45 => ?_)
          · have hf := it_neg c_45 hf
            refine lv_iinc (v := (z28_3 + 1)) (lv' := [(3, .int (z28_3 + 1)), (0, .ref (G.2.2.2 131)), (1, .int p1), (2, .int t4)]) FX.1 FX.2.1 dX0_boxes_71 hl (k := 3) rfl (congrArg (fun q : Int32 => z28_3 + q) (by decide : Int32.ofInt 1 = 1)) (by decide) rfl (fun ls hl => ?_)
            refine lv_goto (tgt := 28) FX.1 FX.2.1 dX0_boxes_74 (by decide) ?_
            exact ih _ _ _ _ _ (lpc hf hk28) hw (lv_sub hl [1, 2, 3, 0] rfl)
          · have hf := it_pos c_45 hf
            refine lv_aload_n FX.1 FX.2.1 dX0_boxes_48 rfl (lv_at hl 0 rfl) ?_
            refine gX0_38 FX hw dX0_boxes_49 ?_
            refine bd hf (fun a7 h_a7 hf => ?_)
            rw [show va_rf (Cz28.2.2.1 103) = .ref a7 from congrArg va_rf h_a7]
            refine bd hf (fun a8 h_a8 hf => ?_)
            refine gX0_161 FX hw h_a8 dX0_boxes_52 ?_
            refine lv_iload_n FX.1 FX.2.1 dX0_boxes_55 rfl (lv_at hl 3 rfl) ?_
            refine bd hf (fun a9 h_a9 hf => ?_)
            refine ei_aald 5 rfl FX hw h_a9 dX0_boxes_56 ?_
            refine bd hf (fun v10 h_v10 hf => ?_)
            refine gX0_236 FX hw h_v10 dX0_boxes_57 ?_
            refine lv_iload_n FX.1 FX.2.1 dX0_boxes_60 rfl (lv_at hl 1 rfl) ?_
            refine lv_icmp_le (tgt := 71) FX.1 FX.2.1 dX0_boxes_61 (by decide) (fun c_61 => ?_) (fun c_61 => ?_)
            · have hf := it_pos c_61 hf
              refine lv_iinc (v := (z28_3 + 1)) (lv' := [(3, .int (z28_3 + 1)), (0, .ref (G.2.2.2 131)), (1, .int p1), (2, .int t4)]) FX.1 FX.2.1 dX0_boxes_71 hl (k := 3) rfl (congrArg (fun q : Int32 => z28_3 + q) (by decide : Int32.ofInt 1 = 1)) (by decide) rfl (fun ls hl => ?_)
              refine lv_goto (tgt := 28) FX.1 FX.2.1 dX0_boxes_74 (by decide) ?_
              exact ih _ _ _ _ _ (lpc hf hk28) hw (lv_sub hl [1, 2, 3, 0] rfl)
            · have hf := it_neg c_61 hf
              refine lv_aload_n FX.1 FX.2.1 dX0_boxes_64 rfl (lv_at hl 0 rfl) ?_
              refine lv_bipush (v := 9) FX.1 FX.2.1 dX0_boxes_65 (by decide) ?_
              refine bd hf (fun t11 h_t11 hf => ?_)
              refine clV_i0 (As := [.int 9]) (rest := []) FX hw (wX0_none h_t11) (cwV 1 FX.2.2.2.2 (lw_V q620 q622 qs3 q134 q623) rfl rfl rfl (by decide +kernel) ⟨Nat.le_of_ble_eq_true rfl, Nat.le_of_ble_eq_true rfl⟩) (fx_obj hw (o := (131, 0, 100, 31)) (by decide)) rfl rfl hl.1 rfl (lv_room (Nat.le_of_ble_eq_true rfl)) dX0_boxes_67 ⟨rfl, rfl⟩ ⟨Nat.zero_le _, Nat.zero_le _⟩ (fun H locs hw => ?_)
              have hf := hR28 _ (lpe hf hk28)
              exact hret _ _ rfl (congrArg (fun z => z.1) (Option.some.inj hf)) (congrArg (fun z => (M, z.2, K.1, K.2.1)) (Option.some.inj hf)) hw dX0_boxes_70
    exact hL28 n _ _ _ _ _ hn hw (lv_sub hl [2, 3, 1, 0] rfl)
  · have hf := it_pos c_9 hf
    refine lv_aload_n FX.1 FX.2.1 dX0_boxes_12 rfl (lv_at hl 0 rfl) ?_
    refine lv_iconst (v := 5) FX.1 FX.2.1 dX0_boxes_13 (by decide) ?_
    refine bd hf (fun t23 h_t23 hf => ?_)
    refine clV_i0 (As := [.int 5]) (rest := []) FX hw (wX0_none h_t23) (cwV 1 FX.2.2.2.2 (lw_V q620 q622 qs3 q134 q623) rfl rfl rfl (by decide +kernel) ⟨Nat.le_of_ble_eq_true rfl, Nat.le_of_ble_eq_true rfl⟩) (fx_obj hw (o := (131, 0, 100, 31)) (by decide)) rfl rfl hl.1 rfl (lv_room (Nat.le_of_ble_eq_true rfl)) dX0_boxes_14 ⟨rfl, rfl⟩ ⟨Nat.zero_le _, Nat.zero_le _⟩ (fun H locs hw => ?_)
    exact hret _ _ rfl (congrArg (fun z => z.1) (Option.some.inj hf)) (congrArg (fun z => (M, z.2, K.1, K.2.1)) (Option.some.inj hf)) hw dX0_boxes_17
abbrev rmX0_waste : Room := { frames := 7, cells := 0, slots := 0, locals := 423 }
set_option maxHeartbeats 4000000 in
theorem wX0_waste {l : Launch} {G : GT} {M C : FS} {K : KT} {p1 : Int32} {t : (Int32 × FS)} (hf : fX0_waste C K p1 = some t) : CtI l yX0_waste (ws_ yX0_waste cX0_waste 4 (some .int)) rmX0_waste G [.ref (G.2.2.2 131), .int p1] (M, C, K.1, K.2.1) t.1 (M, t.2, K.1, K.2.1) := by
  refine mkI (ty := .int) (by decide) (Nat.le_of_ble_eq_true rfl) (fun p e s m a0 below meth c Q FX hw hname hret ls hl => ?_)
  have hl : lv_has ls 4 [(0, .ref (G.2.2.2 131)), (1, .int p1)] := hl
  unfold fX0_waste at hf
  refine lv_iload_n FX.1 FX.2.1 dX0_waste_0 rfl (lv_at hl 1 rfl) ?_
  refine lv_i2l (v := p1.toInt64) FX.1 FX.2.1 dX0_waste_1 rfl ?_
  refine lv_lconst (v := 0) FX.1 FX.2.1 dX0_waste_2 (by decide) ?_
  refine lv_ldc2 FX.1 FX.2.1 FX.2.2.2.1 (FX.2.2.2.2 _ q1430) dX0_waste_3 ?_
  refine bd hf (fun t1 h_t1 hf => ?_)
  refine clS_i0 (As := [.long p1.toInt64, .long 0, .long 999]) (rest := []) FX hw (wX0_isFrom h_t1) (va_cwS 3 FX.2.2.2.2 (lw_S q1119 q1120 q134 q1121) rfl rfl rfl (by decide +kernel) ⟨Nat.le_of_ble_eq_true rfl, Nat.le_of_ble_eq_true rfl⟩) rfl hl.1 rfl (lv_room (Nat.le_of_ble_eq_true rfl)) dX0_waste_6 ⟨rfl, rfl⟩ ⟨Nat.zero_le _, Nat.zero_le _⟩ (fun H locs hw => ?_)
  refine lv_if_ne (tgt := 18) FX.1 FX.2.1 dX0_waste_9 (by decide) (fun c_9 => ?_) (fun c_9 => ?_)
  · have hf := it_neg c_9 hf
    refine lv_iconst (v := 0) FX.1 FX.2.1 dX0_waste_18 (by decide) ?_
    refine lv_istore_n (lv' := [(2, .int 0), (0, .ref (G.2.2.2 131)), (1, .int p1)]) FX.1 FX.2.1 dX0_waste_19 rfl hl (by decide) rfl (fun ls hl => ?_)
    refine lv_iconst (v := 0) FX.1 FX.2.1 dX0_waste_20 (by decide) ?_
    refine lv_istore_n (lv' := [(3, .int 0), (2, .int 0), (0, .ref (G.2.2.2 131)), (1, .int p1)]) FX.1 FX.2.1 dX0_waste_21 rfl hl (by decide) rfl (fun ls hl => ?_)
    refine bd hf (fun u22 ht hf => ?_)
    obtain ⟨n, hn⟩ := lp_iff.mp ht
    have hX22 : ∀ (t22_2 : Int32) (H : Heap) (locs : List Loc) (ls : Array Slot) , t22_2 = u22 → WS G (M, C, K.1, K.2.1) s H locs → lv_has ls 4 [(0, .ref (G.2.2.2 131)), (2, .int t22_2)] → W p l e rmX0_waste s m a0 below meth c H locs 0 0 Q (F0 m 105 ls []) := by
      intro t22_2 H locs ls he hw hl
      subst he
      refine lv_aload_n FX.1 FX.2.1 dX0_waste_105 rfl (lv_at hl 0 rfl) ?_
      refine lv_iload_n FX.1 FX.2.1 dX0_waste_106 rfl (lv_at hl 1 rfl) ?_
      refine bd hf (fun t19 h_t19 hf => ?_)
      refine clV_i0 (As := [.int t22_2]) (rest := []) FX hw (wX0_gives h_t19) (cwV 1 FX.2.2.2.2 (lw_V q962 q964 qs16 q134 q965) rfl rfl rfl (by decide +kernel) ⟨Nat.le_of_ble_eq_true rfl, Nat.le_of_ble_eq_true rfl⟩) (fx_obj hw (o := (131, 0, 100, 31)) (by decide)) rfl rfl hl.1 rfl (lv_room (Nat.le_of_ble_eq_true rfl)) dX0_waste_107 ⟨rfl, rfl⟩ ⟨Nat.zero_le _, Nat.zero_le _⟩ (fun H locs hw => ?_)
      exact hret _ _ rfl (congrArg (fun z => z.1) (Option.some.inj hf)) (congrArg (fun z => (M, z.2, K.1, K.2.1)) (Option.some.inj hf)) hw dX0_waste_110
    have hL22 : ∀ (n : Nat) (z22_2 : Int32) (z22_3 : Int32) (H : Heap) (locs : List Loc) (ls : Array Slot) , lpN (fun z => fX0_waste_L22 C K p1 z.1 z.2) n (z22_2, z22_3) = some u22 → WS G (M, C, K.1, K.2.1) s H locs → lv_has ls 4 [(0, .ref (G.2.2.2 131)), (1, .int p1), (2, .int z22_2), (3, .int z22_3)] → W p l e rmX0_waste s m a0 below meth c H locs 0 0 Q (F0 m 22 ls []) := by
      intro n
      induction n with
      | zero => intro z22_2 z22_3 H locs ls hz; cases hz
      | succ n ih =>
        intro z22_2 z22_3 H locs ls hz hw hl
        refine bd (show (fX0_waste_L22 C K p1 z22_2 z22_3).bind _ = some u22 from hz) (fun x22 hf hk22 => ?_)
        unfold fX0_waste_L22 at hf
        refine lv_iload_n FX.1 FX.2.1 dX0_waste_22 rfl (lv_at hl 3 rfl) ?_
        refine lv_aload_n FX.1 FX.2.1 dX0_waste_23 rfl (lv_at hl 0 rfl) ?_
        refine gX0_38 FX hw dX0_waste_24 ?_
        refine bd hf (fun a2 h_a2 hf => ?_)
        rw [show va_rf (C.2.2.1 103) = .ref a2 from congrArg va_rf h_a2]
        refine bd hf (fun v3 h_v3 hf => ?_)
        refine gX0_152 FX hw h_v3 dX0_waste_27 ?_
        refine lv_icmp_ge (tgt := 105) FX.1 FX.2.1 dX0_waste_30 (by decide) (fun c_30 => ?_) (fun c_30 => ?_)
        · have hf := it_pos c_30 hf
          exact hX22 _ _ _ _ (lpe hf hk22) hw (lv_sub hl [0, 2] rfl)
        · have hf := it_neg c_30 hf
          refine lv_iload_n FX.1 FX.2.1 dX0_waste_33 rfl (lv_at hl 2 rfl) ?_
          refine lv_aload_n FX.1 FX.2.1 dX0_waste_34 rfl (lv_at hl 0 rfl) ?_
          refine gX0_38 FX hw dX0_waste_35 ?_
          refine bd hf (fun a4 h_a4 hf => ?_)
          rw [show va_rf (C.2.2.1 103) = .ref a4 from congrArg va_rf h_a4]
          refine bd hf (fun a5 h_a5 hf => ?_)
          refine gX0_161 FX hw h_a5 dX0_waste_38 ?_
          refine lv_iload_n FX.1 FX.2.1 dX0_waste_41 rfl (lv_at hl 3 rfl) ?_
          refine bd hf (fun a6 h_a6 hf => ?_)
          refine ei_aald 5 rfl FX hw h_a6 dX0_waste_42 ?_
          refine bd hf (fun v7 h_v7 hf => ?_)
          refine gX0_165 FX hw h_v7 dX0_waste_43 ?_
          refine lv_if_ne (tgt := 96) FX.1 FX.2.1 dX0_waste_46 (by decide) (fun c_46 => ?_) (fun c_46 => ?_)
          · have hf := it_neg c_46 hf
            refine lv_iconst (v := 0) FX.1 FX.2.1 dX0_waste_96 (by decide) ?_
            refine lv_ior FX.1 FX.2.1 dX0_waste_97 ?_
            refine lv_istore_n (lv' := [(2, .int (z22_2 ||| 0)), (0, .ref (G.2.2.2 131)), (1, .int p1), (3, .int z22_3)]) FX.1 FX.2.1 dX0_waste_98 rfl hl (by decide) rfl (fun ls hl => ?_)
            refine lv_iinc (v := (z22_3 + 1)) (lv' := [(3, .int (z22_3 + 1)), (2, .int (z22_2 ||| 0)), (0, .ref (G.2.2.2 131)), (1, .int p1)]) FX.1 FX.2.1 dX0_waste_99 hl (k := 3) rfl (congrArg (fun q : Int32 => z22_3 + q) (by decide : Int32.ofInt 1 = 1)) (by decide) rfl (fun ls hl => ?_)
            refine lv_goto (tgt := 22) FX.1 FX.2.1 dX0_waste_102 (by decide) ?_
            exact ih _ _ _ _ _ (lpc hf hk22) hw (lv_sub hl [2, 3, 1, 0] rfl)
          · have hf := it_pos c_46 hf
            refine lv_aload_n FX.1 FX.2.1 dX0_waste_49 rfl (lv_at hl 0 rfl) ?_
            refine gX0_38 FX hw dX0_waste_50 ?_
            refine bd hf (fun a8 h_a8 hf => ?_)
            rw [show va_rf (C.2.2.1 103) = .ref a8 from congrArg va_rf h_a8]
            refine bd hf (fun a9 h_a9 hf => ?_)
            refine gX0_161 FX hw h_a9 dX0_waste_53 ?_
            refine lv_iload_n FX.1 FX.2.1 dX0_waste_56 rfl (lv_at hl 3 rfl) ?_
            refine bd hf (fun a10 h_a10 hf => ?_)
            refine ei_aald 5 rfl FX hw h_a10 dX0_waste_57 ?_
            refine bd hf (fun v11 h_v11 hf => ?_)
            refine gX0_248 FX hw h_v11 dX0_waste_58 ?_
            refine lv_aload_n FX.1 FX.2.1 dX0_waste_61 rfl (lv_at hl 0 rfl) ?_
            refine gX0_38 FX hw dX0_waste_62 ?_
            refine bd hf (fun a12 h_a12 hf => ?_)
            rw [show va_rf (C.2.2.1 103) = .ref a12 from congrArg va_rf h_a12]
            refine bd hf (fun a13 h_a13 hf => ?_)
            refine gX0_161 FX hw h_a13 dX0_waste_65 ?_
            refine lv_iload_n FX.1 FX.2.1 dX0_waste_68 rfl (lv_at hl 3 rfl) ?_
            refine bd hf (fun a14 h_a14 hf => ?_)
            refine ei_aald 5 rfl FX hw h_a14 dX0_waste_69 ?_
            refine bd hf (fun v15 h_v15 hf => ?_)
            refine gX0_251 FX hw h_v15 dX0_waste_70 ?_
            refine lv_imul FX.1 FX.2.1 dX0_waste_73 ?_
            refine lv_bipush (v := 16) FX.1 FX.2.1 dX0_waste_74 (by decide) ?_
            refine lv_iload_n FX.1 FX.2.1 dX0_waste_76 rfl (lv_at hl 1 rfl) ?_
            refine lv_imul FX.1 FX.2.1 dX0_waste_77 ?_
            refine lv_aload_n FX.1 FX.2.1 dX0_waste_78 rfl (lv_at hl 0 rfl) ?_
            refine gX0_38 FX hw dX0_waste_79 ?_
            refine bd hf (fun a16 h_a16 hf => ?_)
            rw [show va_rf (C.2.2.1 103) = .ref a16 from congrArg va_rf h_a16]
            refine lv_iload_n FX.1 FX.2.1 dX0_waste_82 rfl (lv_at hl 3 rfl) ?_
            refine bd hf (fun g17 h_g17 hf => ?_)
            refine bd hf (fun t18 h_t18 hf => ?_)
            obtain ⟨fs_g17, he_g17⟩ := dC_some (gC_some h_g17)
            refine clV_i0 (As := [.int z22_3]) (rest := [.int (16 * p1), .int (v11 * v15), .int z22_2]) FX hw (wX4_crossings h_t18) (cwV 1 FX.2.2.2.2 (lw_V q1041 q1042 q1043 q141 q1044) rfl rfl rfl (by decide +kernel) ⟨Nat.le_of_ble_eq_true rfl, Nat.le_of_ble_eq_true rfl⟩) (dyn_he hw he_g17) rfl rfl hl.1 rfl (lv_room (Nat.le_of_ble_eq_true rfl)) dX0_waste_83 ⟨rfl, rfl⟩ ⟨Nat.zero_le _, Nat.zero_le _⟩ (fun H locs hw => ?_)
            refine lv_imul FX.1 FX.2.1 dX0_waste_86 ?_
            refine lv_icmp_ge (tgt := 96) FX.1 FX.2.1 dX0_waste_87 (by decide) (fun c_87 => ?_) (fun c_87 => ?_)
            · have hf := it_pos c_87 hf
              refine lv_iconst (v := 0) FX.1 FX.2.1 dX0_waste_96 (by decide) ?_
              refine lv_ior FX.1 FX.2.1 dX0_waste_97 ?_
              refine lv_istore_n (lv' := [(2, .int (z22_2 ||| 0)), (0, .ref (G.2.2.2 131)), (1, .int p1), (3, .int z22_3)]) FX.1 FX.2.1 dX0_waste_98 rfl hl (by decide) rfl (fun ls hl => ?_)
              refine lv_iinc (v := (z22_3 + 1)) (lv' := [(3, .int (z22_3 + 1)), (2, .int (z22_2 ||| 0)), (0, .ref (G.2.2.2 131)), (1, .int p1)]) FX.1 FX.2.1 dX0_waste_99 hl (k := 3) rfl (congrArg (fun q : Int32 => z22_3 + q) (by decide : Int32.ofInt 1 = 1)) (by decide) rfl (fun ls hl => ?_)
              refine lv_goto (tgt := 22) FX.1 FX.2.1 dX0_waste_102 (by decide) ?_
              exact ih _ _ _ _ _ (lpc hf hk22) hw (lv_sub hl [2, 3, 1, 0] rfl)
            · have hf := it_neg c_87 hf
              refine lv_iconst (v := 1) FX.1 FX.2.1 dX0_waste_90 (by decide) ?_
              refine lv_iload_n FX.1 FX.2.1 dX0_waste_91 rfl (lv_at hl 3 rfl) ?_
              refine lv_ishl FX.1 FX.2.1 dX0_waste_92 ?_
              refine lv_goto (tgt := 97) FX.1 FX.2.1 dX0_waste_93 (by decide) ?_
              refine lv_ior FX.1 FX.2.1 dX0_waste_97 ?_
              refine lv_istore_n (lv' := [(2, .int (z22_2 ||| (1 <<< (z22_3 &&& 31)))), (0, .ref (G.2.2.2 131)), (1, .int p1), (3, .int z22_3)]) FX.1 FX.2.1 dX0_waste_98 rfl hl (by decide) rfl (fun ls hl => ?_)
              refine lv_iinc (v := (z22_3 + 1)) (lv' := [(3, .int (z22_3 + 1)), (2, .int (z22_2 ||| (1 <<< (z22_3 &&& 31)))), (0, .ref (G.2.2.2 131)), (1, .int p1)]) FX.1 FX.2.1 dX0_waste_99 hl (k := 3) rfl (congrArg (fun q : Int32 => z22_3 + q) (by decide : Int32.ofInt 1 = 1)) (by decide) rfl (fun ls hl => ?_)
              refine lv_goto (tgt := 22) FX.1 FX.2.1 dX0_waste_102 (by decide) ?_
              exact ih _ _ _ _ _ (lpc hf hk22) hw (lv_sub hl [2, 3, 1, 0] rfl)
    exact hL22 n _ _ _ _ _ hn hw (lv_sub hl [2, 3, 1, 0] rfl)
  · have hf := it_pos c_9 hf
    refine lv_aload_n FX.1 FX.2.1 dX0_waste_12 rfl (lv_at hl 0 rfl) ?_
    refine lv_iconst (v := 5) FX.1 FX.2.1 dX0_waste_13 (by decide) ?_
    refine bd hf (fun t20 h_t20 hf => ?_)
    refine clV_i0 (As := [.int 5]) (rest := []) FX hw (wX0_none h_t20) (cwV 1 FX.2.2.2.2 (lw_V q620 q622 qs3 q134 q623) rfl rfl rfl (by decide +kernel) ⟨Nat.le_of_ble_eq_true rfl, Nat.le_of_ble_eq_true rfl⟩) (fx_obj hw (o := (131, 0, 100, 31)) (by decide)) rfl rfl hl.1 rfl (lv_room (Nat.le_of_ble_eq_true rfl)) dX0_waste_14 ⟨rfl, rfl⟩ ⟨Nat.zero_le _, Nat.zero_le _⟩ (fun H locs hw => ?_)
    exact hret _ _ rfl (congrArg (fun z => z.1) (Option.some.inj hf)) (congrArg (fun z => (M, z.2, K.1, K.2.1)) (Option.some.inj hf)) hw dX0_waste_17
abbrev rmX0_frees (K : KT) : Room := { frames := 9, cells := K.2.2.1, slots := K.2.2.2, locals := 478 }
set_option maxHeartbeats 4000000 in
theorem wX0_frees {l : Launch} {G : GT} {M C : FS} {K : KT} {p1 : Int32} {t : (Int32 × FS × KT)} (hf : fX0_frees C K p1 = some t) : EtI l yX0_frees (ws_ yX0_frees cX0_frees 3 (some .boolean)) (rmX0_frees K) G [.ref (G.2.2.2 131), .int p1] (M, C, K.1, K.2.1) t.1 (M, t.2.1, t.2.2.1, t.2.2.2.1) (K.2.2.1 - t.2.2.2.2.1) (K.2.2.2 - t.2.2.2.2.2) := by
  refine ekI (ty := .boolean) (by decide) (Nat.le_of_ble_eq_true rfl) (fun p e s m a0 below meth c Q FX hw hname hret ls hl => ?_)
  have hl : lv_has ls 3 [(0, .ref (G.2.2.2 131)), (1, .int p1)] := hl
  unfold fX0_frees at hf
  have hm : Cn K K 0 0 := Cn.rf
  refine lv_aload_n FX.1 FX.2.1 dX0_frees_0 rfl (lv_at hl 0 rfl) ?_
  refine gX0_38 FX hw dX0_frees_1 ?_
  refine bd hf (fun a1 h_a1 hf => ?_)
  rw [show va_rf (C.2.2.1 103) = .ref a1 from congrArg va_rf h_a1]
  refine bd hf (fun a2 h_a2 hf => ?_)
  refine gX0_161 FX hw h_a2 dX0_frees_4 ?_
  refine lv_iload_n FX.1 FX.2.1 dX0_frees_7 rfl (lv_at hl 1 rfl) ?_
  refine bd hf (fun a3 h_a3 hf => ?_)
  refine ei_aald 5 rfl FX hw h_a3 dX0_frees_8 ?_
  refine bd hf (fun v4 h_v4 hf => ?_)
  refine gX0_165 FX hw h_v4 dX0_frees_9 ?_
  refine lv_if_eq (tgt := 17) FX.1 FX.2.1 dX0_frees_12 (by decide) (fun c_12 => ?_) (fun c_12 => ?_)
  · have hf := it_pos c_12 hf
    refine lv_aload_n FX.1 FX.2.1 dX0_frees_17 rfl (lv_at hl 0 rfl) ?_
    refine lv_iload_n FX.1 FX.2.1 dX0_frees_18 rfl (lv_at hl 1 rfl) ?_
    refine bd hf (fun t5 h_t5 hf => ?_)
    refine clV_i0 (As := [.int p1]) (rest := []) FX hw (wX0_aloneOf h_t5) (cwV 1 FX.2.2.2.2 (lw_V q1364 q1366 qs30 q134 q1367) rfl rfl rfl (by decide +kernel) ⟨Nat.le_of_ble_eq_true rfl, Nat.le_of_ble_eq_true rfl⟩) (fx_obj hw (o := (131, 0, 100, 31)) (by decide)) rfl rfl hl.1 rfl (lv_room (Nat.le_of_ble_eq_true rfl)) dX0_frees_19 ⟨rfl, rfl⟩ hm.le (fun H locs hw => ?_)
    refine lv_pop FX.1 FX.2.1 dX0_frees_22 rfl ?_
    refine lv_iconst (v := 0) FX.1 FX.2.1 dX0_frees_23 (by decide) ?_
    refine lv_istore_n (lv' := [(2, .int 0), (0, .ref (G.2.2.2 131)), (1, .int p1)]) FX.1 FX.2.1 dX0_frees_24 rfl hl (by decide) rfl (fun ls hl => ?_)
    refine bd hf (fun u25 ht hf => ?_)
    obtain ⟨n, hn⟩ := lp_iff.mp ht
    have hX25 : ∀ (Kt25 : KT) (H : Heap) (locs : List Loc) (ls : Array Slot) (nc ns : Nat) , Kt25 = u25 → Cn K Kt25 nc ns → WS G (M, t5.2, Kt25.1, Kt25.2.1) s H locs → lv_has ls 3 [(0, .ref (G.2.2.2 131)), (1, .int p1)] → W p l e (rmX0_frees K) s m a0 below meth c H locs nc ns Q (F0 m 49 ls []) := by
      intro Kt25 H locs ls nc ns he hm hw hl
      subst he
      refine lv_iconst (v := 0) FX.1 FX.2.1 dX0_frees_49 (by decide) ?_
      refine lv_istore_n (lv' := [(2, .int 0), (0, .ref (G.2.2.2 131)), (1, .int p1)]) FX.1 FX.2.1 dX0_frees_50 rfl hl (by decide) rfl (fun ls hl => ?_)
      refine bd hf (fun u51 ht hf => ?_)
      obtain ⟨n, hn⟩ := lp_iff.mp ht
      have hX51 : ∀ (Kt51 : KT) (H : Heap) (locs : List Loc) (ls : Array Slot) (nc ns : Nat) , Kt51 = u51 → Cn K Kt51 nc ns → WS G (M, t5.2, Kt51.1, Kt51.2.1) s H locs → lv_has ls 3 [(0, .ref (G.2.2.2 131)), (1, .int p1)] → W p l e (rmX0_frees K) s m a0 below meth c H locs nc ns Q (F0 m 77 ls []) := by
        intro Kt51 H locs ls nc ns he hm hw hl
        subst he
        refine lv_iconst (v := 0) FX.1 FX.2.1 dX0_frees_77 (by decide) ?_
        refine lv_istore_n (lv' := [(2, .int 0), (0, .ref (G.2.2.2 131)), (1, .int p1)]) FX.1 FX.2.1 dX0_frees_78 rfl hl (by decide) rfl (fun ls hl => ?_)
        refine bd hf (fun u79 ht hf => ?_)
        obtain ⟨n, hn⟩ := lp_iff.mp ht
        have hX79 : ∀ (Kt79 : KT) (H : Heap) (locs : List Loc) (ls : Array Slot) (nc ns : Nat) , Kt79 = u79 → Cn K Kt79 nc ns → WS G (M, t5.2, Kt79.1, Kt79.2.1) s H locs → lv_has ls 3 [(0, .ref (G.2.2.2 131)), (1, .int p1)] → W p l e (rmX0_frees K) s m a0 below meth c H locs nc ns Q (F0 m 105 ls []) := by
          intro Kt79 H locs ls nc ns he hm hw hl
          subst he
          refine lv_aload_n FX.1 FX.2.1 dX0_frees_105 rfl (lv_at hl 0 rfl) ?_
          refine gX0_60 FX hw dX0_frees_106 ?_
          refine lv_iconst (v := 3) FX.1 FX.2.1 dX0_frees_109 (by decide) ?_
          refine bd hf (fun v21 h_v21 hf => ?_)
          refine al117 FX hw h_v21 dX0_frees_110 ?_
          refine lv_iconst (v := 1) FX.1 FX.2.1 dX0_frees_111 (by decide) ?_
          have hK124 : ∀ (K_124 : KT) (H : Heap) (locs : List Loc) (ls : Array Slot) (nc ns : Nat) , fX0_frees_J124 t5 K_124 = some t → Cn K K_124 nc ns → WS G (M, t5.2, K_124.1, K_124.2.1) s H locs → lv_has ls 3 [(0, .ref (G.2.2.2 131))] → W p l e (rmX0_frees K) s m a0 below meth c H locs nc ns Q (F0 m 124 ls []) := by
            intro K_124 H locs ls nc ns hf hm hw hl
            unfold fX0_frees_J124 at hf
            refine lv_aload_n FX.1 FX.2.1 dX0_frees_124 rfl (lv_at hl 0 rfl) ?_
            refine gX0_78 FX hw dX0_frees_125 ?_
            refine lv_iconst (v := 3) FX.1 FX.2.1 dX0_frees_128 (by decide) ?_
            refine lv_dup2_11 FX.1 FX.2.1 dX0_frees_129 rfl rfl ?_
            refine bd hf (fun v22 h_v22 hf => ?_)
            refine al126 FX hw h_v22 dX0_frees_130 ?_
            refine lv_iconst (v := 1) FX.1 FX.2.1 dX0_frees_131 (by decide) ?_
            refine lv_iadd FX.1 FX.2.1 dX0_frees_132 ?_
            refine bd hf (fun C23 h_C23 hf => ?_)
            refine as126 FX hw h_C23 dX0_frees_133 (fun H locs hw => ?_)
            refine lv_iconst (v := 1) FX.1 FX.2.1 dX0_frees_134 (by decide) ?_
            have hk : K_124 = t.2.2 := congrArg (fun z => z.2.2) (Option.some.inj hf)
            have hm : Cn K t.2.2 nc ns := hk ▸ hm
            refine w_cast hm.end_.1 hm.end_.2 ?_
            exact hret _ _ rfl (congrArg (fun z => z.1) (Option.some.inj hf)) (congrArg (fun z => (M, z.2.1, z.2.2.1, z.2.2.2.1)) (Option.some.inj hf)) hw dX0_frees_135
          refine lv_icmp_ne (tgt := 124) FX.1 FX.2.1 dX0_frees_112 (by decide) (fun c_112 => ?_) (fun c_112 => ?_)
          · have hf := it_neg c_112 hf
            exact hK124 _ _ _ _ _ _ hf hm hw (lv_sub hl [0] rfl)
          · have hf := it_pos c_112 hf
            refine lv_aload_n FX.1 FX.2.1 dX0_frees_115 rfl (lv_at hl 0 rfl) ?_
            refine gX0_38 FX hw dX0_frees_116 ?_
            refine bd hf (fun a24 h_a24 hf => ?_)
            rw [show va_rf (t5.2.2.2.1 103) = .ref a24 from congrArg va_rf h_a24]
            refine lv_iload_n FX.1 FX.2.1 dX0_frees_119 rfl (lv_at hl 1 rfl) ?_
            refine bd hf (fun g25 h_g25 hf => ?_)
            refine bd hf (fun t26 h_t26 hf => ?_)
            refine bd hf (fun g27 h_g27 hf => ?_)
            obtain ⟨fs_g25, he_g25⟩ := dC_some (gC_some h_g25)
            refine xlV_i (As := [.int p1]) (rest := []) FX hw (wX4_pulls h_t26) (cwV 1 FX.2.2.2.2 (lw_V q1197 q1198 q1199 q141 q1200) rfl rfl rfl (by decide +kernel) ⟨Nat.le_of_ble_eq_true rfl, Nat.le_of_ble_eq_true rfl⟩) (dyn_he hw he_g25) rfl rfl hl.1 rfl (lv_room (Nat.le_of_ble_eq_true rfl)) dX0_frees_120 hm.roomC (fun H locs hw => ?_)
            have hm := hm.sM h_g27
            refine lv_pop FX.1 FX.2.1 dX0_frees_123 rfl ?_
            exact hK124 _ _ _ _ _ _ hf hm hw (lv_sub hl [0] rfl)
        have hL79 : ∀ (n : Nat) (z79_2 : Int32) (Kz79 : KT) (H : Heap) (locs : List Loc) (ls : Array Slot) (nc ns : Nat) , lpN (fun z => fX0_frees_L79 p1 t5 z.1 z.2) n (z79_2, Kz79) = some u79 → Cn K Kz79 nc ns → WS G (M, t5.2, Kz79.1, Kz79.2.1) s H locs → lv_has ls 3 [(0, .ref (G.2.2.2 131)), (1, .int p1), (2, .int z79_2)] → W p l e (rmX0_frees K) s m a0 below meth c H locs nc ns Q (F0 m 79 ls []) := by
          intro n
          induction n with
          | zero => intro z79_2 Kz79 H locs ls nc ns hz; cases hz
          | succ n ih =>
            intro z79_2 Kz79 H locs ls nc ns hz hm hw hl
            refine bd (show (fX0_frees_L79 p1 t5 z79_2 Kz79).bind _ = some u79 from hz) (fun x79 hf hk79 => ?_)
            unfold fX0_frees_L79 at hf
            refine lv_iload_n FX.1 FX.2.1 dX0_frees_79 rfl (lv_at hl 2 rfl) ?_
            refine lv_aload_n FX.1 FX.2.1 dX0_frees_80 rfl (lv_at hl 0 rfl) ?_
            refine gX0_60 FX hw dX0_frees_81 ?_
            refine lv_iconst (v := 2) FX.1 FX.2.1 dX0_frees_84 (by decide) ?_
            refine bd hf (fun v16 h_v16 hf => ?_)
            refine al117 FX hw h_v16 dX0_frees_85 ?_
            refine lv_icmp_ge (tgt := 105) FX.1 FX.2.1 dX0_frees_86 (by decide) (fun c_86 => ?_) (fun c_86 => ?_)
            · have hf := it_pos c_86 hf
              exact hX79 _ _ _ _ _ _ (lpe hf hk79) hm hw (lv_sub hl [0, 1] rfl)
            · have hf := it_neg c_86 hf
              refine lv_aload_n FX.1 FX.2.1 dX0_frees_89 rfl (lv_at hl 0 rfl) ?_
              refine gX0_38 FX hw dX0_frees_90 ?_
              refine bd hf (fun a17 h_a17 hf => ?_)
              rw [show va_rf (t5.2.2.2.1 103) = .ref a17 from congrArg va_rf h_a17]
              refine lv_iload_n FX.1 FX.2.1 dX0_frees_93 rfl (lv_at hl 1 rfl) ?_
              refine lv_iconst (v := 1) FX.1 FX.2.1 dX0_frees_94 (by decide) ?_
              refine bd hf (fun g18 h_g18 hf => ?_)
              refine bd hf (fun t19 h_t19 hf => ?_)
              refine bd hf (fun g20 h_g20 hf => ?_)
              obtain ⟨fs_g18, he_g18⟩ := dC_some (gC_some h_g18)
              refine clV_i0 (As := [.int p1, .int 1]) (rest := []) FX hw (wX4_follows h_t19) (cwV 2 FX.2.2.2.2 (lw_V q1122 q1123 q1124 q141 q1125) rfl rfl rfl (by decide +kernel) ⟨Nat.le_of_ble_eq_true rfl, Nat.le_of_ble_eq_true rfl⟩) (dyn_he hw he_g18) rfl rfl hl.1 rfl (lv_room (Nat.le_of_ble_eq_true rfl)) dX0_frees_95 ⟨rfl, rfl⟩ hm.le (fun H locs hw => ?_)
              have hm := hm.sG h_g20
              refine lv_pop FX.1 FX.2.1 dX0_frees_98 rfl ?_
              refine lv_iinc (v := (z79_2 + 1)) (lv' := [(2, .int (z79_2 + 1)), (0, .ref (G.2.2.2 131)), (1, .int p1)]) FX.1 FX.2.1 dX0_frees_99 hl (k := 2) rfl (congrArg (fun q : Int32 => z79_2 + q) (by decide : Int32.ofInt 1 = 1)) (by decide) rfl (fun ls hl => ?_)
              refine lv_goto (tgt := 79) FX.1 FX.2.1 dX0_frees_102 (by decide) ?_
              exact ih _ _ _ _ _ _ _ (lpc hf hk79) hm hw (lv_sub hl [1, 2, 0] rfl)
        exact hL79 n _ _ _ _ _ _ _ hn hm hw (lv_sub hl [1, 2, 0] rfl)
      have hL51 : ∀ (n : Nat) (z51_2 : Int32) (Kz51 : KT) (H : Heap) (locs : List Loc) (ls : Array Slot) (nc ns : Nat) , lpN (fun z => fX0_frees_L51 p1 t5 z.1 z.2) n (z51_2, Kz51) = some u51 → Cn K Kz51 nc ns → WS G (M, t5.2, Kz51.1, Kz51.2.1) s H locs → lv_has ls 3 [(0, .ref (G.2.2.2 131)), (1, .int p1), (2, .int z51_2)] → W p l e (rmX0_frees K) s m a0 below meth c H locs nc ns Q (F0 m 51 ls []) := by
        intro n
        induction n with
        | zero => intro z51_2 Kz51 H locs ls nc ns hz; cases hz
        | succ n ih =>
          intro z51_2 Kz51 H locs ls nc ns hz hm hw hl
          refine bd (show (fX0_frees_L51 p1 t5 z51_2 Kz51).bind _ = some u51 from hz) (fun x51 hf hk51 => ?_)
          unfold fX0_frees_L51 at hf
          refine lv_iload_n FX.1 FX.2.1 dX0_frees_51 rfl (lv_at hl 2 rfl) ?_
          refine lv_aload_n FX.1 FX.2.1 dX0_frees_52 rfl (lv_at hl 0 rfl) ?_
          refine gX0_60 FX hw dX0_frees_53 ?_
          refine lv_iconst (v := 1) FX.1 FX.2.1 dX0_frees_56 (by decide) ?_
          refine bd hf (fun v11 h_v11 hf => ?_)
          refine al117 FX hw h_v11 dX0_frees_57 ?_
          refine lv_icmp_ge (tgt := 77) FX.1 FX.2.1 dX0_frees_58 (by decide) (fun c_58 => ?_) (fun c_58 => ?_)
          · have hf := it_pos c_58 hf
            exact hX51 _ _ _ _ _ _ (lpe hf hk51) hm hw (lv_sub hl [0, 1] rfl)
          · have hf := it_neg c_58 hf
            refine lv_aload_n FX.1 FX.2.1 dX0_frees_61 rfl (lv_at hl 0 rfl) ?_
            refine gX0_38 FX hw dX0_frees_62 ?_
            refine bd hf (fun a12 h_a12 hf => ?_)
            rw [show va_rf (t5.2.2.2.1 103) = .ref a12 from congrArg va_rf h_a12]
            refine lv_iload_n FX.1 FX.2.1 dX0_frees_65 rfl (lv_at hl 1 rfl) ?_
            refine lv_iconst (v := 0) FX.1 FX.2.1 dX0_frees_66 (by decide) ?_
            refine bd hf (fun g13 h_g13 hf => ?_)
            refine bd hf (fun t14 h_t14 hf => ?_)
            refine bd hf (fun g15 h_g15 hf => ?_)
            obtain ⟨fs_g13, he_g13⟩ := dC_some (gC_some h_g13)
            refine clV_i0 (As := [.int p1, .int 0]) (rest := []) FX hw (wX4_follows h_t14) (cwV 2 FX.2.2.2.2 (lw_V q1122 q1123 q1124 q141 q1125) rfl rfl rfl (by decide +kernel) ⟨Nat.le_of_ble_eq_true rfl, Nat.le_of_ble_eq_true rfl⟩) (dyn_he hw he_g13) rfl rfl hl.1 rfl (lv_room (Nat.le_of_ble_eq_true rfl)) dX0_frees_67 ⟨rfl, rfl⟩ hm.le (fun H locs hw => ?_)
            have hm := hm.sG h_g15
            refine lv_pop FX.1 FX.2.1 dX0_frees_70 rfl ?_
            refine lv_iinc (v := (z51_2 + 1)) (lv' := [(2, .int (z51_2 + 1)), (0, .ref (G.2.2.2 131)), (1, .int p1)]) FX.1 FX.2.1 dX0_frees_71 hl (k := 2) rfl (congrArg (fun q : Int32 => z51_2 + q) (by decide : Int32.ofInt 1 = 1)) (by decide) rfl (fun ls hl => ?_)
            refine lv_goto (tgt := 51) FX.1 FX.2.1 dX0_frees_74 (by decide) ?_
            exact ih _ _ _ _ _ _ _ (lpc hf hk51) hm hw (lv_sub hl [1, 2, 0] rfl)
      exact hL51 n _ _ _ _ _ _ _ hn hm hw (lv_sub hl [1, 2, 0] rfl)
    have hL25 : ∀ (n : Nat) (z25_2 : Int32) (Kz25 : KT) (H : Heap) (locs : List Loc) (ls : Array Slot) (nc ns : Nat) , lpN (fun z => fX0_frees_L25 t5 z.1 z.2) n (z25_2, Kz25) = some u25 → Cn K Kz25 nc ns → WS G (M, t5.2, Kz25.1, Kz25.2.1) s H locs → lv_has ls 3 [(0, .ref (G.2.2.2 131)), (1, .int p1), (2, .int z25_2)] → W p l e (rmX0_frees K) s m a0 below meth c H locs nc ns Q (F0 m 25 ls []) := by
      intro n
      induction n with
      | zero => intro z25_2 Kz25 H locs ls nc ns hz; cases hz
      | succ n ih =>
        intro z25_2 Kz25 H locs ls nc ns hz hm hw hl
        refine bd (show (fX0_frees_L25 t5 z25_2 Kz25).bind _ = some u25 from hz) (fun x25 hf hk25 => ?_)
        unfold fX0_frees_L25 at hf
        refine lv_iload_n FX.1 FX.2.1 dX0_frees_25 rfl (lv_at hl 2 rfl) ?_
        refine lv_aload_n FX.1 FX.2.1 dX0_frees_26 rfl (lv_at hl 0 rfl) ?_
        refine gX0_60 FX hw dX0_frees_27 ?_
        refine lv_iconst (v := 0) FX.1 FX.2.1 dX0_frees_30 (by decide) ?_
        refine bd hf (fun v6 h_v6 hf => ?_)
        refine al117 FX hw h_v6 dX0_frees_31 ?_
        refine lv_icmp_ge (tgt := 49) FX.1 FX.2.1 dX0_frees_32 (by decide) (fun c_32 => ?_) (fun c_32 => ?_)
        · have hf := it_pos c_32 hf
          exact hX25 _ _ _ _ _ _ (lpe hf hk25) hm hw (lv_sub hl [0, 1] rfl)
        · have hf := it_neg c_32 hf
          refine lv_aload_n FX.1 FX.2.1 dX0_frees_35 rfl (lv_at hl 0 rfl) ?_
          refine gX0_38 FX hw dX0_frees_36 ?_
          refine bd hf (fun a7 h_a7 hf => ?_)
          rw [show va_rf (t5.2.2.2.1 103) = .ref a7 from congrArg va_rf h_a7]
          refine bd hf (fun g8 h_g8 hf => ?_)
          refine bd hf (fun t9 h_t9 hf => ?_)
          refine bd hf (fun g10 h_g10 hf => ?_)
          obtain ⟨fs_g8, he_g8⟩ := dC_some (gC_some h_g8)
          refine xlV_i (As := []) (rest := []) FX hw (wX4_loosens h_t9) (cwV 0 FX.2.2.2.2 (lw_V q1165 q1166 q1167 q141 q1168) rfl rfl rfl (by decide +kernel) ⟨Nat.le_of_ble_eq_true rfl, Nat.le_of_ble_eq_true rfl⟩) (dyn_he hw he_g8) rfl rfl hl.1 rfl (lv_room (Nat.le_of_ble_eq_true rfl)) dX0_frees_39 hm.roomC (fun H locs hw => ?_)
          have hm := hm.sM h_g10
          refine lv_pop FX.1 FX.2.1 dX0_frees_42 rfl ?_
          refine lv_iinc (v := (z25_2 + 1)) (lv' := [(2, .int (z25_2 + 1)), (0, .ref (G.2.2.2 131)), (1, .int p1)]) FX.1 FX.2.1 dX0_frees_43 hl (k := 2) rfl (congrArg (fun q : Int32 => z25_2 + q) (by decide : Int32.ofInt 1 = 1)) (by decide) rfl (fun ls hl => ?_)
          refine lv_goto (tgt := 25) FX.1 FX.2.1 dX0_frees_46 (by decide) ?_
          exact ih _ _ _ _ _ _ _ (lpc hf hk25) hm hw (lv_sub hl [1, 2, 0] rfl)
    exact hL25 n _ _ _ _ _ _ _ hn hm hw (lv_sub hl [1, 2, 0] rfl)
  · have hf := it_neg c_12 hf
    refine lv_iconst (v := 0) FX.1 FX.2.1 dX0_frees_15 (by decide) ?_
    have hk : K = t.2.2 := congrArg (fun z => z.2.2) (Option.some.inj hf)
    have hm : Cn K t.2.2 0 0 := hk ▸ hm
    refine w_cast hm.end_.1 hm.end_.2 ?_
    exact hret _ _ rfl (congrArg (fun z => z.1) (Option.some.inj hf)) (congrArg (fun z => (M, z.2.1, z.2.2.1, z.2.2.2.1)) (Option.some.inj hf)) hw dX0_frees_16
abbrev rmX0_does (K : KT) : Room := { frames := 10, cells := K.2.2.1, slots := K.2.2.2, locals := 500 }
set_option maxHeartbeats 4000000 in
theorem wX0_does {l : Launch} {G : GT} {M C : FS} {K : KT} {p1 : Nat} {t : (Int32 × FS × KT)} (hf : fX0_does C K p1 = some t) : EtI l yX0_does (ws_ yX0_does cX0_does 3 (some .boolean)) (rmX0_does K) G [.ref (G.2.2.2 131), .ref p1] (M, C, K.1, K.2.1) t.1 (M, t.2.1, t.2.2.1, t.2.2.2.1) (K.2.2.1 - t.2.2.2.2.1) (K.2.2.2 - t.2.2.2.2.2) := by
  refine ekI (ty := .boolean) (by decide) (Nat.le_of_ble_eq_true rfl) (fun p e s m a0 below meth c Q FX hw hname hret ls hl => ?_)
  have hl : lv_has ls 3 [(0, .ref (G.2.2.2 131)), (1, .ref p1)] := hl
  unfold fX0_does at hf
  have hm : Cn K K 0 0 := Cn.rf
  refine lv_aload_n FX.1 FX.2.1 dX0_does_0 rfl (lv_at hl 1 rfl) ?_
  refine bd hf (fun v1 h_v1 hf => ?_)
  refine gX0_433 FX hw h_v1 dX0_does_1 ?_
  by_cases c_4 : v1 < 12 ∨ 19 < v1
  · have hf := it_pos c_4 hf
    refine lv_tableOut (tgt := 219) FX.1 FX.2.1 dX0_does_4 (sw_out (lo := 12) (hi := 19) rfl rfl c_4) (by decide) ?_
    refine lv_iconst (v := 1) FX.1 FX.2.1 dX0_does_219 (by decide) ?_
    have hk : K = t.2.2 := congrArg (fun z => z.2.2) (Option.some.inj hf)
    have hm : Cn K t.2.2 0 0 := hk ▸ hm
    refine w_cast hm.end_.1 hm.end_.2 ?_
    exact hret _ _ rfl (congrArg (fun z => z.1) (Option.some.inj hf)) (congrArg (fun z => (M, z.2.1, z.2.2.1, z.2.2.2.1)) (Option.some.inj hf)) hw dX0_does_220
  · have hf := it_neg c_4 hf
    by_cases c_4_12 : v1 = 12
    · have hf := it_pos c_4_12 hf
      refine lv_tableIn (off := 48) (tgt := 52) FX.1 FX.2.1 dX0_does_4 (by rw [c_4_12]; decide) (by rw [c_4_12]; decide) (by rw [c_4_12]; rfl) (by decide) ?_
      refine lv_iconst (v := 0) FX.1 FX.2.1 dX0_does_52 (by decide) ?_
      refine lv_istore_n (lv' := [(2, .int 0), (0, .ref (G.2.2.2 131)), (1, .ref p1)]) FX.1 FX.2.1 dX0_does_53 rfl hl (by decide) rfl (fun ls hl => ?_)
      refine bd hf (fun u54 ht hf => ?_)
      obtain ⟨n, hn⟩ := lp_iff.mp ht
      have hX54 : ∀ (Ct54 : FS) (Kt54 : KT) (H : Heap) (locs : List Loc) (ls : Array Slot) (nc ns : Nat) , (Ct54, Kt54) = u54 → Cn K Kt54 nc ns → WS G (M, Ct54, Kt54.1, Kt54.2.1) s H locs → lv_has ls 3 [(0, .ref (G.2.2.2 131)), (1, .ref p1)] → W p l e (rmX0_does K) s m a0 below meth c H locs nc ns Q (F0 m 81 ls []) := by
        intro Ct54 Kt54 H locs ls nc ns he hm hw hl
        subst he
        have hf : fX0_does_X54 p1 Ct54 Kt54 = some t := hf
        unfold fX0_does_X54 at hf
        refine lv_aload_n FX.1 FX.2.1 dX0_does_81 rfl (lv_at hl 0 rfl) ?_
        refine gX0_78 FX hw dX0_does_82 ?_
        refine lv_iconst (v := 1) FX.1 FX.2.1 dX0_does_85 (by decide) ?_
        refine lv_dup2_11 FX.1 FX.2.1 dX0_does_86 rfl rfl ?_
        refine bd hf (fun v7 h_v7 hf => ?_)
        refine al126 FX hw h_v7 dX0_does_87 ?_
        refine lv_aload_n FX.1 FX.2.1 dX0_does_88 rfl (lv_at hl 1 rfl) ?_
        refine bd hf (fun v8 h_v8 hf => ?_)
        refine gX0_436 FX hw h_v8 dX0_does_89 ?_
        refine lv_iadd FX.1 FX.2.1 dX0_does_92 ?_
        refine bd hf (fun C9 h_C9 hf => ?_)
        refine as126 FX hw h_C9 dX0_does_93 (fun H locs hw => ?_)
        refine lv_iconst (v := 1) FX.1 FX.2.1 dX0_does_94 (by decide) ?_
        have hk : Kt54 = t.2.2 := congrArg (fun z => z.2.2) (Option.some.inj hf)
        have hm : Cn K t.2.2 nc ns := hk ▸ hm
        refine w_cast hm.end_.1 hm.end_.2 ?_
        exact hret _ _ rfl (congrArg (fun z => z.1) (Option.some.inj hf)) (congrArg (fun z => (M, z.2.1, z.2.2.1, z.2.2.2.1)) (Option.some.inj hf)) hw dX0_does_95
      have hL54 : ∀ (n : Nat) (z54_2 : Int32) (Cz54 : FS) (Kz54 : KT) (H : Heap) (locs : List Loc) (ls : Array Slot) (nc ns : Nat) , lpN (fun z => fX0_does_L54 p1 z.1 z.2.1 z.2.2) n (z54_2, Cz54, Kz54) = some u54 → Cn K Kz54 nc ns → WS G (M, Cz54, Kz54.1, Kz54.2.1) s H locs → lv_has ls 3 [(0, .ref (G.2.2.2 131)), (1, .ref p1), (2, .int z54_2)] → W p l e (rmX0_does K) s m a0 below meth c H locs nc ns Q (F0 m 54 ls []) := by
        intro n
        induction n with
        | zero => intro z54_2 Cz54 Kz54 H locs ls nc ns hz; cases hz
        | succ n ih =>
          intro z54_2 Cz54 Kz54 H locs ls nc ns hz hm hw hl
          refine bd (show (fX0_does_L54 p1 z54_2 Cz54 Kz54).bind _ = some u54 from hz) (fun x54 hf hk54 => ?_)
          unfold fX0_does_L54 at hf
          refine lv_iload_n FX.1 FX.2.1 dX0_does_54 rfl (lv_at hl 2 rfl) ?_
          refine lv_aload_n FX.1 FX.2.1 dX0_does_55 rfl (lv_at hl 1 rfl) ?_
          refine bd hf (fun v2 h_v2 hf => ?_)
          refine gX0_436 FX hw h_v2 dX0_does_56 ?_
          refine lv_icmp_ge (tgt := 81) FX.1 FX.2.1 dX0_does_59 (by decide) (fun c_59 => ?_) (fun c_59 => ?_)
          · have hf := it_pos c_59 hf
            exact hX54 _ _ _ _ _ _ _ (lpe hf hk54) hm hw (lv_sub hl [0, 1] rfl)
          · have hf := it_neg c_59 hf
            refine lv_aload_n FX.1 FX.2.1 dX0_does_62 rfl (lv_at hl 0 rfl) ?_
            refine gX0_78 FX hw dX0_does_63 ?_
            refine lv_iconst (v := 2) FX.1 FX.2.1 dX0_does_66 (by decide) ?_
            refine lv_dup2_11 FX.1 FX.2.1 dX0_does_67 rfl rfl ?_
            refine bd hf (fun v3 h_v3 hf => ?_)
            refine al126 FX hw h_v3 dX0_does_68 ?_
            refine lv_aload_n FX.1 FX.2.1 dX0_does_69 rfl (lv_at hl 0 rfl) ?_
            refine bd hf (fun t4 h_t4 hf => ?_)
            refine bd hf (fun g5 h_g5 hf => ?_)
            refine xlV_i (As := []) (rest := [.int v3, .int 2, .ref (G.2.2.2 126)]) FX hw (wX0_opens h_t4) (cwV 0 FX.2.2.2.2 (lw_V q1275 q1277 qs25 q134 q1278) rfl rfl rfl (by decide +kernel) ⟨Nat.le_of_ble_eq_true rfl, Nat.le_of_ble_eq_true rfl⟩) (fx_obj hw (o := (131, 0, 100, 31)) (by decide)) rfl rfl hl.1 rfl (lv_room (Nat.le_of_ble_eq_true rfl)) dX0_does_70 hm.roomC (fun H locs hw => ?_)
            have hm := hm.sM h_g5
            refine lv_iadd FX.1 FX.2.1 dX0_does_73 ?_
            refine bd hf (fun C6 h_C6 hf => ?_)
            refine as126 FX hw h_C6 dX0_does_74 (fun H locs hw => ?_)
            refine lv_iinc (v := (z54_2 + 1)) (lv' := [(2, .int (z54_2 + 1)), (0, .ref (G.2.2.2 131)), (1, .ref p1)]) FX.1 FX.2.1 dX0_does_75 hl (k := 2) rfl (congrArg (fun q : Int32 => z54_2 + q) (by decide : Int32.ofInt 1 = 1)) (by decide) rfl (fun ls hl => ?_)
            refine lv_goto (tgt := 54) FX.1 FX.2.1 dX0_does_78 (by decide) ?_
            exact ih _ _ _ _ _ _ _ _ (lpc hf hk54) hm hw (lv_sub hl [1, 2, 0] rfl)
      exact hL54 n _ _ _ _ _ _ _ _ hn hm hw (lv_sub hl [1, 2, 0] rfl)
    · have hf := it_neg c_4_12 hf
      by_cases c_4_13 : v1 = 13
      · have hf := it_pos c_4_13 hf
        refine lv_tableIn (off := 92) (tgt := 96) FX.1 FX.2.1 dX0_does_4 (by rw [c_4_13]; decide) (by rw [c_4_13]; decide) (by rw [c_4_13]; rfl) (by decide) ?_
        refine lv_aload_n FX.1 FX.2.1 dX0_does_96 rfl (lv_at hl 0 rfl) ?_
        refine lv_aload_n FX.1 FX.2.1 dX0_does_97 rfl (lv_at hl 1 rfl) ?_
        refine bd hf (fun v10 h_v10 hf => ?_)
        refine gX0_436 FX hw h_v10 dX0_does_98 ?_
        refine bd hf (fun t11 h_t11 hf => ?_)
        refine bd hf (fun g12 h_g12 hf => ?_)
        refine xlV_i (As := [.int v10]) (rest := []) FX hw (wX0_frees h_t11) (cwV 1 FX.2.2.2.2 (lw_V q1486 q1488 qs43 q134 q1489) rfl rfl rfl (by decide +kernel) ⟨Nat.le_of_ble_eq_true rfl, Nat.le_of_ble_eq_true rfl⟩) (fx_obj hw (o := (131, 0, 100, 31)) (by decide)) rfl rfl hl.1 rfl (lv_room (Nat.le_of_ble_eq_true rfl)) dX0_does_101 hm.roomC (fun H locs hw => ?_)
        have hm := hm.sM h_g12
        refine bd hf (fun b13 h_b13 hf => ?_)
        have hk : t11.2.2 = t.2.2 := congrArg (fun z => z.2.2) (Option.some.inj hf)
        have hm : Cn K t.2.2 (0 + (K.2.2.1 - t11.2.2.2.2.1)) (0 + (K.2.2.2 - t11.2.2.2.2.2)) := hk ▸ hm
        refine w_cast hm.end_.1 hm.end_.2 ?_
        exact hret _ _ (bool_nar (bz_or h_b13)) (congrArg (fun z => z.1) (Option.some.inj hf)) (congrArg (fun z => (M, z.2.1, z.2.2.1, z.2.2.2.1)) (Option.some.inj hf)) hw dX0_does_104
      · have hf := it_neg c_4_13 hf
        by_cases c_4_14 : v1 = 14
        · have hf := it_pos c_4_14 hf
          refine lv_tableIn (off := 101) (tgt := 105) FX.1 FX.2.1 dX0_does_4 (by rw [c_4_14]; decide) (by rw [c_4_14]; decide) (by rw [c_4_14]; rfl) (by decide) ?_
          refine lv_aload_n FX.1 FX.2.1 dX0_does_105 rfl (lv_at hl 0 rfl) ?_
          refine gX0_38 FX hw dX0_does_106 ?_
          refine bd hf (fun a14 h_a14 hf => ?_)
          rw [show va_rf (C.2.2.1 103) = .ref a14 from congrArg va_rf h_a14]
          refine bd hf (fun g15 h_g15 hf => ?_)
          refine bd hf (fun t16 h_t16 hf => ?_)
          refine bd hf (fun g17 h_g17 hf => ?_)
          obtain ⟨fs_g15, he_g15⟩ := dC_some (gC_some h_g15)
          refine xlV_i (As := []) (rest := []) FX hw (wX4_loosens h_t16) (cwV 0 FX.2.2.2.2 (lw_V q1165 q1166 q1167 q141 q1168) rfl rfl rfl (by decide +kernel) ⟨Nat.le_of_ble_eq_true rfl, Nat.le_of_ble_eq_true rfl⟩) (dyn_he hw he_g15) rfl rfl hl.1 rfl (lv_room (Nat.le_of_ble_eq_true rfl)) dX0_does_109 hm.roomC (fun H locs hw => ?_)
          have hm := hm.sM h_g17
          refine lv_if_lt (tgt := 119) FX.1 FX.2.1 dX0_does_112 (by decide) (fun c_112 => ?_) (fun c_112 => ?_)
          · have hf := it_pos c_112 hf
            refine lv_iconst (v := 0) FX.1 FX.2.1 dX0_does_119 (by decide) ?_
            have hk : t16.2 = t.2.2 := congrArg (fun z => z.2.2) (Option.some.inj hf)
            have hm : Cn K t.2.2 (0 + (K.2.2.1 - t16.2.2.2.1)) (0 + (K.2.2.2 - t16.2.2.2.2)) := hk ▸ hm
            refine w_cast hm.end_.1 hm.end_.2 ?_
            exact hret _ _ rfl (congrArg (fun z => z.1) (Option.some.inj hf)) (congrArg (fun z => (M, z.2.1, z.2.2.1, z.2.2.2.1)) (Option.some.inj hf)) hw dX0_does_120
          · have hf := it_neg c_112 hf
            refine lv_iconst (v := 1) FX.1 FX.2.1 dX0_does_115 (by decide) ?_
            refine lv_goto (tgt := 120) FX.1 FX.2.1 dX0_does_116 (by decide) ?_
            have hk : t16.2 = t.2.2 := congrArg (fun z => z.2.2) (Option.some.inj hf)
            have hm : Cn K t.2.2 (0 + (K.2.2.1 - t16.2.2.2.1)) (0 + (K.2.2.2 - t16.2.2.2.2)) := hk ▸ hm
            refine w_cast hm.end_.1 hm.end_.2 ?_
            exact hret _ _ rfl (congrArg (fun z => z.1) (Option.some.inj hf)) (congrArg (fun z => (M, z.2.1, z.2.2.1, z.2.2.2.1)) (Option.some.inj hf)) hw dX0_does_120
        · have hf := it_neg c_4_14 hf
          by_cases c_4_15 : v1 = 15
          · have hf := it_pos c_4_15 hf
            refine lv_tableIn (off := 117) (tgt := 121) FX.1 FX.2.1 dX0_does_4 (by rw [c_4_15]; decide) (by rw [c_4_15]; decide) (by rw [c_4_15]; rfl) (by decide) ?_
            refine lv_aload_n FX.1 FX.2.1 dX0_does_121 rfl (lv_at hl 0 rfl) ?_
            refine gX0_38 FX hw dX0_does_122 ?_
            refine bd hf (fun a18 h_a18 hf => ?_)
            rw [show va_rf (C.2.2.1 103) = .ref a18 from congrArg va_rf h_a18]
            refine bd hf (fun a19 h_a19 hf => ?_)
            refine gX0_161 FX hw h_a19 dX0_does_125 ?_
            refine lv_aload_n FX.1 FX.2.1 dX0_does_128 rfl (lv_at hl 1 rfl) ?_
            refine bd hf (fun v20 h_v20 hf => ?_)
            refine gX0_436 FX hw h_v20 dX0_does_129 ?_
            refine bd hf (fun a21 h_a21 hf => ?_)
            refine ei_aald 5 rfl FX hw h_a21 dX0_does_132 ?_
            refine bd hf (fun v22 h_v22 hf => ?_)
            refine gX0_165 FX hw h_v22 dX0_does_133 ?_
            refine lv_if_ne (tgt := 157) FX.1 FX.2.1 dX0_does_136 (by decide) (fun c_136 => ?_) (fun c_136 => ?_)
            · have hf := it_neg c_136 hf
              refine lv_iconst (v := 0) FX.1 FX.2.1 dX0_does_157 (by decide) ?_
              have hk : K = t.2.2 := congrArg (fun z => z.2.2) (Option.some.inj hf)
              have hm : Cn K t.2.2 0 0 := hk ▸ hm
              refine w_cast hm.end_.1 hm.end_.2 ?_
              exact hret _ _ rfl (congrArg (fun z => z.1) (Option.some.inj hf)) (congrArg (fun z => (M, z.2.1, z.2.2.1, z.2.2.2.1)) (Option.some.inj hf)) hw dX0_does_158
            · have hf := it_pos c_136 hf
              refine lv_aload_n FX.1 FX.2.1 dX0_does_139 rfl (lv_at hl 0 rfl) ?_
              refine gX0_38 FX hw dX0_does_140 ?_
              refine bd hf (fun a23 h_a23 hf => ?_)
              rw [show va_rf (C.2.2.1 103) = .ref a23 from congrArg va_rf h_a23]
              refine lv_aload_n FX.1 FX.2.1 dX0_does_143 rfl (lv_at hl 1 rfl) ?_
              refine bd hf (fun v24 h_v24 hf => ?_)
              refine gX0_436 FX hw h_v24 dX0_does_144 ?_
              refine bd hf (fun g25 h_g25 hf => ?_)
              refine bd hf (fun t26 h_t26 hf => ?_)
              refine bd hf (fun g27 h_g27 hf => ?_)
              obtain ⟨fs_g25, he_g25⟩ := dC_some (gC_some h_g25)
              refine xlV_i (As := [.int v24]) (rest := []) FX hw (wX4_pulls h_t26) (cwV 1 FX.2.2.2.2 (lw_V q1197 q1198 q1199 q141 q1200) rfl rfl rfl (by decide +kernel) ⟨Nat.le_of_ble_eq_true rfl, Nat.le_of_ble_eq_true rfl⟩) (dyn_he hw he_g25) rfl rfl hl.1 rfl (lv_room (Nat.le_of_ble_eq_true rfl)) dX0_does_147 hm.roomC (fun H locs hw => ?_)
              have hm := hm.sM h_g27
              refine lv_if_le (tgt := 157) FX.1 FX.2.1 dX0_does_150 (by decide) (fun c_150 => ?_) (fun c_150 => ?_)
              · have hf := it_pos c_150 hf
                refine lv_iconst (v := 0) FX.1 FX.2.1 dX0_does_157 (by decide) ?_
                have hk : t26.2 = t.2.2 := congrArg (fun z => z.2.2) (Option.some.inj hf)
                have hm : Cn K t.2.2 (0 + (K.2.2.1 - t26.2.2.2.1)) (0 + (K.2.2.2 - t26.2.2.2.2)) := hk ▸ hm
                refine w_cast hm.end_.1 hm.end_.2 ?_
                exact hret _ _ rfl (congrArg (fun z => z.1) (Option.some.inj hf)) (congrArg (fun z => (M, z.2.1, z.2.2.1, z.2.2.2.1)) (Option.some.inj hf)) hw dX0_does_158
              · have hf := it_neg c_150 hf
                refine lv_iconst (v := 1) FX.1 FX.2.1 dX0_does_153 (by decide) ?_
                refine lv_goto (tgt := 158) FX.1 FX.2.1 dX0_does_154 (by decide) ?_
                have hk : t26.2 = t.2.2 := congrArg (fun z => z.2.2) (Option.some.inj hf)
                have hm : Cn K t.2.2 (0 + (K.2.2.1 - t26.2.2.2.1)) (0 + (K.2.2.2 - t26.2.2.2.2)) := hk ▸ hm
                refine w_cast hm.end_.1 hm.end_.2 ?_
                exact hret _ _ rfl (congrArg (fun z => z.1) (Option.some.inj hf)) (congrArg (fun z => (M, z.2.1, z.2.2.1, z.2.2.2.1)) (Option.some.inj hf)) hw dX0_does_158
          · have hf := it_neg c_4_15 hf
            by_cases c_4_16 : v1 = 16
            · have hf := it_pos c_4_16 hf
              refine lv_tableIn (off := 155) (tgt := 159) FX.1 FX.2.1 dX0_does_4 (by rw [c_4_16]; decide) (by rw [c_4_16]; decide) (by rw [c_4_16]; rfl) (by decide) ?_
              refine lv_aload_n FX.1 FX.2.1 dX0_does_159 rfl (lv_at hl 0 rfl) ?_
              refine gX0_38 FX hw dX0_does_160 ?_
              refine bd hf (fun a28 h_a28 hf => ?_)
              rw [show va_rf (C.2.2.1 103) = .ref a28 from congrArg va_rf h_a28]
              refine bd hf (fun a29 h_a29 hf => ?_)
              refine gX0_161 FX hw h_a29 dX0_does_163 ?_
              refine lv_aload_n FX.1 FX.2.1 dX0_does_166 rfl (lv_at hl 1 rfl) ?_
              refine bd hf (fun v30 h_v30 hf => ?_)
              refine gX0_436 FX hw h_v30 dX0_does_167 ?_
              refine bd hf (fun a31 h_a31 hf => ?_)
              refine ei_aald 5 rfl FX hw h_a31 dX0_does_170 ?_
              refine bd hf (fun v32 h_v32 hf => ?_)
              refine gX0_165 FX hw h_v32 dX0_does_171 ?_
              refine lv_if_ne (tgt := 195) FX.1 FX.2.1 dX0_does_174 (by decide) (fun c_174 => ?_) (fun c_174 => ?_)
              · have hf := it_neg c_174 hf
                refine lv_iconst (v := 0) FX.1 FX.2.1 dX0_does_195 (by decide) ?_
                have hk : K = t.2.2 := congrArg (fun z => z.2.2) (Option.some.inj hf)
                have hm : Cn K t.2.2 0 0 := hk ▸ hm
                refine w_cast hm.end_.1 hm.end_.2 ?_
                exact hret _ _ rfl (congrArg (fun z => z.1) (Option.some.inj hf)) (congrArg (fun z => (M, z.2.1, z.2.2.1, z.2.2.2.1)) (Option.some.inj hf)) hw dX0_does_196
              · have hf := it_pos c_174 hf
                refine lv_aload_n FX.1 FX.2.1 dX0_does_177 rfl (lv_at hl 0 rfl) ?_
                refine gX0_38 FX hw dX0_does_178 ?_
                refine bd hf (fun a33 h_a33 hf => ?_)
                rw [show va_rf (C.2.2.1 103) = .ref a33 from congrArg va_rf h_a33]
                refine lv_aload_n FX.1 FX.2.1 dX0_does_181 rfl (lv_at hl 1 rfl) ?_
                refine bd hf (fun v34 h_v34 hf => ?_)
                refine gX0_436 FX hw h_v34 dX0_does_182 ?_
                refine bd hf (fun g35 h_g35 hf => ?_)
                refine bd hf (fun t36 h_t36 hf => ?_)
                refine bd hf (fun g37 h_g37 hf => ?_)
                obtain ⟨fs_g35, he_g35⟩ := dC_some (gC_some h_g35)
                refine clV_i0 (As := [.int v34]) (rest := []) FX hw (wX4_cuts h_t36) (cwV 1 FX.2.2.2.2 (lw_V q1239 q1240 q1241 q141 q1242) rfl rfl rfl (by decide +kernel) ⟨Nat.le_of_ble_eq_true rfl, Nat.le_of_ble_eq_true rfl⟩) (dyn_he hw he_g35) rfl rfl hl.1 rfl (lv_room (Nat.le_of_ble_eq_true rfl)) dX0_does_185 ⟨rfl, rfl⟩ hm.le (fun H locs hw => ?_)
                have hm := hm.sG h_g37
                refine lv_if_lt (tgt := 195) FX.1 FX.2.1 dX0_does_188 (by decide) (fun c_188 => ?_) (fun c_188 => ?_)
                · have hf := it_pos c_188 hf
                  refine lv_iconst (v := 0) FX.1 FX.2.1 dX0_does_195 (by decide) ?_
                  have hk : t36.2 = t.2.2 := congrArg (fun z => z.2.2) (Option.some.inj hf)
                  have hm : Cn K t.2.2 0 0 := hk ▸ hm
                  refine w_cast hm.end_.1 hm.end_.2 ?_
                  exact hret _ _ rfl (congrArg (fun z => z.1) (Option.some.inj hf)) (congrArg (fun z => (M, z.2.1, z.2.2.1, z.2.2.2.1)) (Option.some.inj hf)) hw dX0_does_196
                · have hf := it_neg c_188 hf
                  refine lv_iconst (v := 1) FX.1 FX.2.1 dX0_does_191 (by decide) ?_
                  refine lv_goto (tgt := 196) FX.1 FX.2.1 dX0_does_192 (by decide) ?_
                  have hk : t36.2 = t.2.2 := congrArg (fun z => z.2.2) (Option.some.inj hf)
                  have hm : Cn K t.2.2 0 0 := hk ▸ hm
                  refine w_cast hm.end_.1 hm.end_.2 ?_
                  exact hret _ _ rfl (congrArg (fun z => z.1) (Option.some.inj hf)) (congrArg (fun z => (M, z.2.1, z.2.2.1, z.2.2.2.1)) (Option.some.inj hf)) hw dX0_does_196
            · have hf := it_neg c_4_16 hf
              by_cases c_4_17 : v1 = 17
              · have hf := it_pos c_4_17 hf
                refine lv_tableIn (off := 193) (tgt := 197) FX.1 FX.2.1 dX0_does_4 (by rw [c_4_17]; decide) (by rw [c_4_17]; decide) (by rw [c_4_17]; rfl) (by decide) ?_
                refine lv_aload_n FX.1 FX.2.1 dX0_does_197 rfl (lv_at hl 0 rfl) ?_
                refine gX0_38 FX hw dX0_does_198 ?_
                refine bd hf (fun a38 h_a38 hf => ?_)
                rw [show va_rf (C.2.2.1 103) = .ref a38 from congrArg va_rf h_a38]
                refine lv_aload_n FX.1 FX.2.1 dX0_does_201 rfl (lv_at hl 1 rfl) ?_
                refine bd hf (fun v39 h_v39 hf => ?_)
                refine gX0_436 FX hw h_v39 dX0_does_202 ?_
                refine bd hf (fun g40 h_g40 hf => ?_)
                refine bd hf (fun t41 h_t41 hf => ?_)
                refine bd hf (fun g42 h_g42 hf => ?_)
                obtain ⟨fs_g40, he_g40⟩ := dC_some (gC_some h_g40)
                refine clV_i0 (As := [.int v39]) (rest := []) FX hw (wX4_clips h_t41) (cwV 1 FX.2.2.2.2 (lw_V q1251 q1252 q1253 q141 q1254) rfl rfl rfl (by decide +kernel) ⟨Nat.le_of_ble_eq_true rfl, Nat.le_of_ble_eq_true rfl⟩) (dyn_he hw he_g40) rfl rfl hl.1 rfl (lv_room (Nat.le_of_ble_eq_true rfl)) dX0_does_205 ⟨rfl, rfl⟩ hm.le (fun H locs hw => ?_)
                have hm := hm.sG h_g42
                refine bd hf (fun b43 h_b43 hf => ?_)
                have hk : t41.2 = t.2.2 := congrArg (fun z => z.2.2) (Option.some.inj hf)
                have hm : Cn K t.2.2 0 0 := hk ▸ hm
                refine w_cast hm.end_.1 hm.end_.2 ?_
                exact hret _ _ (bool_nar (bz_or h_b43)) (congrArg (fun z => z.1) (Option.some.inj hf)) (congrArg (fun z => (M, z.2.1, z.2.2.1, z.2.2.2.1)) (Option.some.inj hf)) hw dX0_does_208
              · have hf := it_neg c_4_17 hf
                by_cases c_4_18 : v1 = 18
                · have hf := it_pos c_4_18 hf
                  refine lv_tableIn (off := 215) (tgt := 219) FX.1 FX.2.1 dX0_does_4 (by rw [c_4_18]; decide) (by rw [c_4_18]; decide) (by rw [c_4_18]; rfl) (by decide) ?_
                  refine lv_iconst (v := 1) FX.1 FX.2.1 dX0_does_219 (by decide) ?_
                  have hk : K = t.2.2 := congrArg (fun z => z.2.2) (Option.some.inj hf)
                  have hm : Cn K t.2.2 0 0 := hk ▸ hm
                  refine w_cast hm.end_.1 hm.end_.2 ?_
                  exact hret _ _ rfl (congrArg (fun z => z.1) (Option.some.inj hf)) (congrArg (fun z => (M, z.2.1, z.2.2.1, z.2.2.2.1)) (Option.some.inj hf)) hw dX0_does_220
                · have hf := it_neg c_4_18 hf
                  by_cases c_4_19 : v1 = 19
                  · have hf := it_pos c_4_19 hf
                    refine lv_tableIn (off := 205) (tgt := 209) FX.1 FX.2.1 dX0_does_4 (by rw [c_4_19]; decide) (by rw [c_4_19]; decide) (by rw [c_4_19]; rfl) (by decide) ?_
                    refine lv_aload_n FX.1 FX.2.1 dX0_does_209 rfl (lv_at hl 1 rfl) ?_
                    refine lv_aload_n FX.1 FX.2.1 dX0_does_210 rfl (lv_at hl 1 rfl) ?_
                    refine bd hf (fun v44 h_v44 hf => ?_)
                    refine gX0_436 FX hw h_v44 dX0_does_211 ?_
                    refine bd hf (fun K45 h_K45 hf => ?_)
                    refine sX0_440 FX hw h_K45 dX0_does_214 (fun H locs hw => ?_)
                    have hm := hm.keep (ke_uV h_K45)
                    refine lv_iconst (v := 1) FX.1 FX.2.1 dX0_does_217 (by decide) ?_
                    have hk : K45 = t.2.2 := congrArg (fun z => z.2.2) (Option.some.inj hf)
                    have hm : Cn K t.2.2 0 0 := hk ▸ hm
                    refine w_cast hm.end_.1 hm.end_.2 ?_
                    exact hret _ _ rfl (congrArg (fun z => z.1) (Option.some.inj hf)) (congrArg (fun z => (M, z.2.1, z.2.2.1, z.2.2.2.1)) (Option.some.inj hf)) hw dX0_does_218
                  · have hf := it_neg c_4_19 hf
                    cases hf
abbrev rmX0_holds : Room := { frames := 8, cells := 0, slots := 0, locals := 446 }
set_option maxHeartbeats 4000000 in
theorem wX0_holds {l : Launch} {G : GT} {M C : FS} {K : KT} {p1 : Nat} {t : Int32} (hf : fX0_holds C K p1 = some t) : CtI l yX0_holds (ws_ yX0_holds cX0_holds 3 (some .boolean)) rmX0_holds G [.ref (G.2.2.2 131), .ref p1] (M, C, K.1, K.2.1) t (M, C, K.1, K.2.1) := by
  refine mkI (ty := .boolean) (by decide) (Nat.le_of_ble_eq_true rfl) (fun p e s m a0 below meth c Q FX hw hname hret ls hl => ?_)
  have hl : lv_has ls 3 [(0, .ref (G.2.2.2 131)), (1, .ref p1)] := hl
  unfold fX0_holds at hf
  refine lv_aload_n FX.1 FX.2.1 dX0_holds_0 rfl (lv_at hl 1 rfl) ?_
  refine bd hf (fun v1 h_v1 hf => ?_)
  refine gX0_443 FX hw h_v1 dX0_holds_1 ?_
  refine lv_bipush (v := 23) FX.1 FX.2.1 dX0_holds_4 (by decide) ?_
  refine lv_icmp_ne (tgt := 21) FX.1 FX.2.1 dX0_holds_6 (by decide) (fun c_6 => ?_) (fun c_6 => ?_)
  · have hf := it_neg c_6 hf
    refine lv_aload_n FX.1 FX.2.1 dX0_holds_21 rfl (lv_at hl 1 rfl) ?_
    refine bd hf (fun v2 h_v2 hf => ?_)
    refine gX0_443 FX hw h_v2 dX0_holds_22 ?_
    refine lv_bipush (v := 22) FX.1 FX.2.1 dX0_holds_25 (by decide) ?_
    have hK47 : ∀ (y0_47 : Int32) (H : Heap) (locs : List Loc) (ls : Array Slot) , fX0_holds_J47 K p1 y0_47 = some t → WS G (M, C, K.1, K.2.1) s H locs → lv_has ls 3 [(1, .ref p1)] → W p l e rmX0_holds s m a0 below meth c H locs 0 0 Q (F0 m 47 ls [.int y0_47]) := by
      intro y0_47 H locs ls hf hw hl
      unfold fX0_holds_J47 at hf
      refine lv_istore_n (lv' := [(2, .int y0_47), (1, .ref p1)]) FX.1 FX.2.1 dX0_holds_47 rfl hl (by decide) rfl (fun ls hl => ?_)
      refine lv_aload_n FX.1 FX.2.1 dX0_holds_48 rfl (lv_at hl 1 rfl) ?_
      refine bd hf (fun v3 h_v3 hf => ?_)
      refine gX0_446 FX hw h_v3 dX0_holds_49 ?_
      refine lv_bipush (v := 60) FX.1 FX.2.1 dX0_holds_52 (by decide) ?_
      refine lv_icmp_ne (tgt := 73) FX.1 FX.2.1 dX0_holds_54 (by decide) (fun c_54 => ?_) (fun c_54 => ?_)
      · have hf := it_neg c_54 hf
        refine lv_aload_n FX.1 FX.2.1 dX0_holds_73 rfl (lv_at hl 1 rfl) ?_
        refine bd hf (fun v4 h_v4 hf => ?_)
        refine gX0_446 FX hw h_v4 dX0_holds_74 ?_
        refine lv_bipush (v := 62) FX.1 FX.2.1 dX0_holds_77 (by decide) ?_
        refine lv_icmp_ne (tgt := 98) FX.1 FX.2.1 dX0_holds_79 (by decide) (fun c_79 => ?_) (fun c_79 => ?_)
        · have hf := it_neg c_79 hf
          refine lv_iload_n FX.1 FX.2.1 dX0_holds_98 rfl (lv_at hl 0 rfl) ?_
          refine lv_aload_n FX.1 FX.2.1 dX0_holds_99 rfl (lv_at hl 1 rfl) ?_
          refine bd hf (fun v5 h_v5 hf => ?_)
          refine gX0_449 FX hw h_v5 dX0_holds_100 ?_
          refine lv_icmp_ne (tgt := 110) FX.1 FX.2.1 dX0_holds_103 (by decide) (fun c_103 => ?_) (fun c_103 => ?_)
          · have hf := it_neg c_103 hf
            refine lv_iconst (v := 0) FX.1 FX.2.1 dX0_holds_110 (by decide) ?_
            exact hret _ _ rfl (congrArg (fun z => z) (Option.some.inj hf)) rfl hw dX0_holds_111
          · have hf := it_pos c_103 hf
            refine lv_iconst (v := 1) FX.1 FX.2.1 dX0_holds_106 (by decide) ?_
            refine lv_goto (tgt := 111) FX.1 FX.2.1 dX0_holds_107 (by decide) ?_
            exact hret _ _ rfl (congrArg (fun z => z) (Option.some.inj hf)) rfl hw dX0_holds_111
        · have hf := it_pos c_79 hf
          refine lv_iload_n FX.1 FX.2.1 dX0_holds_82 rfl (lv_at hl 0 rfl) ?_
          refine lv_aload_n FX.1 FX.2.1 dX0_holds_83 rfl (lv_at hl 1 rfl) ?_
          refine bd hf (fun v6 h_v6 hf => ?_)
          refine gX0_449 FX hw h_v6 dX0_holds_84 ?_
          refine lv_icmp_le (tgt := 94) FX.1 FX.2.1 dX0_holds_87 (by decide) (fun c_87 => ?_) (fun c_87 => ?_)
          · have hf := it_pos c_87 hf
            refine lv_iconst (v := 0) FX.1 FX.2.1 dX0_holds_94 (by decide) ?_
            refine lv_goto (tgt := 111) FX.1 FX.2.1 dX0_holds_95 (by decide) ?_
            exact hret _ _ rfl (congrArg (fun z => z) (Option.some.inj hf)) rfl hw dX0_holds_111
          · have hf := it_neg c_87 hf
            refine lv_iconst (v := 1) FX.1 FX.2.1 dX0_holds_90 (by decide) ?_
            refine lv_goto (tgt := 111) FX.1 FX.2.1 dX0_holds_91 (by decide) ?_
            exact hret _ _ rfl (congrArg (fun z => z) (Option.some.inj hf)) rfl hw dX0_holds_111
      · have hf := it_pos c_54 hf
        refine lv_iload_n FX.1 FX.2.1 dX0_holds_57 rfl (lv_at hl 0 rfl) ?_
        refine lv_aload_n FX.1 FX.2.1 dX0_holds_58 rfl (lv_at hl 1 rfl) ?_
        refine bd hf (fun v7 h_v7 hf => ?_)
        refine gX0_449 FX hw h_v7 dX0_holds_59 ?_
        refine lv_icmp_ge (tgt := 69) FX.1 FX.2.1 dX0_holds_62 (by decide) (fun c_62 => ?_) (fun c_62 => ?_)
        · have hf := it_pos c_62 hf
          refine lv_iconst (v := 0) FX.1 FX.2.1 dX0_holds_69 (by decide) ?_
          refine lv_goto (tgt := 111) FX.1 FX.2.1 dX0_holds_70 (by decide) ?_
          exact hret _ _ rfl (congrArg (fun z => z) (Option.some.inj hf)) rfl hw dX0_holds_111
        · have hf := it_neg c_62 hf
          refine lv_iconst (v := 1) FX.1 FX.2.1 dX0_holds_65 (by decide) ?_
          refine lv_goto (tgt := 111) FX.1 FX.2.1 dX0_holds_66 (by decide) ?_
          exact hret _ _ rfl (congrArg (fun z => z) (Option.some.inj hf)) rfl hw dX0_holds_111
    refine lv_icmp_ne (tgt := 40) FX.1 FX.2.1 dX0_holds_27 (by decide) (fun c_27 => ?_) (fun c_27 => ?_)
    · have hf := it_neg c_27 hf
      refine lv_aload_n FX.1 FX.2.1 dX0_holds_40 rfl (lv_at hl 0 rfl) ?_
      refine gX0_38 FX hw dX0_holds_41 ?_
      refine bd hf (fun a8 h_a8 hf => ?_)
      rw [show va_rf (C.2.2.1 103) = .ref a8 from congrArg va_rf h_a8]
      refine bd hf (fun v9 h_v9 hf => ?_)
      refine gX0_217 FX hw h_v9 dX0_holds_44 ?_
      exact hK47 _ _ _ _ hf hw (lv_sub hl [1] rfl)
    · have hf := it_pos c_27 hf
      refine lv_aload_n FX.1 FX.2.1 dX0_holds_30 rfl (lv_at hl 0 rfl) ?_
      refine gX0_38 FX hw dX0_holds_31 ?_
      refine bd hf (fun a10 h_a10 hf => ?_)
      rw [show va_rf (C.2.2.1 103) = .ref a10 from congrArg va_rf h_a10]
      refine bd hf (fun g11 h_g11 hf => ?_)
      refine bd hf (fun t12 h_t12 hf => ?_)
      obtain ⟨fs_g11, he_g11⟩ := dC_some (gC_some h_g11)
      refine clV_i0 (As := []) (rest := []) FX hw (wX4_largest h_t12) (cwV 0 FX.2.2.2.2 (lw_V q1302 q1303 q1304 q141 q1305) rfl rfl rfl (by decide +kernel) ⟨Nat.le_of_ble_eq_true rfl, Nat.le_of_ble_eq_true rfl⟩) (dyn_he hw he_g11) rfl rfl hl.1 rfl (lv_room (Nat.le_of_ble_eq_true rfl)) dX0_holds_34 ⟨rfl, rfl⟩ ⟨Nat.zero_le _, Nat.zero_le _⟩ (fun H locs hw => ?_)
      refine lv_goto (tgt := 47) FX.1 FX.2.1 dX0_holds_37 (by decide) ?_
      exact hK47 _ _ _ _ hf hw (lv_sub hl [1] rfl)
  · have hf := it_pos c_6 hf
    refine lv_aload_n FX.1 FX.2.1 dX0_holds_9 rfl (lv_at hl 0 rfl) ?_
    refine gX0_38 FX hw dX0_holds_10 ?_
    refine bd hf (fun a13 h_a13 hf => ?_)
    rw [show va_rf (C.2.2.1 103) = .ref a13 from congrArg va_rf h_a13]
    refine lv_aload_n FX.1 FX.2.1 dX0_holds_13 rfl (lv_at hl 1 rfl) ?_
    refine bd hf (fun v14 h_v14 hf => ?_)
    refine gX0_436 FX hw h_v14 dX0_holds_14 ?_
    refine bd hf (fun g15 h_g15 hf => ?_)
    refine bd hf (fun t16 h_t16 hf => ?_)
    obtain ⟨fs_g15, he_g15⟩ := dC_some (gC_some h_g15)
    refine clV_i0 (As := [.int v14]) (rest := []) FX hw (wX4_isFree h_t16) (cwV 1 FX.2.2.2.2 (lw_V q1323 q1324 q1325 q141 q1326) rfl rfl rfl (by decide +kernel) ⟨Nat.le_of_ble_eq_true rfl, Nat.le_of_ble_eq_true rfl⟩) (dyn_he hw he_g15) rfl rfl hl.1 rfl (lv_room (Nat.le_of_ble_eq_true rfl)) dX0_holds_17 ⟨rfl, rfl⟩ ⟨Nat.zero_le _, Nat.zero_le _⟩ (fun H locs hw => ?_)
    refine bd hf (fun b17 h_b17 hf => ?_)
    exact hret _ _ (bool_nar (bz_or h_b17)) (congrArg (fun z => z) (Option.some.inj hf)) rfl hw dX0_holds_20
abbrev rmX0_behindEnds : Room := { frames := 0, cells := 0, slots := 0, locals := 0 }
set_option maxHeartbeats 4000000 in
theorem wX0_behindEnds {l : Launch} {G : GT} {M C : FS} {K : KT} {p1 : Int32} {t : (Int32 × KT)} (hf : fX0_behindEnds C K p1 = some t) : CtI l yX0_behindEnds (ws_ yX0_behindEnds cX0_behindEnds 5 (some .int)) rmX0_behindEnds G [.ref (G.2.2.2 131), .int p1] (M, C, K.1, K.2.1) t.1 (M, C, t.2.1, t.2.2.1) := by
  refine mkI (ty := .int) (by decide) (Nat.le_of_ble_eq_true rfl) (fun p e s m a0 below meth c Q FX hw hname hret ls hl => ?_)
  have hl : lv_has ls 5 [(0, .ref (G.2.2.2 131)), (1, .int p1)] := hl
  unfold fX0_behindEnds at hf
  refine lv_iload_n FX.1 FX.2.1 dX0_behindEnds_0 rfl (lv_at hl 1 rfl) ?_
  refine lv_istore_n (lv' := [(2, .int p1), (0, .ref (G.2.2.2 131)), (1, .int p1)]) FX.1 FX.2.1 dX0_behindEnds_1 rfl hl (by decide) rfl (fun ls hl => ?_)
  refine bd hf (fun u2 ht hf => ?_)
  obtain ⟨n, hn⟩ := lp_iff.mp ht
  have hX2 : ∀ (t2_2 : Int32) (Kt2 : KT) (H : Heap) (locs : List Loc) (ls : Array Slot) , (t2_2, Kt2) = u2 → WS G (M, C, Kt2.1, Kt2.2.1) s H locs → lv_has ls 5 [(2, .int t2_2)] → W p l e rmX0_behindEnds s m a0 below meth c H locs 0 0 Q (F0 m 101 ls []) := by
    intro t2_2 Kt2 H locs ls he hw hl
    subst he
    have hf : fX0_behindEnds_X2 t2_2 Kt2 = some t := hf
    unfold fX0_behindEnds_X2 at hf
    refine lv_iload_n FX.1 FX.2.1 dX0_behindEnds_101 rfl (lv_at hl 0 rfl) ?_
    exact hret _ _ rfl (congrArg (fun z => z.1) (Option.some.inj hf)) (congrArg (fun z => (M, C, z.2.1, z.2.2.1)) (Option.some.inj hf)) hw dX0_behindEnds_102
  have hL2 : ∀ (n : Nat) (z2_2 : Int32) (Kz2 : KT) (H : Heap) (locs : List Loc) (ls : Array Slot) , lpN (fun z => fX0_behindEnds_L2 C z.1 z.2) n (z2_2, Kz2) = some u2 → WS G (M, C, Kz2.1, Kz2.2.1) s H locs → lv_has ls 5 [(0, .ref (G.2.2.2 131)), (2, .int z2_2)] → W p l e rmX0_behindEnds s m a0 below meth c H locs 0 0 Q (F0 m 2 ls []) := by
    intro n
    induction n with
    | zero => intro z2_2 Kz2 H locs ls hz; cases hz
    | succ n ih =>
      intro z2_2 Kz2 H locs ls hz hw hl
      refine bd (show (fX0_behindEnds_L2 C z2_2 Kz2).bind _ = some u2 from hz) (fun x2 hf hk2 => ?_)
      unfold fX0_behindEnds_L2 at hf
      refine lv_iload_n FX.1 FX.2.1 dX0_behindEnds_2 rfl (lv_at hl 1 rfl) ?_
      refine lv_aload_n FX.1 FX.2.1 dX0_behindEnds_3 rfl (lv_at hl 0 rfl) ?_
      refine gX0_203 FX hw dX0_behindEnds_4 ?_
      refine lv_icmp_ge (tgt := 101) FX.1 FX.2.1 dX0_behindEnds_7 (by decide) (fun c_7 => ?_) (fun c_7 => ?_)
      · have hf := it_pos c_7 hf
        exact hX2 _ _ _ _ _ (lpe hf hk2) hw (lv_sub hl [1] rfl)
      · have hf := it_neg c_7 hf
        refine lv_aload_n FX.1 FX.2.1 dX0_behindEnds_10 rfl (lv_at hl 0 rfl) ?_
        refine gX0_199 FX hw dX0_behindEnds_11 ?_
        refine lv_iload_n FX.1 FX.2.1 dX0_behindEnds_14 rfl (lv_at hl 1 rfl) ?_
        refine bd hf (fun a1 h_a1 hf => ?_)
        rw [show va_rf (C.2.2.1 104) = .ref a1 from congrArg va_rf h_a1]
        refine bd hf (fun a2 h_a2 hf => ?_)
        refine ei_aald 6 rfl FX hw h_a2 dX0_behindEnds_15 ?_
        refine bd hf (fun v3 h_v3 hf => ?_)
        refine gX0_433 FX hw h_v3 dX0_behindEnds_16 ?_
        refine lv_bipush (v := 21) FX.1 FX.2.1 dX0_behindEnds_19 (by decide) ?_
        refine lv_icmp_ne (tgt := 101) FX.1 FX.2.1 dX0_behindEnds_21 (by decide) (fun c_21 => ?_) (fun c_21 => ?_)
        · have hf := it_neg c_21 hf
          exact hX2 _ _ _ _ _ (lpe hf hk2) hw (lv_sub hl [1] rfl)
        · have hf := it_pos c_21 hf
          refine lv_aload_n FX.1 FX.2.1 dX0_behindEnds_24 rfl (lv_at hl 0 rfl) ?_
          refine gX0_199 FX hw dX0_behindEnds_25 ?_
          refine lv_aload_n FX.1 FX.2.1 dX0_behindEnds_28 rfl (lv_at hl 0 rfl) ?_
          refine gX0_199 FX hw dX0_behindEnds_29 ?_
          refine lv_iload_n FX.1 FX.2.1 dX0_behindEnds_32 rfl (lv_at hl 1 rfl) ?_
          refine bd hf (fun a4 h_a4 hf => ?_)
          rw [show va_rf (C.2.2.1 104) = .ref a4 from congrArg va_rf h_a4]
          refine bd hf (fun a5 h_a5 hf => ?_)
          refine ei_aald 6 rfl FX hw h_a5 dX0_behindEnds_33 ?_
          refine bd hf (fun v6 h_v6 hf => ?_)
          refine gX0_450 FX hw h_v6 dX0_behindEnds_34 ?_
          refine bd hf (fun a7 h_a7 hf => ?_)
          refine ei_aald 6 rfl FX hw h_a7 dX0_behindEnds_37 ?_
          refine lv_astore_n (lv' := [(3, .ref a7), (0, .ref (G.2.2.2 131)), (2, .int z2_2)]) FX.1 FX.2.1 dX0_behindEnds_38 rfl hl (by decide) rfl (fun ls hl => ?_)
          refine lv_iconst (v := 0) FX.1 FX.2.1 dX0_behindEnds_39 (by decide) ?_
          refine lv_istore (lv' := [(4, .int 0), (3, .ref a7), (0, .ref (G.2.2.2 131)), (2, .int z2_2)]) FX.1 FX.2.1 dX0_behindEnds_40 hl (by decide) rfl (fun ls hl => ?_)
          refine lv_aload_n FX.1 FX.2.1 dX0_behindEnds_42 rfl (lv_at hl 1 rfl) ?_
          refine bd hf (fun v8 h_v8 hf => ?_)
          refine gX0_433 FX hw h_v8 dX0_behindEnds_43 ?_
          refine lv_bipush (v := 19) FX.1 FX.2.1 dX0_behindEnds_46 (by decide) ?_
          have hK75 : ∀ (x4_75 : Int32) (K_75 : KT) (H : Heap) (locs : List Loc) (ls : Array Slot) , fX0_behindEnds_J75 C z2_2 x4_75 K_75 = some x2 → WS G (M, C, K_75.1, K_75.2.1) s H locs → lv_has ls 5 [(0, .ref (G.2.2.2 131)), (2, .int z2_2), (4, .int x4_75)] → W p l e rmX0_behindEnds s m a0 below meth c H locs 0 0 Q (F0 m 75 ls []) := by
            intro x4_75 K_75 H locs ls hf hw hl
            unfold fX0_behindEnds_J75 at hf
            refine lv_iload FX.1 FX.2.1 dX0_behindEnds_75 (lv_at hl 2 rfl) ?_
            refine lv_if_eq (tgt := 94) FX.1 FX.2.1 dX0_behindEnds_77 (by decide) (fun c_77 => ?_) (fun c_77 => ?_)
            · have hf := it_pos c_77 hf
              refine lv_iload_n FX.1 FX.2.1 dX0_behindEnds_94 rfl (lv_at hl 1 rfl) ?_
              refine lv_iconst (v := 1) FX.1 FX.2.1 dX0_behindEnds_95 (by decide) ?_
              refine lv_iadd FX.1 FX.2.1 dX0_behindEnds_96 ?_
              refine lv_istore_n (lv' := [(2, .int (z2_2 + 1)), (0, .ref (G.2.2.2 131)), (4, .int x4_75)]) FX.1 FX.2.1 dX0_behindEnds_97 rfl hl (by decide) rfl (fun ls hl => ?_)
              refine lv_goto (tgt := 2) FX.1 FX.2.1 dX0_behindEnds_98 (by decide) ?_
              exact ih _ _ _ _ _ (lpc hf hk2) hw (lv_sub hl [1, 0] rfl)
            · have hf := it_neg c_77 hf
              refine lv_aload_n FX.1 FX.2.1 dX0_behindEnds_80 rfl (lv_at hl 0 rfl) ?_
              refine gX0_199 FX hw dX0_behindEnds_81 ?_
              refine lv_iload_n FX.1 FX.2.1 dX0_behindEnds_84 rfl (lv_at hl 1 rfl) ?_
              refine bd hf (fun a9 h_a9 hf => ?_)
              rw [show va_rf (C.2.2.1 104) = .ref a9 from congrArg va_rf h_a9]
              refine bd hf (fun a10 h_a10 hf => ?_)
              refine ei_aald 6 rfl FX hw h_a10 dX0_behindEnds_85 ?_
              refine bd hf (fun v11 h_v11 hf => ?_)
              refine gX0_450 FX hw h_v11 dX0_behindEnds_86 ?_
              refine lv_iconst (v := 1) FX.1 FX.2.1 dX0_behindEnds_89 (by decide) ?_
              refine lv_iadd FX.1 FX.2.1 dX0_behindEnds_90 ?_
              refine lv_goto (tgt := 97) FX.1 FX.2.1 dX0_behindEnds_91 (by decide) ?_
              refine lv_istore_n (lv' := [(2, .int (v11 + 1)), (0, .ref (G.2.2.2 131)), (4, .int x4_75)]) FX.1 FX.2.1 dX0_behindEnds_97 rfl hl (by decide) rfl (fun ls hl => ?_)
              refine lv_goto (tgt := 2) FX.1 FX.2.1 dX0_behindEnds_98 (by decide) ?_
              exact ih _ _ _ _ _ (lpc hf hk2) hw (lv_sub hl [1, 0] rfl)
          refine lv_icmp_ne (tgt := 75) FX.1 FX.2.1 dX0_behindEnds_48 (by decide) (fun c_48 => ?_) (fun c_48 => ?_)
          · have hf := it_neg c_48 hf
            exact hK75 _ _ _ _ _ hf hw (lv_sub hl [2, 3, 0] rfl)
          · have hf := it_pos c_48 hf
            refine lv_aload_n FX.1 FX.2.1 dX0_behindEnds_51 rfl (lv_at hl 1 rfl) ?_
            refine lv_dup FX.1 FX.2.1 dX0_behindEnds_52 rfl ?_
            refine bd hf (fun v12 h_v12 hf => ?_)
            refine gX0_440 FX hw h_v12 dX0_behindEnds_53 ?_
            refine lv_iconst (v := 1) FX.1 FX.2.1 dX0_behindEnds_56 (by decide) ?_
            refine lv_isub FX.1 FX.2.1 dX0_behindEnds_57 ?_
            refine bd hf (fun K13 h_K13 hf => ?_)
            refine sX0_440 FX hw h_K13 dX0_behindEnds_58 (fun H locs hw => ?_)
            refine lv_aload_n FX.1 FX.2.1 dX0_behindEnds_61 rfl (lv_at hl 1 rfl) ?_
            refine bd hf (fun v14 h_v14 hf => ?_)
            refine gX0_440 FX hw h_v14 dX0_behindEnds_62 ?_
            refine lv_if_le (tgt := 72) FX.1 FX.2.1 dX0_behindEnds_65 (by decide) (fun c_65 => ?_) (fun c_65 => ?_)
            · have hf := it_pos c_65 hf
              refine lv_iconst (v := 0) FX.1 FX.2.1 dX0_behindEnds_72 (by decide) ?_
              refine lv_istore (lv' := [(4, .int 0), (3, .ref a7), (0, .ref (G.2.2.2 131)), (2, .int z2_2)]) FX.1 FX.2.1 dX0_behindEnds_73 hl (by decide) rfl (fun ls hl => ?_)
              exact hK75 _ _ _ _ _ hf hw (lv_sub hl [2, 3, 0] rfl)
            · have hf := it_neg c_65 hf
              refine lv_iconst (v := 1) FX.1 FX.2.1 dX0_behindEnds_68 (by decide) ?_
              refine lv_goto (tgt := 73) FX.1 FX.2.1 dX0_behindEnds_69 (by decide) ?_
              refine lv_istore (lv' := [(4, .int 1), (3, .ref a7), (0, .ref (G.2.2.2 131)), (2, .int z2_2)]) FX.1 FX.2.1 dX0_behindEnds_73 hl (by decide) rfl (fun ls hl => ?_)
              exact hK75 _ _ _ _ _ hf hw (lv_sub hl [2, 3, 0] rfl)
  exact hL2 n _ _ _ _ _ hn hw (lv_sub hl [1, 0] rfl)
abbrev rmX0_goesBy (K : KT) : Room := { frames := 11, cells := K.2.2.1, slots := K.2.2.2, locals := 522 }
set_option maxHeartbeats 4000000 in
theorem wX0_goesBy {l : Launch} {G : GT} {M C : FS} {K : KT} {p1 : Int32} {t : (FS × KT)} (hf : fX0_goesBy C K p1 = some t) : EtV l yX0_goesBy (ws_ yX0_goesBy cX0_goesBy 4 none) (rmX0_goesBy K) G [.ref (G.2.2.2 131), .int p1] (M, C, K.1, K.2.1) (M, t.1, t.2.1, t.2.2.1) (K.2.2.1 - t.2.2.2.1) (K.2.2.2 - t.2.2.2.2) := by
  refine ekV (by decide) (Nat.le_of_ble_eq_true rfl) (fun p e s m a0 below meth c Q FX hw hname hret ls hl => ?_)
  have hl : lv_has ls 4 [(0, .ref (G.2.2.2 131)), (1, .int p1)] := hl
  unfold fX0_goesBy at hf
  have hm : Cn K K 0 0 := Cn.rf
  refine lv_aload_n FX.1 FX.2.1 dX0_goesBy_0 rfl (lv_at hl 0 rfl) ?_
  refine lv_iload_n FX.1 FX.2.1 dX0_goesBy_1 rfl (lv_at hl 1 rfl) ?_
  refine bd hf (fun C1 h_C1 hf => ?_)
  refine sX0_321 FX hw dX0_goesBy_2 (fun H locs hw => ?_)
  rw [Option.some.inj h_C1] at hw
  refine lv_aload_n FX.1 FX.2.1 dX0_goesBy_5 rfl (lv_at hl 0 rfl) ?_
  refine lv_iconst (v := 0) FX.1 FX.2.1 dX0_goesBy_6 (by decide) ?_
  refine bd hf (fun C2 h_C2 hf => ?_)
  refine sX0_453 FX hw dX0_goesBy_7 (fun H locs hw => ?_)
  rw [Option.some.inj h_C2] at hw
  refine lv_iconst (v := 0) FX.1 FX.2.1 dX0_goesBy_10 (by decide) ?_
  refine lv_istore_n (lv' := [(2, .int 0), (0, .ref (G.2.2.2 131)), (1, .int p1)]) FX.1 FX.2.1 dX0_goesBy_11 rfl hl (by decide) rfl (fun ls hl => ?_)
  refine bd hf (fun u12 ht hf => ?_)
  obtain ⟨n, hn⟩ := lp_iff.mp ht
  have hX12 : ∀ (Ct12 : FS) (H : Heap) (locs : List Loc) (ls : Array Slot) (nc ns : Nat) , Ct12 = u12 → Cn K K nc ns → WS G (M, Ct12, K.1, K.2.1) s H locs → lv_has ls 4 [(0, .ref (G.2.2.2 131))] → W p l e (rmX0_goesBy K) s m a0 below meth c H locs nc ns Q (F0 m 30 ls []) := by
    intro Ct12 H locs ls nc ns he hm hw hl
    subst he
    refine lv_iconst (v := 0) FX.1 FX.2.1 dX0_goesBy_30 (by decide) ?_
    refine lv_istore_n (lv' := [(2, .int 0), (0, .ref (G.2.2.2 131))]) FX.1 FX.2.1 dX0_goesBy_31 rfl hl (by decide) rfl (fun ls hl => ?_)
    refine bd hf (fun u32 ht hf => ?_)
    obtain ⟨n, hn⟩ := lp_iff.mp ht
    have hR32 : ∀ v, Sum.inl v = u32 → _ := fun v he => ell hf he
    have hX32 : ∀ (Ct32 : FS) (Kt32 : KT) (H : Heap) (locs : List Loc) (ls : Array Slot) (nc ns : Nat) , Sum.inr (Ct32, Kt32) = u32 → Cn K Kt32 nc ns → WS G (M, Ct32, Kt32.1, Kt32.2.1) s H locs → lv_has ls 4 [] → W p l e (rmX0_goesBy K) s m a0 below meth c H locs nc ns Q (F0 m 140 ls []) := by
      intro Ct32 Kt32 H locs ls nc ns he hm hw hl
      have hf := elr hf he
      have hf : fX0_goesBy_X32 Ct32 Kt32 = some t := hf
      unfold fX0_goesBy_X32 at hf
      have hk : Kt32 = t.2 := congrArg (fun z => z.2) (Option.some.inj hf)
      have hm : Cn K t.2 nc ns := hk ▸ hm
      refine w_cast hm.end_.1 hm.end_.2 ?_
      exact hret _ (congrArg (fun z => (M, z.1, z.2.1, z.2.2.1)) (Option.some.inj hf)) hw dX0_goesBy_140
    have hL32 : ∀ (n : Nat) (z32_2 : Int32) (Cz32 : FS) (Kz32 : KT) (H : Heap) (locs : List Loc) (ls : Array Slot) (nc ns : Nat) , lpN (fun z => fX0_goesBy_L32 z.1 z.2.1 z.2.2) n (z32_2, Cz32, Kz32) = some u32 → Cn K Kz32 nc ns → WS G (M, Cz32, Kz32.1, Kz32.2.1) s H locs → lv_has ls 4 [(0, .ref (G.2.2.2 131)), (2, .int z32_2)] → W p l e (rmX0_goesBy K) s m a0 below meth c H locs nc ns Q (F0 m 32 ls []) := by
      intro n
      induction n with
      | zero => intro z32_2 Cz32 Kz32 H locs ls nc ns hz; cases hz
      | succ n ih =>
        intro z32_2 Cz32 Kz32 H locs ls nc ns hz hm hw hl
        refine bd (show (fX0_goesBy_L32 z32_2 Cz32 Kz32).bind _ = some u32 from hz) (fun x32 hf hk32 => ?_)
        unfold fX0_goesBy_L32 at hf
        refine lv_iload_n FX.1 FX.2.1 dX0_goesBy_32 rfl (lv_at hl 1 rfl) ?_
        refine lv_aload_n FX.1 FX.2.1 dX0_goesBy_33 rfl (lv_at hl 0 rfl) ?_
        refine gX0_203 FX hw dX0_goesBy_34 ?_
        refine lv_icmp_ge (tgt := 140) FX.1 FX.2.1 dX0_goesBy_37 (by decide) (fun c_37 => ?_) (fun c_37 => ?_)
        · have hf := it_pos c_37 hf
          exact hX32 _ _ _ _ _ _ _ (lpe hf hk32) hm hw (lv_sub hl [] rfl)
        · have hf := it_neg c_37 hf
          refine lv_aload_n FX.1 FX.2.1 dX0_goesBy_40 rfl (lv_at hl 0 rfl) ?_
          refine gX0_453 FX hw dX0_goesBy_41 ?_
          refine lv_sipush (v := 300) FX.1 FX.2.1 dX0_goesBy_44 (by decide) ?_
          refine lv_icmp_ne (tgt := 58) FX.1 FX.2.1 dX0_goesBy_47 (by decide) (fun c_47 => ?_) (fun c_47 => ?_)
          · have hf := it_neg c_47 hf
            refine lv_aload_n FX.1 FX.2.1 dX0_goesBy_58 rfl (lv_at hl 0 rfl) ?_
            refine gX0_199 FX hw dX0_goesBy_59 ?_
            refine lv_iload_n FX.1 FX.2.1 dX0_goesBy_62 rfl (lv_at hl 1 rfl) ?_
            refine bd hf (fun a4 h_a4 hf => ?_)
            rw [show va_rf (Cz32.2.2.1 104) = .ref a4 from congrArg va_rf h_a4]
            refine bd hf (fun a5 h_a5 hf => ?_)
            refine ei_aald 6 rfl FX hw h_a5 dX0_goesBy_63 ?_
            refine lv_astore_n (lv' := [(3, .ref a5), (0, .ref (G.2.2.2 131)), (2, .int z32_2)]) FX.1 FX.2.1 dX0_goesBy_64 rfl hl (by decide) rfl (fun ls hl => ?_)
            refine lv_aload_n FX.1 FX.2.1 dX0_goesBy_65 rfl (lv_at hl 1 rfl) ?_
            refine lv_dup FX.1 FX.2.1 dX0_goesBy_66 rfl ?_
            refine gX0_453 FX hw dX0_goesBy_67 ?_
            refine lv_iconst (v := 1) FX.1 FX.2.1 dX0_goesBy_70 (by decide) ?_
            refine lv_iadd FX.1 FX.2.1 dX0_goesBy_71 ?_
            refine bd hf (fun C6 h_C6 hf => ?_)
            refine sX0_453 FX hw dX0_goesBy_72 (fun H locs hw => ?_)
            rw [Option.some.inj h_C6] at hw
            refine lv_aload_n FX.1 FX.2.1 dX0_goesBy_75 rfl (lv_at hl 0 rfl) ?_
            refine bd hf (fun v7 h_v7 hf => ?_)
            refine gX0_433 FX hw h_v7 dX0_goesBy_76 ?_
            refine lv_bipush (v := 20) FX.1 FX.2.1 dX0_goesBy_79 (by decide) ?_
            refine lv_icmp_ne (tgt := 85) FX.1 FX.2.1 dX0_goesBy_81 (by decide) (fun c_81 => ?_) (fun c_81 => ?_)
            · have hf := it_neg c_81 hf
              refine lv_aload_n FX.1 FX.2.1 dX0_goesBy_85 rfl (lv_at hl 1 rfl) ?_
              refine lv_aload_n FX.1 FX.2.1 dX0_goesBy_86 rfl (lv_at hl 0 rfl) ?_
              refine bd hf (fun t8 h_t8 hf => ?_)
              refine bd hf (fun g9 h_g9 hf => ?_)
              refine xlV_i (As := [.ref a5]) (rest := []) FX hw (wX0_does h_t8) (cwV 1 FX.2.2.2.2 (lw_V q1482 q1484 qs42 q134 q1485) rfl rfl rfl (by decide +kernel) ⟨Nat.le_of_ble_eq_true rfl, Nat.le_of_ble_eq_true rfl⟩) (fx_obj hw (o := (131, 0, 100, 31)) (by decide)) rfl rfl hl.1 rfl (lv_room (Nat.le_of_ble_eq_true rfl)) dX0_goesBy_87 hm.roomC (fun H locs hw => ?_)
              have hm := hm.sM h_g9
              have hK103 : ∀ (C_103 : FS) (H : Heap) (locs : List Loc) (ls : Array Slot) (nc ns : Nat) , fX0_goesBy_J103 z32_2 a5 t8 C_103 = some x32 → Cn K t8.2.2 nc ns → WS G (M, C_103, t8.2.2.1, t8.2.2.2.1) s H locs → lv_has ls 4 [(0, .ref (G.2.2.2 131)), (2, .int z32_2), (3, .ref a5)] → W p l e (rmX0_goesBy K) s m a0 below meth c H locs nc ns Q (F0 m 103 ls []) := by
                intro C_103 H locs ls nc ns hf hm hw hl
                unfold fX0_goesBy_J103 at hf
                refine lv_aload_n FX.1 FX.2.1 dX0_goesBy_103 rfl (lv_at hl 0 rfl) ?_
                refine lv_aload_n FX.1 FX.2.1 dX0_goesBy_104 rfl (lv_at hl 2 rfl) ?_
                refine bd hf (fun v10 h_v10 hf => ?_)
                refine gX0_433 FX hw h_v10 dX0_goesBy_105 ?_
                refine lv_bipush (v := 18) FX.1 FX.2.1 dX0_goesBy_108 (by decide) ?_
                refine lv_icmp_ne (tgt := 130) FX.1 FX.2.1 dX0_goesBy_110 (by decide) (fun c_110 => ?_) (fun c_110 => ?_)
                · have hf := it_neg c_110 hf
                  refine lv_iload_n FX.1 FX.2.1 dX0_goesBy_130 rfl (lv_at hl 1 rfl) ?_
                  refine lv_iconst (v := 1) FX.1 FX.2.1 dX0_goesBy_131 (by decide) ?_
                  refine lv_iadd FX.1 FX.2.1 dX0_goesBy_132 ?_
                  refine bd hf (fun t11 h_t11 hf => ?_)
                  refine bd hf (fun g12 h_g12 hf => ?_)
                  refine clV_i0 (As := [.int (z32_2 + 1)]) (rest := []) FX hw (wX0_behindEnds h_t11) (cwV 1 FX.2.2.2.2 (lw_V q1494 q1496 qs45 q134 q1497) rfl rfl rfl (by decide +kernel) ⟨Nat.le_of_ble_eq_true rfl, Nat.le_of_ble_eq_true rfl⟩) (fx_obj hw (o := (131, 0, 100, 31)) (by decide)) rfl rfl hl.1 rfl (lv_room (Nat.le_of_ble_eq_true rfl)) dX0_goesBy_133 ⟨rfl, rfl⟩ hm.le (fun H locs hw => ?_)
                  have hm := hm.sG h_g12
                  refine lv_istore_n (lv' := [(2, .int t11.1), (0, .ref (G.2.2.2 131)), (3, .ref a5)]) FX.1 FX.2.1 dX0_goesBy_136 rfl hl (by decide) rfl (fun ls hl => ?_)
                  refine lv_goto (tgt := 32) FX.1 FX.2.1 dX0_goesBy_137 (by decide) ?_
                  exact ih _ _ _ _ _ _ _ _ (lpc hf hk32) hm hw (lv_sub hl [1, 0] rfl)
                · have hf := it_pos c_110 hf
                  refine lv_aload_n FX.1 FX.2.1 dX0_goesBy_113 rfl (lv_at hl 0 rfl) ?_
                  refine lv_aload_n FX.1 FX.2.1 dX0_goesBy_114 rfl (lv_at hl 2 rfl) ?_
                  refine bd hf (fun t13 h_t13 hf => ?_)
                  refine clV_i0 (As := [.ref a5]) (rest := [.ref (G.2.2.2 131)]) FX hw (wX0_holds h_t13) (cwV 1 FX.2.2.2.2 (lw_V q1490 q1492 qs44 q134 q1493) rfl rfl rfl (by decide +kernel) ⟨Nat.le_of_ble_eq_true rfl, Nat.le_of_ble_eq_true rfl⟩) (fx_obj hw (o := (131, 0, 100, 31)) (by decide)) rfl rfl hl.1 rfl (lv_room (Nat.le_of_ble_eq_true rfl)) dX0_goesBy_115 ⟨rfl, rfl⟩ hm.le (fun H locs hw => ?_)
                  refine lv_if_ne (tgt := 130) FX.1 FX.2.1 dX0_goesBy_118 (by decide) (fun c_118 => ?_) (fun c_118 => ?_)
                  · have hf := it_neg c_118 hf
                    refine lv_iload_n FX.1 FX.2.1 dX0_goesBy_130 rfl (lv_at hl 1 rfl) ?_
                    refine lv_iconst (v := 1) FX.1 FX.2.1 dX0_goesBy_131 (by decide) ?_
                    refine lv_iadd FX.1 FX.2.1 dX0_goesBy_132 ?_
                    refine bd hf (fun t14 h_t14 hf => ?_)
                    refine bd hf (fun g15 h_g15 hf => ?_)
                    refine clV_i0 (As := [.int (z32_2 + 1)]) (rest := []) FX hw (wX0_behindEnds h_t14) (cwV 1 FX.2.2.2.2 (lw_V q1494 q1496 qs45 q134 q1497) rfl rfl rfl (by decide +kernel) ⟨Nat.le_of_ble_eq_true rfl, Nat.le_of_ble_eq_true rfl⟩) (fx_obj hw (o := (131, 0, 100, 31)) (by decide)) rfl rfl hl.1 rfl (lv_room (Nat.le_of_ble_eq_true rfl)) dX0_goesBy_133 ⟨rfl, rfl⟩ hm.le (fun H locs hw => ?_)
                    have hm := hm.sG h_g15
                    refine lv_istore_n (lv' := [(2, .int t14.1), (0, .ref (G.2.2.2 131)), (3, .ref a5)]) FX.1 FX.2.1 dX0_goesBy_136 rfl hl (by decide) rfl (fun ls hl => ?_)
                    refine lv_goto (tgt := 32) FX.1 FX.2.1 dX0_goesBy_137 (by decide) ?_
                    exact ih _ _ _ _ _ _ _ _ (lpc hf hk32) hm hw (lv_sub hl [1, 0] rfl)
                  · have hf := it_pos c_118 hf
                    refine lv_aload_n FX.1 FX.2.1 dX0_goesBy_121 rfl (lv_at hl 2 rfl) ?_
                    refine bd hf (fun v16 h_v16 hf => ?_)
                    refine gX0_450 FX hw h_v16 dX0_goesBy_122 ?_
                    refine lv_iconst (v := 1) FX.1 FX.2.1 dX0_goesBy_125 (by decide) ?_
                    refine lv_iadd FX.1 FX.2.1 dX0_goesBy_126 ?_
                    refine lv_goto (tgt := 133) FX.1 FX.2.1 dX0_goesBy_127 (by decide) ?_
                    refine bd hf (fun t17 h_t17 hf => ?_)
                    refine bd hf (fun g18 h_g18 hf => ?_)
                    refine clV_i0 (As := [.int (v16 + 1)]) (rest := []) FX hw (wX0_behindEnds h_t17) (cwV 1 FX.2.2.2.2 (lw_V q1494 q1496 qs45 q134 q1497) rfl rfl rfl (by decide +kernel) ⟨Nat.le_of_ble_eq_true rfl, Nat.le_of_ble_eq_true rfl⟩) (fx_obj hw (o := (131, 0, 100, 31)) (by decide)) rfl rfl hl.1 rfl (lv_room (Nat.le_of_ble_eq_true rfl)) dX0_goesBy_133 ⟨rfl, rfl⟩ hm.le (fun H locs hw => ?_)
                    have hm := hm.sG h_g18
                    refine lv_istore_n (lv' := [(2, .int t17.1), (0, .ref (G.2.2.2 131)), (3, .ref a5)]) FX.1 FX.2.1 dX0_goesBy_136 rfl hl (by decide) rfl (fun ls hl => ?_)
                    refine lv_goto (tgt := 32) FX.1 FX.2.1 dX0_goesBy_137 (by decide) ?_
                    exact ih _ _ _ _ _ _ _ _ (lpc hf hk32) hm hw (lv_sub hl [1, 0] rfl)
              refine lv_if_ne (tgt := 103) FX.1 FX.2.1 dX0_goesBy_90 (by decide) (fun c_90 => ?_) (fun c_90 => ?_)
              · have hf := it_neg c_90 hf
                exact hK103 _ _ _ _ _ _ hf hm hw (lv_sub hl [1, 2, 0] rfl)
              · have hf := it_pos c_90 hf
                refine lv_aload_n FX.1 FX.2.1 dX0_goesBy_93 rfl (lv_at hl 1 rfl) ?_
                refine gX0_78 FX hw dX0_goesBy_94 ?_
                refine lv_iconst (v := 0) FX.1 FX.2.1 dX0_goesBy_97 (by decide) ?_
                refine lv_dup2_11 FX.1 FX.2.1 dX0_goesBy_98 rfl rfl ?_
                refine bd hf (fun v19 h_v19 hf => ?_)
                refine al126 FX hw h_v19 dX0_goesBy_99 ?_
                refine lv_iconst (v := 1) FX.1 FX.2.1 dX0_goesBy_100 (by decide) ?_
                refine lv_iadd FX.1 FX.2.1 dX0_goesBy_101 ?_
                refine bd hf (fun C20 h_C20 hf => ?_)
                refine as126 FX hw h_C20 dX0_goesBy_102 (fun H locs hw => ?_)
                exact hK103 _ _ _ _ _ _ hf hm hw (lv_sub hl [1, 2, 0] rfl)
            · have hf := it_pos c_81 hf
              have hf := hR32 _ (lpe hf hk32)
              have hk : Kz32 = t.2 := congrArg (fun z => z.2) (Option.some.inj hf)
              have hm : Cn K t.2 nc ns := hk ▸ hm
              refine w_cast hm.end_.1 hm.end_.2 ?_
              exact hret _ (congrArg (fun z => (M, z.1, z.2.1, z.2.2.1)) (Option.some.inj hf)) hw dX0_goesBy_84
          · have hf := it_pos c_47 hf
            refine lv_aload_n FX.1 FX.2.1 dX0_goesBy_50 rfl (lv_at hl 0 rfl) ?_
            refine gX0_78 FX hw dX0_goesBy_51 ?_
            refine lv_iconst (v := 4) FX.1 FX.2.1 dX0_goesBy_54 (by decide) ?_
            refine lv_iconst (v := 1) FX.1 FX.2.1 dX0_goesBy_55 (by decide) ?_
            refine bd hf (fun C21 h_C21 hf => ?_)
            refine as126 FX hw h_C21 dX0_goesBy_56 (fun H locs hw => ?_)
            have hf := hR32 _ (lpe hf hk32)
            have hk : Kz32 = t.2 := congrArg (fun z => z.2) (Option.some.inj hf)
            have hm : Cn K t.2 nc ns := hk ▸ hm
            refine w_cast hm.end_.1 hm.end_.2 ?_
            exact hret _ (congrArg (fun z => (M, z.1, z.2.1, z.2.2.1)) (Option.some.inj hf)) hw dX0_goesBy_57
    exact hL32 n _ _ _ _ _ _ _ _ hn hm hw (lv_sub hl [1, 0] rfl)
  have hL12 : ∀ (n : Nat) (z12_2 : Int32) (Cz12 : FS) (H : Heap) (locs : List Loc) (ls : Array Slot) (nc ns : Nat) , lpN (fun z => fX0_goesBy_L12 z.1 z.2) n (z12_2, Cz12) = some u12 → Cn K K nc ns → WS G (M, Cz12, K.1, K.2.1) s H locs → lv_has ls 4 [(0, .ref (G.2.2.2 131)), (2, .int z12_2)] → W p l e (rmX0_goesBy K) s m a0 below meth c H locs nc ns Q (F0 m 12 ls []) := by
    intro n
    induction n with
    | zero => intro z12_2 Cz12 H locs ls nc ns hz; cases hz
    | succ n ih =>
      intro z12_2 Cz12 H locs ls nc ns hz hm hw hl
      refine bd (show (fX0_goesBy_L12 z12_2 Cz12).bind _ = some u12 from hz) (fun x12 hf hk12 => ?_)
      unfold fX0_goesBy_L12 at hf
      refine lv_iload_n FX.1 FX.2.1 dX0_goesBy_12 rfl (lv_at hl 1 rfl) ?_
      refine lv_iconst (v := 5) FX.1 FX.2.1 dX0_goesBy_13 (by decide) ?_
      refine lv_icmp_ge (tgt := 30) FX.1 FX.2.1 dX0_goesBy_14 (by decide) (fun c_14 => ?_) (fun c_14 => ?_)
      · have hf := it_pos c_14 hf
        exact hX12 _ _ _ _ _ _ (lpe hf hk12) hm hw (lv_sub hl [0] rfl)
      · have hf := it_neg c_14 hf
        refine lv_aload_n FX.1 FX.2.1 dX0_goesBy_17 rfl (lv_at hl 0 rfl) ?_
        refine gX0_78 FX hw dX0_goesBy_18 ?_
        refine lv_iload_n FX.1 FX.2.1 dX0_goesBy_21 rfl (lv_at hl 1 rfl) ?_
        refine lv_iconst (v := 0) FX.1 FX.2.1 dX0_goesBy_22 (by decide) ?_
        refine bd hf (fun C3 h_C3 hf => ?_)
        refine as126 FX hw h_C3 dX0_goesBy_23 (fun H locs hw => ?_)
        refine lv_iinc (v := (z12_2 + 1)) (lv' := [(2, .int (z12_2 + 1)), (0, .ref (G.2.2.2 131))]) FX.1 FX.2.1 dX0_goesBy_24 hl (k := 1) rfl (congrArg (fun q : Int32 => z12_2 + q) (by decide : Int32.ofInt 1 = 1)) (by decide) rfl (fun ls hl => ?_)
        refine lv_goto (tgt := 12) FX.1 FX.2.1 dX0_goesBy_27 (by decide) ?_
        exact ih _ _ _ _ _ _ _ (lpc hf hk12) hm hw (lv_sub hl [1, 0] rfl)
  exact hL12 n _ _ _ _ _ _ _ hn hm hw (lv_sub hl [1, 0] rfl)
abbrev rmX0_live (K : KT) : Room := { frames := 12, cells := K.2.2.1, slots := K.2.2.2, locals := 545 }
set_option maxHeartbeats 4000000 in
theorem wX0_live {l : Launch} {G : GT} {M C : FS} {K : KT} {p1 : Int32} {t : (Int32 × FS × KT)} (hf : fX0_live C K p1 = some t) : EtI l yX0_live (ws_ yX0_live cX0_live 2 (some .int)) (rmX0_live K) G [.ref (G.2.2.2 131), .int p1] (M, C, K.1, K.2.1) t.1 (M, t.2.1, t.2.2.1, t.2.2.2.1) (K.2.2.1 - t.2.2.2.2.1) (K.2.2.2 - t.2.2.2.2.2) := by
  refine ekI (ty := .int) (by decide) (Nat.le_of_ble_eq_true rfl) (fun p e s m a0 below meth c Q FX hw hname hret ls hl => ?_)
  have hl : lv_has ls 2 [(0, .ref (G.2.2.2 131)), (1, .int p1)] := hl
  unfold fX0_live at hf
  have hm : Cn K K 0 0 := Cn.rf
  refine lv_iload_n FX.1 FX.2.1 dX0_live_0 rfl (lv_at hl 1 rfl) ?_
  refine lv_i2l (v := p1.toInt64) FX.1 FX.2.1 dX0_live_1 rfl ?_
  refine lv_lconst (v := 0) FX.1 FX.2.1 dX0_live_2 (by decide) ?_
  refine lv_ldc2 FX.1 FX.2.1 FX.2.2.2.1 (FX.2.2.2.2 _ q1274) dX0_live_3 ?_
  refine bd hf (fun t1 h_t1 hf => ?_)
  refine clS_i0 (As := [.long p1.toInt64, .long 0, .long 9999]) (rest := []) FX hw (wX0_isFrom h_t1) (va_cwS 3 FX.2.2.2.2 (lw_S q1119 q1120 q134 q1121) rfl rfl rfl (by decide +kernel) ⟨Nat.le_of_ble_eq_true rfl, Nat.le_of_ble_eq_true rfl⟩) rfl hl.1 rfl (lv_room (Nat.le_of_ble_eq_true rfl)) dX0_live_6 ⟨rfl, rfl⟩ hm.le (fun H locs hw => ?_)
  refine lv_if_ne (tgt := 18) FX.1 FX.2.1 dX0_live_9 (by decide) (fun c_9 => ?_) (fun c_9 => ?_)
  · have hf := it_neg c_9 hf
    refine lv_aload_n FX.1 FX.2.1 dX0_live_18 rfl (lv_at hl 0 rfl) ?_
    refine gX0_199 FX hw dX0_live_19 ?_
    refine lv_qnonnull (tgt := 32) FX.1 FX.2.1 dX0_live_22 (by decide) (fun c_22 => ?_) (fun c_22 => ?_)
    · have hf := it_neg c_22 hf
      refine lv_aload_n FX.1 FX.2.1 dX0_live_32 rfl (lv_at hl 0 rfl) ?_
      refine lv_iload_n FX.1 FX.2.1 dX0_live_33 rfl (lv_at hl 1 rfl) ?_
      refine bd hf (fun t2 h_t2 hf => ?_)
      refine bd hf (fun g3 h_g3 hf => ?_)
      refine xlV_v (As := [.int p1]) (rest := []) FX hw (wX0_goesBy h_t2) (cwV 1 FX.2.2.2.2 (lw_V q1478 q1480 qs41 q134 q1481) rfl rfl rfl (by decide +kernel) ⟨Nat.le_of_ble_eq_true rfl, Nat.le_of_ble_eq_true rfl⟩) (fx_obj hw (o := (131, 0, 100, 31)) (by decide)) rfl rfl hl.1 rfl (lv_room (Nat.le_of_ble_eq_true rfl)) dX0_live_34 hm.roomC (fun H locs hw => ?_)
      have hm := hm.sM h_g3
      refine lv_aload_n FX.1 FX.2.1 dX0_live_37 rfl (lv_at hl 0 rfl) ?_
      refine gX0_78 FX hw dX0_live_38 ?_
      refine lv_iconst (v := 0) FX.1 FX.2.1 dX0_live_41 (by decide) ?_
      refine lv_aload_n FX.1 FX.2.1 dX0_live_42 rfl (lv_at hl 0 rfl) ?_
      refine gX0_81 FX hw dX0_live_43 ?_
      refine lv_iconst (v := 0) FX.1 FX.2.1 dX0_live_46 (by decide) ?_
      refine lv_iconst (v := 5) FX.1 FX.2.1 dX0_live_47 (by decide) ?_
      refine bd hf (fun C4 h_C4 hf => ?_)
      refine fx_cpF FX hl.1 hw q634 (by decide) (by decide) (by decide) (by decide) h_C4 (Nat.le_of_ble_eq_true rfl) (Nat.le_of_ble_eq_true rfl) dX0_live_48 (fun H locs hw => ?_)
      refine lv_aload_n FX.1 FX.2.1 dX0_live_51 rfl (lv_at hl 0 rfl) ?_
      refine lv_iconst (v := 1) FX.1 FX.2.1 dX0_live_52 (by decide) ?_
      refine bd hf (fun C5 h_C5 hf => ?_)
      refine sX0_469 FX hw dX0_live_53 (Or.inr rfl) (fun H locs hw => ?_)
      rw [Option.some.inj h_C5] at hw
      refine lv_aload_n FX.1 FX.2.1 dX0_live_56 rfl (lv_at hl 0 rfl) ?_
      refine lv_aload_n FX.1 FX.2.1 dX0_live_57 rfl (lv_at hl 0 rfl) ?_
      refine gX0_453 FX hw dX0_live_58 ?_
      refine bd hf (fun t6 h_t6 hf => ?_)
      refine clV_i0 (As := [.int (C5.1 125)]) (rest := []) FX hw (wX0_gives h_t6) (cwV 1 FX.2.2.2.2 (lw_V q962 q964 qs16 q134 q965) rfl rfl rfl (by decide +kernel) ⟨Nat.le_of_ble_eq_true rfl, Nat.le_of_ble_eq_true rfl⟩) (fx_obj hw (o := (131, 0, 100, 31)) (by decide)) rfl rfl hl.1 rfl (lv_room (Nat.le_of_ble_eq_true rfl)) dX0_live_61 ⟨rfl, rfl⟩ hm.le (fun H locs hw => ?_)
      have hk : t2.2 = t.2.2 := congrArg (fun z => z.2.2) (Option.some.inj hf)
      have hm : Cn K t.2.2 (0 + (K.2.2.1 - t2.2.2.2.1)) (0 + (K.2.2.2 - t2.2.2.2.2)) := hk ▸ hm
      refine w_cast hm.end_.1 hm.end_.2 ?_
      exact hret _ _ rfl (congrArg (fun z => z.1) (Option.some.inj hf)) (congrArg (fun z => (M, z.2.1, z.2.2.1, z.2.2.2.1)) (Option.some.inj hf)) hw dX0_live_64
    · have hf := it_pos c_22 hf
      refine lv_aload_n FX.1 FX.2.1 dX0_live_25 rfl (lv_at hl 0 rfl) ?_
      refine lv_bipush (v := 8) FX.1 FX.2.1 dX0_live_26 (by decide) ?_
      refine bd hf (fun t7 h_t7 hf => ?_)
      refine clV_i0 (As := [.int 8]) (rest := []) FX hw (wX0_none h_t7) (cwV 1 FX.2.2.2.2 (lw_V q620 q622 qs3 q134 q623) rfl rfl rfl (by decide +kernel) ⟨Nat.le_of_ble_eq_true rfl, Nat.le_of_ble_eq_true rfl⟩) (fx_obj hw (o := (131, 0, 100, 31)) (by decide)) rfl rfl hl.1 rfl (lv_room (Nat.le_of_ble_eq_true rfl)) dX0_live_28 ⟨rfl, rfl⟩ hm.le (fun H locs hw => ?_)
      have hk : K = t.2.2 := congrArg (fun z => z.2.2) (Option.some.inj hf)
      have hm : Cn K t.2.2 0 0 := hk ▸ hm
      refine w_cast hm.end_.1 hm.end_.2 ?_
      exact hret _ _ rfl (congrArg (fun z => z.1) (Option.some.inj hf)) (congrArg (fun z => (M, z.2.1, z.2.2.1, z.2.2.2.1)) (Option.some.inj hf)) hw dX0_live_31
  · have hf := it_pos c_9 hf
    refine lv_aload_n FX.1 FX.2.1 dX0_live_12 rfl (lv_at hl 0 rfl) ?_
    refine lv_iconst (v := 5) FX.1 FX.2.1 dX0_live_13 (by decide) ?_
    refine bd hf (fun t8 h_t8 hf => ?_)
    refine clV_i0 (As := [.int 5]) (rest := []) FX hw (wX0_none h_t8) (cwV 1 FX.2.2.2.2 (lw_V q620 q622 qs3 q134 q623) rfl rfl rfl (by decide +kernel) ⟨Nat.le_of_ble_eq_true rfl, Nat.le_of_ble_eq_true rfl⟩) (fx_obj hw (o := (131, 0, 100, 31)) (by decide)) rfl rfl hl.1 rfl (lv_room (Nat.le_of_ble_eq_true rfl)) dX0_live_14 ⟨rfl, rfl⟩ hm.le (fun H locs hw => ?_)
    have hk : K = t.2.2 := congrArg (fun z => z.2.2) (Option.some.inj hf)
    have hm : Cn K t.2.2 0 0 := hk ▸ hm
    refine w_cast hm.end_.1 hm.end_.2 ?_
    exact hret _ _ rfl (congrArg (fun z => z.1) (Option.some.inj hf)) (congrArg (fun z => (M, z.2.1, z.2.2.1, z.2.2.2.1)) (Option.some.inj hf)) hw dX0_live_17
abbrev rmX0_lived : Room := { frames := 1, cells := 0, slots := 0, locals := 21 }
set_option maxHeartbeats 4000000 in
theorem wX0_lived {l : Launch} {G : GT} {M C : FS} {K : KT} {p1 : Int32} {t : (Int32 × FS)} (hf : fX0_lived C p1 = some t) : CtI l yX0_lived (ws_ yX0_lived cX0_lived 2 (some .int)) rmX0_lived G [.ref (G.2.2.2 131), .int p1] (M, C, K.1, K.2.1) t.1 (M, t.2, K.1, K.2.1) := by
  refine mkI (ty := .int) (by decide) (Nat.le_of_ble_eq_true rfl) (fun p e s m a0 below meth c Q FX hw hname hret ls hl => ?_)
  have hl : lv_has ls 2 [(0, .ref (G.2.2.2 131)), (1, .int p1)] := hl
  unfold fX0_lived at hf
  refine lv_iload_n FX.1 FX.2.1 dX0_lived_0 rfl (lv_at hl 1 rfl) ?_
  refine lv_if_lt (tgt := 9) FX.1 FX.2.1 dX0_lived_1 (by decide) (fun c_1 => ?_) (fun c_1 => ?_)
  · have hf := it_pos c_1 hf
    refine lv_aload_n FX.1 FX.2.1 dX0_lived_9 rfl (lv_at hl 0 rfl) ?_
    refine lv_iconst (v := 5) FX.1 FX.2.1 dX0_lived_10 (by decide) ?_
    refine bd hf (fun t1 h_t1 hf => ?_)
    refine clV_i0 (As := [.int 5]) (rest := []) FX hw (wX0_none h_t1) (cwV 1 FX.2.2.2.2 (lw_V q620 q622 qs3 q134 q623) rfl rfl rfl (by decide +kernel) ⟨Nat.le_of_ble_eq_true rfl, Nat.le_of_ble_eq_true rfl⟩) (fx_obj hw (o := (131, 0, 100, 31)) (by decide)) rfl rfl hl.1 rfl (lv_room (Nat.le_of_ble_eq_true rfl)) dX0_lived_11 ⟨rfl, rfl⟩ ⟨Nat.zero_le _, Nat.zero_le _⟩ (fun H locs hw => ?_)
    exact hret _ _ rfl (congrArg (fun z => z.1) (Option.some.inj hf)) (congrArg (fun z => (M, z.2, K.1, K.2.1)) (Option.some.inj hf)) hw dX0_lived_14
  · have hf := it_neg c_1 hf
    refine lv_iload_n FX.1 FX.2.1 dX0_lived_4 rfl (lv_at hl 1 rfl) ?_
    refine lv_iconst (v := 4) FX.1 FX.2.1 dX0_lived_5 (by decide) ?_
    refine lv_icmp_le (tgt := 15) FX.1 FX.2.1 dX0_lived_6 (by decide) (fun c_6 => ?_) (fun c_6 => ?_)
    · have hf := it_pos c_6 hf
      refine lv_aload_n FX.1 FX.2.1 dX0_lived_15 rfl (lv_at hl 0 rfl) ?_
      refine gX0_469 FX hw dX0_lived_16 ?_
      refine lv_if_eq (tgt := 35) FX.1 FX.2.1 dX0_lived_19 (by decide) (fun c_19 => ?_) (fun c_19 => ?_)
      · have hf := it_pos c_19 hf
        refine lv_aload_n FX.1 FX.2.1 dX0_lived_35 rfl (lv_at hl 0 rfl) ?_
        refine lv_bipush (v := 8) FX.1 FX.2.1 dX0_lived_36 (by decide) ?_
        refine bd hf (fun t2 h_t2 hf => ?_)
        refine clV_i0 (As := [.int 8]) (rest := []) FX hw (wX0_none h_t2) (cwV 1 FX.2.2.2.2 (lw_V q620 q622 qs3 q134 q623) rfl rfl rfl (by decide +kernel) ⟨Nat.le_of_ble_eq_true rfl, Nat.le_of_ble_eq_true rfl⟩) (fx_obj hw (o := (131, 0, 100, 31)) (by decide)) rfl rfl hl.1 rfl (lv_room (Nat.le_of_ble_eq_true rfl)) dX0_lived_38 ⟨rfl, rfl⟩ ⟨Nat.zero_le _, Nat.zero_le _⟩ (fun H locs hw => ?_)
        exact hret _ _ rfl (congrArg (fun z => z.1) (Option.some.inj hf)) (congrArg (fun z => (M, z.2, K.1, K.2.1)) (Option.some.inj hf)) hw dX0_lived_41
      · have hf := it_neg c_19 hf
        refine lv_aload_n FX.1 FX.2.1 dX0_lived_22 rfl (lv_at hl 0 rfl) ?_
        refine lv_aload_n FX.1 FX.2.1 dX0_lived_23 rfl (lv_at hl 0 rfl) ?_
        refine gX0_81 FX hw dX0_lived_24 ?_
        refine lv_iload_n FX.1 FX.2.1 dX0_lived_27 rfl (lv_at hl 1 rfl) ?_
        refine bd hf (fun v3 h_v3 hf => ?_)
        refine al127 FX hw h_v3 dX0_lived_28 ?_
        refine bd hf (fun t4 h_t4 hf => ?_)
        refine clV_i0 (As := [.int v3]) (rest := []) FX hw (wX0_gives h_t4) (cwV 1 FX.2.2.2.2 (lw_V q962 q964 qs16 q134 q965) rfl rfl rfl (by decide +kernel) ⟨Nat.le_of_ble_eq_true rfl, Nat.le_of_ble_eq_true rfl⟩) (fx_obj hw (o := (131, 0, 100, 31)) (by decide)) rfl rfl hl.1 rfl (lv_room (Nat.le_of_ble_eq_true rfl)) dX0_lived_29 ⟨rfl, rfl⟩ ⟨Nat.zero_le _, Nat.zero_le _⟩ (fun H locs hw => ?_)
        refine lv_goto (tgt := 41) FX.1 FX.2.1 dX0_lived_32 (by decide) ?_
        exact hret _ _ rfl (congrArg (fun z => z.1) (Option.some.inj hf)) (congrArg (fun z => (M, z.2, K.1, K.2.1)) (Option.some.inj hf)) hw dX0_lived_41
    · have hf := it_neg c_6 hf
      refine lv_aload_n FX.1 FX.2.1 dX0_lived_9 rfl (lv_at hl 0 rfl) ?_
      refine lv_iconst (v := 5) FX.1 FX.2.1 dX0_lived_10 (by decide) ?_
      refine bd hf (fun t5 h_t5 hf => ?_)
      refine clV_i0 (As := [.int 5]) (rest := []) FX hw (wX0_none h_t5) (cwV 1 FX.2.2.2.2 (lw_V q620 q622 qs3 q134 q623) rfl rfl rfl (by decide +kernel) ⟨Nat.le_of_ble_eq_true rfl, Nat.le_of_ble_eq_true rfl⟩) (fx_obj hw (o := (131, 0, 100, 31)) (by decide)) rfl rfl hl.1 rfl (lv_room (Nat.le_of_ble_eq_true rfl)) dX0_lived_11 ⟨rfl, rfl⟩ ⟨Nat.zero_le _, Nat.zero_le _⟩ (fun H locs hw => ?_)
      exact hret _ _ rfl (congrArg (fun z => z.1) (Option.some.inj hf)) (congrArg (fun z => (M, z.2, K.1, K.2.1)) (Option.some.inj hf)) hw dX0_lived_14
abbrev rmX0_wrongSeeds : Room := { frames := 1, cells := 0, slots := 0, locals := 25 }
set_option maxHeartbeats 4000000 in
theorem wX0_wrongSeeds {l : Launch} {G : GT} {M C : FS} {K : KT} {p1 : Int32} {p2 : Int32} {t : Int32} (hf : fX0_wrongSeeds C p1 p2 = some t) : CtI l yX0_wrongSeeds (ws_ yX0_wrongSeeds cX0_wrongSeeds 3 (some .int)) rmX0_wrongSeeds G [.ref (G.2.2.2 131), .int p1, .int p2] (M, C, K.1, K.2.1) t (M, C, K.1, K.2.1) := by
  refine mkI (ty := .int) (by decide) (Nat.le_of_ble_eq_true rfl) (fun p e s m a0 below meth c Q FX hw hname hret ls hl => ?_)
  have hl : lv_has ls 3 [(0, .ref (G.2.2.2 131)), (1, .int p1), (2, .int p2)] := hl
  unfold fX0_wrongSeeds at hf
  refine lv_iload_n FX.1 FX.2.1 dX0_wrongSeeds_0 rfl (lv_at hl 1 rfl) ?_
  refine lv_i2l (v := p1.toInt64) FX.1 FX.2.1 dX0_wrongSeeds_1 rfl ?_
  refine lv_lconst (v := 0) FX.1 FX.2.1 dX0_wrongSeeds_2 (by decide) ?_
  refine lv_ldc2 FX.1 FX.2.1 FX.2.2.2.1 (FX.2.2.2.2 _ q1274) dX0_wrongSeeds_3 ?_
  refine bd hf (fun t1 h_t1 hf => ?_)
  refine clS_i0 (As := [.long p1.toInt64, .long 0, .long 9999]) (rest := []) FX hw (wX0_isFrom h_t1) (va_cwS 3 FX.2.2.2.2 (lw_S q1119 q1120 q134 q1121) rfl rfl rfl (by decide +kernel) ⟨Nat.le_of_ble_eq_true rfl, Nat.le_of_ble_eq_true rfl⟩) rfl hl.1 rfl (lv_room (Nat.le_of_ble_eq_true rfl)) dX0_wrongSeeds_6 ⟨rfl, rfl⟩ ⟨Nat.zero_le _, Nat.zero_le _⟩ (fun H locs hw => ?_)
  refine lv_if_eq (tgt := 35) FX.1 FX.2.1 dX0_wrongSeeds_9 (by decide) (fun c_9 => ?_) (fun c_9 => ?_)
  · have hf := it_pos c_9 hf
    refine lv_iconst (v := 5) FX.1 FX.2.1 dX0_wrongSeeds_35 (by decide) ?_
    exact hret _ _ rfl (congrArg (fun z => z) (Option.some.inj hf)) rfl hw dX0_wrongSeeds_36
  · have hf := it_neg c_9 hf
    refine lv_iload_n FX.1 FX.2.1 dX0_wrongSeeds_12 rfl (lv_at hl 2 rfl) ?_
    refine lv_i2l (v := p2.toInt64) FX.1 FX.2.1 dX0_wrongSeeds_13 rfl ?_
    refine lv_lconst (v := 1) FX.1 FX.2.1 dX0_wrongSeeds_14 (by decide) ?_
    refine lv_ldc2 FX.1 FX.2.1 FX.2.2.2.1 (FX.2.2.2.2 _ q1510) dX0_wrongSeeds_15 ?_
    refine bd hf (fun t2 h_t2 hf => ?_)
    refine clS_i0 (As := [.long p2.toInt64, .long 1, .long 20]) (rest := []) FX hw (wX0_isFrom h_t2) (va_cwS 3 FX.2.2.2.2 (lw_S q1119 q1120 q134 q1121) rfl rfl rfl (by decide +kernel) ⟨Nat.le_of_ble_eq_true rfl, Nat.le_of_ble_eq_true rfl⟩) rfl hl.1 rfl (lv_room (Nat.le_of_ble_eq_true rfl)) dX0_wrongSeeds_18 ⟨rfl, rfl⟩ ⟨Nat.zero_le _, Nat.zero_le _⟩ (fun H locs hw => ?_)
    refine lv_if_eq (tgt := 35) FX.1 FX.2.1 dX0_wrongSeeds_21 (by decide) (fun c_21 => ?_) (fun c_21 => ?_)
    · have hf := it_pos c_21 hf
      refine lv_iconst (v := 5) FX.1 FX.2.1 dX0_wrongSeeds_35 (by decide) ?_
      exact hret _ _ rfl (congrArg (fun z => z) (Option.some.inj hf)) rfl hw dX0_wrongSeeds_36
    · have hf := it_neg c_21 hf
      refine lv_iload_n FX.1 FX.2.1 dX0_wrongSeeds_24 rfl (lv_at hl 1 rfl) ?_
      refine lv_iload_n FX.1 FX.2.1 dX0_wrongSeeds_25 rfl (lv_at hl 2 rfl) ?_
      refine lv_iadd FX.1 FX.2.1 dX0_wrongSeeds_26 ?_
      refine lv_iconst (v := 1) FX.1 FX.2.1 dX0_wrongSeeds_27 (by decide) ?_
      refine lv_isub FX.1 FX.2.1 dX0_wrongSeeds_28 ?_
      refine lv_sipush (v := 9999) FX.1 FX.2.1 dX0_wrongSeeds_29 (by decide) ?_
      refine lv_icmp_le (tgt := 37) FX.1 FX.2.1 dX0_wrongSeeds_32 (by decide) (fun c_32 => ?_) (fun c_32 => ?_)
      · have hf := it_pos c_32 hf
        refine lv_aload_n FX.1 FX.2.1 dX0_wrongSeeds_37 rfl (lv_at hl 0 rfl) ?_
        refine gX0_199 FX hw dX0_wrongSeeds_38 ?_
        refine lv_qnonnull (tgt := 49) FX.1 FX.2.1 dX0_wrongSeeds_41 (by decide) (fun c_41 => ?_) (fun c_41 => ?_)
        · have hf := it_neg c_41 hf
          refine lv_iconst (v := 0) FX.1 FX.2.1 dX0_wrongSeeds_49 (by decide) ?_
          exact hret _ _ rfl (congrArg (fun z => z) (Option.some.inj hf)) rfl hw dX0_wrongSeeds_50
        · have hf := it_pos c_41 hf
          refine lv_bipush (v := 8) FX.1 FX.2.1 dX0_wrongSeeds_44 (by decide) ?_
          refine lv_goto (tgt := 50) FX.1 FX.2.1 dX0_wrongSeeds_46 (by decide) ?_
          exact hret _ _ rfl (congrArg (fun z => z) (Option.some.inj hf)) rfl hw dX0_wrongSeeds_50
      · have hf := it_neg c_32 hf
        refine lv_iconst (v := 5) FX.1 FX.2.1 dX0_wrongSeeds_35 (by decide) ?_
        exact hret _ _ rfl (congrArg (fun z => z) (Option.some.inj hf)) rfl hw dX0_wrongSeeds_36
abbrev rmX0_sumsOf (K : KT) : Room := { frames := 12, cells := K.2.2.1, slots := K.2.2.2, locals := 545 }
set_option maxHeartbeats 4000000 in
theorem wX0_sumsOf {l : Launch} {G : GT} {M C : FS} {K : KT} {p1 : Int32} {p2 : Int32} {p3 : Int32} {t : (Int64 × FS × KT)} (hf : fX0_sumsOf C K p1 p2 p3 = some t) : EtL l yX0_sumsOf (ws_ yX0_sumsOf cX0_sumsOf 8 (some .long)) (rmX0_sumsOf K) G [.ref (G.2.2.2 131), .int p1, .int p2, .int p3] (M, C, K.1, K.2.1) t.1 (M, t.2.1, t.2.2.1, t.2.2.2.1) (K.2.2.1 - t.2.2.2.2.1) (K.2.2.2 - t.2.2.2.2.2) := by
  refine ekL (by decide) (Nat.le_of_ble_eq_true rfl) (fun p e s m a0 below meth c Q FX hw hname hret ls hl => ?_)
  have hl : lv_has ls 8 [(0, .ref (G.2.2.2 131)), (1, .int p1), (2, .int p2), (3, .int p3)] := hl
  unfold fX0_sumsOf at hf
  have hm : Cn K K 0 0 := Cn.rf
  refine lv_aload_n FX.1 FX.2.1 dX0_sumsOf_0 rfl (lv_at hl 0 rfl) ?_
  refine gX0_38 FX hw dX0_sumsOf_1 ?_
  refine bd hf (fun a1 h_a1 hf => ?_)
  rw [show va_rf (C.2.2.1 103) = .ref a1 from congrArg va_rf h_a1]
  refine lv_astore (lv' := [(4, .ref a1), (0, .ref (G.2.2.2 131)), (1, .int p1), (2, .int p2), (3, .int p3)]) FX.1 FX.2.1 dX0_sumsOf_4 hl (by decide) rfl (fun ls hl => ?_)
  refine lv_lconst (v := 0) FX.1 FX.2.1 dX0_sumsOf_6 (by decide) ?_
  refine lv_lstore (lv' := [(5, .long 0), (4, .ref a1), (0, .ref (G.2.2.2 131)), (1, .int p1), (2, .int p2), (3, .int p3)]) FX.1 FX.2.1 dX0_sumsOf_7 hl (by decide) rfl (fun ls hl => ?_)
  refine lv_iconst (v := 0) FX.1 FX.2.1 dX0_sumsOf_9 (by decide) ?_
  refine lv_istore (lv' := [(7, .int 0), (5, .long 0), (4, .ref a1), (0, .ref (G.2.2.2 131)), (1, .int p1), (2, .int p2), (3, .int p3)]) FX.1 FX.2.1 dX0_sumsOf_10 hl (by decide) rfl (fun ls hl => ?_)
  refine bd hf (fun u12 ht hf => ?_)
  obtain ⟨n, hn⟩ := lp_iff.mp ht
  have hX12 : ∀ (t12_5 : Int64) (Ct12 : FS) (Kt12 : KT) (H : Heap) (locs : List Loc) (ls : Array Slot) (nc ns : Nat) , (t12_5, Ct12, Kt12) = u12 → Cn K Kt12 nc ns → WS G (M, Ct12, Kt12.1, Kt12.2.1) s H locs → lv_has ls 8 [(0, .ref (G.2.2.2 131)), (4, .ref a1), (5, .long t12_5)] → W p l e (rmX0_sumsOf K) s m a0 below meth c H locs nc ns Q (F0 m 84 ls []) := by
    intro t12_5 Ct12 Kt12 H locs ls nc ns he hm hw hl
    subst he
    have hf : fX0_sumsOf_X12 a1 t12_5 Ct12 Kt12 = some t := hf
    unfold fX0_sumsOf_X12 at hf
    refine lv_aload_n FX.1 FX.2.1 dX0_sumsOf_84 rfl (lv_at hl 0 rfl) ?_
    refine lv_aload FX.1 FX.2.1 dX0_sumsOf_85 (lv_at hl 1 rfl) ?_
    refine bd hf (fun C14 h_C14 hf => ?_)
    refine sX0_38 (v := (some a1)) FX hw dX0_sumsOf_87 (fun H locs hw => ?_)
    rw [Option.some.inj h_C14] at hw
    refine lv_lload FX.1 FX.2.1 dX0_sumsOf_90 (lv_at hl 2 rfl) ?_
    have hk : Kt12 = t.2.2 := congrArg (fun z => z.2.2) (Option.some.inj hf)
    have hm : Cn K t.2.2 nc ns := hk ▸ hm
    refine w_cast hm.end_.1 hm.end_.2 ?_
    exact hret _ _ (congrArg (fun z => z.1) (Option.some.inj hf)) (congrArg (fun z => (M, z.2.1, z.2.2.1, z.2.2.2.1)) (Option.some.inj hf)) hw dX0_sumsOf_92
  have hL12 : ∀ (n : Nat) (z12_5 : Int64) (z12_7 : Int32) (Cz12 : FS) (Kz12 : KT) (H : Heap) (locs : List Loc) (ls : Array Slot) (nc ns : Nat) , lpN (fun z => fX0_sumsOf_L12 p1 p2 p3 a1 z.1 z.2.1 z.2.2.1 z.2.2.2) n (z12_5, z12_7, Cz12, Kz12) = some u12 → Cn K Kz12 nc ns → WS G (M, Cz12, Kz12.1, Kz12.2.1) s H locs → lv_has ls 8 [(0, .ref (G.2.2.2 131)), (1, .int p1), (2, .int p2), (3, .int p3), (4, .ref a1), (5, .long z12_5), (7, .int z12_7)] → W p l e (rmX0_sumsOf K) s m a0 below meth c H locs nc ns Q (F0 m 12 ls []) := by
    intro n
    induction n with
    | zero => intro z12_5 z12_7 Cz12 Kz12 H locs ls nc ns hz; cases hz
    | succ n ih =>
      intro z12_5 z12_7 Cz12 Kz12 H locs ls nc ns hz hm hw hl
      refine bd (show (fX0_sumsOf_L12 p1 p2 p3 a1 z12_5 z12_7 Cz12 Kz12).bind _ = some u12 from hz) (fun x12 hf hk12 => ?_)
      unfold fX0_sumsOf_L12 at hf
      refine lv_iload FX.1 FX.2.1 dX0_sumsOf_12 (lv_at hl 6 rfl) ?_
      refine lv_iload_n FX.1 FX.2.1 dX0_sumsOf_14 rfl (lv_at hl 3 rfl) ?_
      refine lv_icmp_ge (tgt := 84) FX.1 FX.2.1 dX0_sumsOf_15 (by decide) (fun c_15 => ?_) (fun c_15 => ?_)
      · have hf := it_pos c_15 hf
        exact hX12 _ _ _ _ _ _ _ _ (lpe hf hk12) hm hw (lv_sub hl [0, 4, 5] rfl)
      · have hf := it_neg c_15 hf
        refine lv_aload_n FX.1 FX.2.1 dX0_sumsOf_18 rfl (lv_at hl 0 rfl) ?_
        refine lv_aload FX.1 FX.2.1 dX0_sumsOf_19 (lv_at hl 4 rfl) ?_
        refine bd hf (fun g2 h_g2 hf => ?_)
        refine bd hf (fun t3 h_t3 hf => ?_)
        refine bd hf (fun g4 h_g4 hf => ?_)
        obtain ⟨fs_g2, he_g2⟩ := dC_some (gC_some h_g2)
        refine xlV_q (As := []) (rest := [.ref (G.2.2.2 131)]) FX hw (wX4_twin h_t3) (cwV 0 FX.2.2.2.2 (lw_V q1339 q1340 q1341 q141 q1342) rfl rfl rfl (by decide +kernel) ⟨Nat.le_of_ble_eq_true rfl, Nat.le_of_ble_eq_true rfl⟩) (dyn_he hw he_g2) rfl rfl hl.1 rfl (lv_room (Nat.le_of_ble_eq_true rfl)) dX0_sumsOf_21 hm.roomC (fun H locs hw => ?_)
        have hm := hm.sM h_g4
        refine bd hf (fun C5 h_C5 hf => ?_)
        refine sX0_38 (v := (some t3.1)) FX hw dX0_sumsOf_24 (fun H locs hw => ?_)
        rw [Option.some.inj h_C5] at hw
        refine lv_aload_n FX.1 FX.2.1 dX0_sumsOf_27 rfl (lv_at hl 0 rfl) ?_
        refine lv_iload_n FX.1 FX.2.1 dX0_sumsOf_28 rfl (lv_at hl 2 rfl) ?_
        refine lv_iload FX.1 FX.2.1 dX0_sumsOf_29 (lv_at hl 6 rfl) ?_
        refine lv_iadd FX.1 FX.2.1 dX0_sumsOf_31 ?_
        refine bd hf (fun t6 h_t6 hf => ?_)
        refine bd hf (fun g7 h_g7 hf => ?_)
        refine xlV_v (As := [.int (p2 + z12_7)]) (rest := []) FX hw (wX0_goesBy h_t6) (cwV 1 FX.2.2.2.2 (lw_V q1478 q1480 qs41 q134 q1481) rfl rfl rfl (by decide +kernel) ⟨Nat.le_of_ble_eq_true rfl, Nat.le_of_ble_eq_true rfl⟩) (fx_obj hw (o := (131, 0, 100, 31)) (by decide)) rfl rfl hl.1 rfl (lv_room (Nat.le_of_ble_eq_true rfl)) dX0_sumsOf_32 hm.roomC (fun H locs hw => ?_)
        have hm := hm.sM h_g7
        refine lv_lload FX.1 FX.2.1 dX0_sumsOf_35 (lv_at hl 5 rfl) ?_
        refine lv_iload_n FX.1 FX.2.1 dX0_sumsOf_37 rfl (lv_at hl 1 rfl) ?_
        refine lv_iconst (v := (-1)) FX.1 FX.2.1 dX0_sumsOf_38 (by decide) ?_
        refine lv_icmp_ne (tgt := 59) FX.1 FX.2.1 dX0_sumsOf_39 (by decide) (fun c_39 => ?_) (fun c_39 => ?_)
        · have hf := it_neg c_39 hf
          refine lv_aload_n FX.1 FX.2.1 dX0_sumsOf_59 rfl (lv_at hl 0 rfl) ?_
          refine gX0_38 FX hw dX0_sumsOf_60 ?_
          refine bd hf (fun a8 h_a8 hf => ?_)
          rw [show va_rf (t6.1.2.2.1 103) = .ref a8 from congrArg va_rf h_a8]
          refine lv_iload_n FX.1 FX.2.1 dX0_sumsOf_63 rfl (lv_at hl 1 rfl) ?_
          refine bd hf (fun g9 h_g9 hf => ?_)
          refine bd hf (fun t10 h_t10 hf => ?_)
          obtain ⟨fs_g9, he_g9⟩ := dC_some (gC_some h_g9)
          refine clV_i0 (As := [.int p1]) (rest := [.long z12_5]) FX hw (wX4_isFree h_t10) (cwV 1 FX.2.2.2.2 (lw_V q1323 q1324 q1325 q141 q1326) rfl rfl rfl (by decide +kernel) ⟨Nat.le_of_ble_eq_true rfl, Nat.le_of_ble_eq_true rfl⟩) (dyn_he hw he_g9) rfl rfl hl.1 rfl (lv_room (Nat.le_of_ble_eq_true rfl)) dX0_sumsOf_64 ⟨rfl, rfl⟩ hm.le (fun H locs hw => ?_)
          refine lv_if_eq (tgt := 74) FX.1 FX.2.1 dX0_sumsOf_67 (by decide) (fun c_67 => ?_) (fun c_67 => ?_)
          · have hf := it_pos c_67 hf
            refine lv_lconst (v := 0) FX.1 FX.2.1 dX0_sumsOf_74 (by decide) ?_
            refine lv_ladd FX.1 FX.2.1 dX0_sumsOf_75 ?_
            refine lv_lstore (lv' := [(5, .long (z12_5 + 0)), (0, .ref (G.2.2.2 131)), (1, .int p1), (2, .int p2), (3, .int p3), (4, .ref a1), (7, .int z12_7)]) FX.1 FX.2.1 dX0_sumsOf_76 hl (by decide) rfl (fun ls hl => ?_)
            refine lv_iinc (v := (z12_7 + 1)) (lv' := [(7, .int (z12_7 + 1)), (5, .long (z12_5 + 0)), (0, .ref (G.2.2.2 131)), (1, .int p1), (2, .int p2), (3, .int p3), (4, .ref a1)]) FX.1 FX.2.1 dX0_sumsOf_78 hl (k := 6) rfl (congrArg (fun q : Int32 => z12_7 + q) (by decide : Int32.ofInt 1 = 1)) (by decide) rfl (fun ls hl => ?_)
            refine lv_goto (tgt := 12) FX.1 FX.2.1 dX0_sumsOf_81 (by decide) ?_
            exact ih _ _ _ _ _ _ _ _ _ (lpc hf hk12) hm hw (lv_sub hl [2, 3, 4, 5, 6, 1, 0] rfl)
          · have hf := it_neg c_67 hf
            refine lv_lconst (v := 1) FX.1 FX.2.1 dX0_sumsOf_70 (by decide) ?_
            refine lv_goto (tgt := 75) FX.1 FX.2.1 dX0_sumsOf_71 (by decide) ?_
            refine lv_ladd FX.1 FX.2.1 dX0_sumsOf_75 ?_
            refine lv_lstore (lv' := [(5, .long (z12_5 + 1)), (0, .ref (G.2.2.2 131)), (1, .int p1), (2, .int p2), (3, .int p3), (4, .ref a1), (7, .int z12_7)]) FX.1 FX.2.1 dX0_sumsOf_76 hl (by decide) rfl (fun ls hl => ?_)
            refine lv_iinc (v := (z12_7 + 1)) (lv' := [(7, .int (z12_7 + 1)), (5, .long (z12_5 + 1)), (0, .ref (G.2.2.2 131)), (1, .int p1), (2, .int p2), (3, .int p3), (4, .ref a1)]) FX.1 FX.2.1 dX0_sumsOf_78 hl (k := 6) rfl (congrArg (fun q : Int32 => z12_7 + q) (by decide : Int32.ofInt 1 = 1)) (by decide) rfl (fun ls hl => ?_)
            refine lv_goto (tgt := 12) FX.1 FX.2.1 dX0_sumsOf_81 (by decide) ?_
            exact ih _ _ _ _ _ _ _ _ _ (lpc hf hk12) hm hw (lv_sub hl [2, 3, 4, 5, 6, 1, 0] rfl)
        · have hf := it_pos c_39 hf
          refine lv_aload_n FX.1 FX.2.1 dX0_sumsOf_42 rfl (lv_at hl 0 rfl) ?_
          refine gX0_38 FX hw dX0_sumsOf_43 ?_
          refine bd hf (fun a11 h_a11 hf => ?_)
          rw [show va_rf (t6.1.2.2.1 103) = .ref a11 from congrArg va_rf h_a11]
          refine bd hf (fun v12 h_v12 hf => ?_)
          refine gX0_227 FX hw h_v12 dX0_sumsOf_46 ?_
          refine lv_aload FX.1 FX.2.1 dX0_sumsOf_49 (lv_at hl 4 rfl) ?_
          refine bd hf (fun v13 h_v13 hf => ?_)
          refine gX0_227 FX hw h_v13 dX0_sumsOf_51 ?_
          refine lv_isub FX.1 FX.2.1 dX0_sumsOf_54 ?_
          refine lv_i2l (v := (v12 - v13).toInt64) FX.1 FX.2.1 dX0_sumsOf_55 rfl ?_
          refine lv_goto (tgt := 75) FX.1 FX.2.1 dX0_sumsOf_56 (by decide) ?_
          refine lv_ladd FX.1 FX.2.1 dX0_sumsOf_75 ?_
          refine lv_lstore (lv' := [(5, .long (z12_5 + (v12 - v13).toInt64)), (0, .ref (G.2.2.2 131)), (1, .int p1), (2, .int p2), (3, .int p3), (4, .ref a1), (7, .int z12_7)]) FX.1 FX.2.1 dX0_sumsOf_76 hl (by decide) rfl (fun ls hl => ?_)
          refine lv_iinc (v := (z12_7 + 1)) (lv' := [(7, .int (z12_7 + 1)), (5, .long (z12_5 + (v12 - v13).toInt64)), (0, .ref (G.2.2.2 131)), (1, .int p1), (2, .int p2), (3, .int p3), (4, .ref a1)]) FX.1 FX.2.1 dX0_sumsOf_78 hl (k := 6) rfl (congrArg (fun q : Int32 => z12_7 + q) (by decide : Int32.ofInt 1 = 1)) (by decide) rfl (fun ls hl => ?_)
          refine lv_goto (tgt := 12) FX.1 FX.2.1 dX0_sumsOf_81 (by decide) ?_
          exact ih _ _ _ _ _ _ _ _ _ (lpc hf hk12) hm hw (lv_sub hl [2, 3, 4, 5, 6, 1, 0] rfl)
  exact hL12 n _ _ _ _ _ _ _ _ _ hn hm hw (lv_sub hl [3, 4, 5, 6, 2, 1, 0] rfl)
abbrev rmX0_mean (K : KT) : Room := { frames := 13, cells := K.2.2.1, slots := K.2.2.2, locals := 572 }
set_option maxHeartbeats 4000000 in
theorem wX0_mean {l : Launch} {G : GT} {M C : FS} {K : KT} {p1 : Int32} {p2 : Int32} {t : (Int32 × FS × KT)} (hf : fX0_mean C K p1 p2 = some t) : EtI l yX0_mean (ws_ yX0_mean cX0_mean 4 (some .boolean)) (rmX0_mean K) G [.ref (G.2.2.2 131), .int p1, .int p2] (M, C, K.1, K.2.1) t.1 (M, t.2.1, t.2.2.1, t.2.2.2.1) (K.2.2.1 - t.2.2.2.2.1) (K.2.2.2 - t.2.2.2.2.2) := by
  refine ekI (ty := .boolean) (by decide) (Nat.le_of_ble_eq_true rfl) (fun p e s m a0 below meth c Q FX hw hname hret ls hl => ?_)
  have hl : lv_has ls 4 [(0, .ref (G.2.2.2 131)), (1, .int p1), (2, .int p2)] := hl
  unfold fX0_mean at hf
  have hm : Cn K K 0 0 := Cn.rf
  refine lv_aload_n FX.1 FX.2.1 dX0_mean_0 rfl (lv_at hl 0 rfl) ?_
  refine lv_iload_n FX.1 FX.2.1 dX0_mean_1 rfl (lv_at hl 1 rfl) ?_
  refine lv_iload_n FX.1 FX.2.1 dX0_mean_2 rfl (lv_at hl 2 rfl) ?_
  refine bd hf (fun t1 h_t1 hf => ?_)
  refine clV_i0 (As := [.int p1, .int p2]) (rest := []) FX hw (wX0_wrongSeeds h_t1) (cwV 2 FX.2.2.2.2 (lw_V q1506 q1508 qs46 q134 q1509) rfl rfl rfl (by decide +kernel) ⟨Nat.le_of_ble_eq_true rfl, Nat.le_of_ble_eq_true rfl⟩) (fx_obj hw (o := (131, 0, 100, 31)) (by decide)) rfl rfl hl.1 rfl (lv_room (Nat.le_of_ble_eq_true rfl)) dX0_mean_3 ⟨rfl, rfl⟩ hm.le (fun H locs hw => ?_)
  refine lv_istore_n (lv' := [(3, .int t1), (0, .ref (G.2.2.2 131)), (1, .int p1), (2, .int p2)]) FX.1 FX.2.1 dX0_mean_6 rfl hl (by decide) rfl (fun ls hl => ?_)
  refine lv_iload_n FX.1 FX.2.1 dX0_mean_7 rfl (lv_at hl 0 rfl) ?_
  refine lv_if_le (tgt := 19) FX.1 FX.2.1 dX0_mean_8 (by decide) (fun c_8 => ?_) (fun c_8 => ?_)
  · have hf := it_pos c_8 hf
    refine lv_aload_n FX.1 FX.2.1 dX0_mean_19 rfl (lv_at hl 1 rfl) ?_
    refine lv_aload_n FX.1 FX.2.1 dX0_mean_20 rfl (lv_at hl 1 rfl) ?_
    refine lv_iconst (v := (-1)) FX.1 FX.2.1 dX0_mean_21 (by decide) ?_
    refine lv_iload_n FX.1 FX.2.1 dX0_mean_22 rfl (lv_at hl 2 rfl) ?_
    refine lv_iload_n FX.1 FX.2.1 dX0_mean_23 rfl (lv_at hl 3 rfl) ?_
    refine bd hf (fun t2 h_t2 hf => ?_)
    refine bd hf (fun g3 h_g3 hf => ?_)
    refine xlV_l (As := [.int (-1), .int p1, .int p2]) (rest := [.ref (G.2.2.2 131)]) FX hw (wX0_sumsOf h_t2) (cwV 3 FX.2.2.2.2 (lw_V q1511 q1513 qs47 q134 q1514) rfl rfl rfl (by decide +kernel) ⟨Nat.le_of_ble_eq_true rfl, Nat.le_of_ble_eq_true rfl⟩) (fx_obj hw (o := (131, 0, 100, 31)) (by decide)) rfl rfl hl.1 rfl (lv_room (Nat.le_of_ble_eq_true rfl)) dX0_mean_24 hm.roomC (fun H locs hw => ?_)
    have hm := hm.sM h_g3
    refine lv_iload_n FX.1 FX.2.1 dX0_mean_27 rfl (lv_at hl 3 rfl) ?_
    refine lv_i2l (v := p2.toInt64) FX.1 FX.2.1 dX0_mean_28 rfl ?_
    refine bd hf (fun t4 h_t4 hf => ?_)
    refine clV_i0 (As := [.long t2.1, .long p2.toInt64]) (rest := []) FX hw (wX0_tell h_t4) (cwV 2 FX.2.2.2.2 (lw_V q1432 q1434 qs38 q134 q1435) rfl rfl rfl (by decide +kernel) ⟨Nat.le_of_ble_eq_true rfl, Nat.le_of_ble_eq_true rfl⟩) (fx_obj hw (o := (131, 0, 100, 31)) (by decide)) rfl rfl hl.1 rfl (lv_room (Nat.le_of_ble_eq_true rfl)) dX0_mean_29 ⟨rfl, rfl⟩ hm.le (fun H locs hw => ?_)
    refine bd hf (fun b5 h_b5 hf => ?_)
    have hk : t2.2.2 = t.2.2 := congrArg (fun z => z.2.2) (Option.some.inj hf)
    have hm : Cn K t.2.2 (0 + (K.2.2.1 - t2.2.2.2.2.1)) (0 + (K.2.2.2 - t2.2.2.2.2.2)) := hk ▸ hm
    refine w_cast hm.end_.1 hm.end_.2 ?_
    exact hret _ _ (bool_nar (bz_or h_b5)) (congrArg (fun z => z.1) (Option.some.inj hf)) (congrArg (fun z => (M, z.2.1, z.2.2.1, z.2.2.2.1)) (Option.some.inj hf)) hw dX0_mean_32
  · have hf := it_neg c_8 hf
    refine lv_aload_n FX.1 FX.2.1 dX0_mean_11 rfl (lv_at hl 1 rfl) ?_
    refine lv_iload_n FX.1 FX.2.1 dX0_mean_12 rfl (lv_at hl 0 rfl) ?_
    refine bd hf (fun t6 h_t6 hf => ?_)
    refine clV_i0 (As := [.int t1]) (rest := []) FX hw (wX0_is h_t6) (cwV 1 FX.2.2.2.2 (lw_V q551 q553 qs2 q134 q554) rfl rfl rfl (by decide +kernel) ⟨Nat.le_of_ble_eq_true rfl, Nat.le_of_ble_eq_true rfl⟩) (fx_obj hw (o := (131, 0, 100, 31)) (by decide)) rfl rfl hl.1 rfl (lv_room (Nat.le_of_ble_eq_true rfl)) dX0_mean_13 ⟨rfl, rfl⟩ hm.le (fun H locs hw => ?_)
    refine lv_goto (tgt := 32) FX.1 FX.2.1 dX0_mean_16 (by decide) ?_
    refine bd hf (fun b7 h_b7 hf => ?_)
    have hk : K = t.2.2 := congrArg (fun z => z.2.2) (Option.some.inj hf)
    have hm : Cn K t.2.2 0 0 := hk ▸ hm
    refine w_cast hm.end_.1 hm.end_.2 ?_
    exact hret _ _ (bool_nar (bz_or h_b7)) (congrArg (fun z => z.1) (Option.some.inj hf)) (congrArg (fun z => (M, z.2.1, z.2.2.1, z.2.2.2.1)) (Option.some.inj hf)) hw dX0_mean_32
abbrev rmX0_odds (K : KT) : Room := { frames := 13, cells := K.2.2.1, slots := K.2.2.2, locals := 572 }
set_option maxHeartbeats 4000000 in
theorem wX0_odds {l : Launch} {G : GT} {M C : FS} {K : KT} {p1 : Int32} {p2 : Int32} {p3 : Int32} {t : (Int32 × FS × KT)} (hf : fX0_odds C K p1 p2 p3 = some t) : EtI l yX0_odds (ws_ yX0_odds cX0_odds 5 (some .boolean)) (rmX0_odds K) G [.ref (G.2.2.2 131), .int p1, .int p2, .int p3] (M, C, K.1, K.2.1) t.1 (M, t.2.1, t.2.2.1, t.2.2.2.1) (K.2.2.1 - t.2.2.2.2.1) (K.2.2.2 - t.2.2.2.2.2) := by
  refine ekI (ty := .boolean) (by decide) (Nat.le_of_ble_eq_true rfl) (fun p e s m a0 below meth c Q FX hw hname hret ls hl => ?_)
  have hl : lv_has ls 5 [(0, .ref (G.2.2.2 131)), (1, .int p1), (2, .int p2), (3, .int p3)] := hl
  unfold fX0_odds at hf
  have hm : Cn K K 0 0 := Cn.rf
  refine lv_aload_n FX.1 FX.2.1 dX0_odds_0 rfl (lv_at hl 0 rfl) ?_
  refine lv_iload_n FX.1 FX.2.1 dX0_odds_1 rfl (lv_at hl 1 rfl) ?_
  refine bd hf (fun t1 h_t1 hf => ?_)
  refine clV_i0 (As := [.int p1]) (rest := []) FX hw (wX0_isLead h_t1) (cwV 1 FX.2.2.2.2 (lw_V q1037 q1039 qs20 q134 q1040) rfl rfl rfl (by decide +kernel) ⟨Nat.le_of_ble_eq_true rfl, Nat.le_of_ble_eq_true rfl⟩) (fx_obj hw (o := (131, 0, 100, 31)) (by decide)) rfl rfl hl.1 rfl (lv_room (Nat.le_of_ble_eq_true rfl)) dX0_odds_2 ⟨rfl, rfl⟩ hm.le (fun H locs hw => ?_)
  have hK18 : ∀ (y0_18 : Int32) (H : Heap) (locs : List Loc) (ls : Array Slot) (nc ns : Nat) , fX0_odds_J18 C K p1 p2 p3 y0_18 = some t → Cn K K nc ns → WS G (M, C, K.1, K.2.1) s H locs → lv_has ls 5 [(0, .ref (G.2.2.2 131)), (1, .int p1), (2, .int p2), (3, .int p3)] → W p l e (rmX0_odds K) s m a0 below meth c H locs nc ns Q (F0 m 18 ls [.int y0_18]) := by
    intro y0_18 H locs ls nc ns hf hm hw hl
    unfold fX0_odds_J18 at hf
    refine lv_istore (lv' := [(4, .int y0_18), (0, .ref (G.2.2.2 131)), (1, .int p1), (2, .int p2), (3, .int p3)]) FX.1 FX.2.1 dX0_odds_18 hl (by decide) rfl (fun ls hl => ?_)
    refine lv_iload FX.1 FX.2.1 dX0_odds_20 (lv_at hl 0 rfl) ?_
    refine lv_if_le (tgt := 34) FX.1 FX.2.1 dX0_odds_22 (by decide) (fun c_22 => ?_) (fun c_22 => ?_)
    · have hf := it_pos c_22 hf
      refine lv_aload_n FX.1 FX.2.1 dX0_odds_34 rfl (lv_at hl 1 rfl) ?_
      refine lv_aload_n FX.1 FX.2.1 dX0_odds_35 rfl (lv_at hl 1 rfl) ?_
      refine lv_iload_n FX.1 FX.2.1 dX0_odds_36 rfl (lv_at hl 2 rfl) ?_
      refine lv_iload_n FX.1 FX.2.1 dX0_odds_37 rfl (lv_at hl 3 rfl) ?_
      refine lv_iload_n FX.1 FX.2.1 dX0_odds_38 rfl (lv_at hl 4 rfl) ?_
      refine bd hf (fun t2 h_t2 hf => ?_)
      refine bd hf (fun g3 h_g3 hf => ?_)
      refine xlV_l (As := [.int p1, .int p2, .int p3]) (rest := [.ref (G.2.2.2 131)]) FX hw (wX0_sumsOf h_t2) (cwV 3 FX.2.2.2.2 (lw_V q1511 q1513 qs47 q134 q1514) rfl rfl rfl (by decide +kernel) ⟨Nat.le_of_ble_eq_true rfl, Nat.le_of_ble_eq_true rfl⟩) (fx_obj hw (o := (131, 0, 100, 31)) (by decide)) rfl rfl hl.1 rfl (lv_room (Nat.le_of_ble_eq_true rfl)) dX0_odds_39 hm.roomC (fun H locs hw => ?_)
      have hm := hm.sM h_g3
      refine lv_iload_n FX.1 FX.2.1 dX0_odds_42 rfl (lv_at hl 4 rfl) ?_
      refine lv_i2l (v := p3.toInt64) FX.1 FX.2.1 dX0_odds_43 rfl ?_
      refine bd hf (fun t4 h_t4 hf => ?_)
      refine clV_i0 (As := [.long t2.1, .long p3.toInt64]) (rest := []) FX hw (wX0_tell h_t4) (cwV 2 FX.2.2.2.2 (lw_V q1432 q1434 qs38 q134 q1435) rfl rfl rfl (by decide +kernel) ⟨Nat.le_of_ble_eq_true rfl, Nat.le_of_ble_eq_true rfl⟩) (fx_obj hw (o := (131, 0, 100, 31)) (by decide)) rfl rfl hl.1 rfl (lv_room (Nat.le_of_ble_eq_true rfl)) dX0_odds_44 ⟨rfl, rfl⟩ hm.le (fun H locs hw => ?_)
      refine bd hf (fun b5 h_b5 hf => ?_)
      have hk : t2.2.2 = t.2.2 := congrArg (fun z => z.2.2) (Option.some.inj hf)
      have hm : Cn K t.2.2 (nc + (K.2.2.1 - t2.2.2.2.2.1)) (ns + (K.2.2.2 - t2.2.2.2.2.2)) := hk ▸ hm
      refine w_cast hm.end_.1 hm.end_.2 ?_
      exact hret _ _ (bool_nar (bz_or h_b5)) (congrArg (fun z => z.1) (Option.some.inj hf)) (congrArg (fun z => (M, z.2.1, z.2.2.1, z.2.2.2.1)) (Option.some.inj hf)) hw dX0_odds_47
    · have hf := it_neg c_22 hf
      refine lv_aload_n FX.1 FX.2.1 dX0_odds_25 rfl (lv_at hl 1 rfl) ?_
      refine lv_iload FX.1 FX.2.1 dX0_odds_26 (lv_at hl 0 rfl) ?_
      refine bd hf (fun t6 h_t6 hf => ?_)
      refine clV_i0 (As := [.int y0_18]) (rest := []) FX hw (wX0_is h_t6) (cwV 1 FX.2.2.2.2 (lw_V q551 q553 qs2 q134 q554) rfl rfl rfl (by decide +kernel) ⟨Nat.le_of_ble_eq_true rfl, Nat.le_of_ble_eq_true rfl⟩) (fx_obj hw (o := (131, 0, 100, 31)) (by decide)) rfl rfl hl.1 rfl (lv_room (Nat.le_of_ble_eq_true rfl)) dX0_odds_28 ⟨rfl, rfl⟩ hm.le (fun H locs hw => ?_)
      refine lv_goto (tgt := 47) FX.1 FX.2.1 dX0_odds_31 (by decide) ?_
      refine bd hf (fun b7 h_b7 hf => ?_)
      have hk : K = t.2.2 := congrArg (fun z => z.2.2) (Option.some.inj hf)
      have hm : Cn K t.2.2 nc ns := hk ▸ hm
      refine w_cast hm.end_.1 hm.end_.2 ?_
      exact hret _ _ (bool_nar (bz_or h_b7)) (congrArg (fun z => z.1) (Option.some.inj hf)) (congrArg (fun z => (M, z.2.1, z.2.2.1, z.2.2.2.1)) (Option.some.inj hf)) hw dX0_odds_47
  refine lv_if_ne (tgt := 12) FX.1 FX.2.1 dX0_odds_5 (by decide) (fun c_5 => ?_) (fun c_5 => ?_)
  · have hf := it_neg c_5 hf
    refine lv_aload_n FX.1 FX.2.1 dX0_odds_12 rfl (lv_at hl 0 rfl) ?_
    refine lv_iload_n FX.1 FX.2.1 dX0_odds_13 rfl (lv_at hl 2 rfl) ?_
    refine lv_iload_n FX.1 FX.2.1 dX0_odds_14 rfl (lv_at hl 3 rfl) ?_
    refine bd hf (fun t8 h_t8 hf => ?_)
    refine clV_i0 (As := [.int p2, .int p3]) (rest := []) FX hw (wX0_wrongSeeds h_t8) (cwV 2 FX.2.2.2.2 (lw_V q1506 q1508 qs46 q134 q1509) rfl rfl rfl (by decide +kernel) ⟨Nat.le_of_ble_eq_true rfl, Nat.le_of_ble_eq_true rfl⟩) (fx_obj hw (o := (131, 0, 100, 31)) (by decide)) rfl rfl hl.1 rfl (lv_room (Nat.le_of_ble_eq_true rfl)) dX0_odds_15 ⟨rfl, rfl⟩ hm.le (fun H locs hw => ?_)
    exact hK18 _ _ _ _ _ _ hf hm hw (lv_sub hl [0, 1, 2, 3] rfl)
  · have hf := it_pos c_5 hf
    refine lv_iconst (v := 2) FX.1 FX.2.1 dX0_odds_8 (by decide) ?_
    refine lv_goto (tgt := 18) FX.1 FX.2.1 dX0_odds_9 (by decide) ?_
    exact hK18 _ _ _ _ _ _ hf hm hw (lv_sub hl [0, 1, 2, 3] rfl)
abbrev rmX14_init : Room := { frames := 1, cells := 0, slots := 0, locals := 60 }
set_option maxHeartbeats 4000000 in
theorem wX14_init {l : Launch} {G : GT} {M C : FS} {K : KT} {a : Nat} {p1 : Nat} {p2 : Option Nat} {p3 : Int32} {t : KT} (hf : fX14_init K a p1 p2 p3 = some t) : CtV l yX14_init (ws_ yX14_init cX14_init 4 none) rmX14_init G [.ref a, .ref p1, va_rf p2, .int p3] (M, C, K.1, K.2.1) (M, C, t.1, t.2.1) := by
  refine mkV (by decide) (by cases p2 <;> exact Nat.le_of_ble_eq_true rfl) (fun p e s m a0 below meth c Q FX hw hname hret ls hl => ?_)
  have hl : lv_has ls 4 [(0, .ref a), (1, .ref p1), (2, va_rf p2), (3, .int p3)] := by cases p2 <;> exact hl
  unfold fX14_init at hf
  refine lv_aload_n FX.1 FX.2.1 dX14_init_0 rfl (lv_at hl 0 rfl) ?_
  refine W.objInit FX.1 FX.2.1 FX.2.2.2.1 (FX.2.2.2.2 _ q1527) (FX.2.2.2.2 _ q169) (FX.2.2.2.2 _ q170) rfl (hl.1.trans FX.2.2.1.symm) rfl dX14_init_1 (Nat.le_of_ble_eq_true rfl) (Nat.le_of_ble_eq_true rfl) ?_
  refine W.eq (g2 := F0 m 4 ls []) rfl ?_
  refine lv_aload_n FX.1 FX.2.1 dX14_init_4 rfl (lv_at hl 0 rfl) ?_
  refine lv_aload_n FX.1 FX.2.1 dX14_init_5 rfl (lv_at hl 1 rfl) ?_
  refine bd hf (fun K1 h_K1 hf => ?_)
  refine sX14_7 (v := (some p1)) FX hw hname h_K1 dX14_init_6 (fun H locs hw => ?_)
  refine lv_aload_n FX.1 FX.2.1 dX14_init_9 rfl (lv_at hl 0 rfl) ?_
  refine lv_qload_n FX.1 FX.2.1 dX14_init_10 rfl (lv_at hl 2 rfl) ?_
  refine bd hf (fun K2 h_K2 hf => ?_)
  refine sX14_13 (v := p2) FX hw hname h_K2 dX14_init_11 (fun H locs hw => ?_)
  refine lv_aload_n FX.1 FX.2.1 dX14_init_14 rfl (lv_at hl 0 rfl) ?_
  refine lv_iload_n FX.1 FX.2.1 dX14_init_15 rfl (lv_at hl 3 rfl) ?_
  refine bd hf (fun K3 h_K3 hf => ?_)
  refine sX14_17 FX hw hname h_K3 dX14_init_16 (fun H locs hw => ?_)
  exact hret _ (congrArg (fun z => (M, C, z.1, z.2.1)) (Option.some.inj hf)) hw dX14_init_19
abbrev rmX0_mark (K : KT) : Room := { frames := 4, cells := K.2.2.1, slots := K.2.2.2, locals := 125 }
set_option maxHeartbeats 4000000 in
theorem wX0_mark {l : Launch} {G : GT} {M C : FS} {K : KT} {t : (Int32 × FS × KT)} (hf : fX0_mark C K = some t) : EtI l yX0_mark (ws_ yX0_mark cX0_mark 1 (some .int)) (rmX0_mark K) G [.ref (G.2.2.2 131)] (M, C, K.1, K.2.1) t.1 (M, t.2.1, t.2.2.1, t.2.2.2.1) (K.2.2.1 - t.2.2.2.2.1) (K.2.2.2 - t.2.2.2.2.2) := by
  refine ekI (ty := .int) (by decide) (Nat.le_of_ble_eq_true rfl) (fun p e s m a0 below meth c Q FX hw hname hret ls hl => ?_)
  have hl : lv_has ls 1 [(0, .ref (G.2.2.2 131))] := hl
  unfold fX0_mark at hf
  have hm : Cn K K 0 0 := Cn.rf
  refine lv_aload_n FX.1 FX.2.1 dX0_mark_0 rfl (lv_at hl 0 rfl) ?_
  refine gX0_481 FX hw dX0_mark_1 ?_
  refine lv_iconst (v := 3) FX.1 FX.2.1 dX0_mark_4 (by decide) ?_
  refine lv_icmp_ne (tgt := 15) FX.1 FX.2.1 dX0_mark_5 (by decide) (fun c_5 => ?_) (fun c_5 => ?_)
  · have hf := it_neg c_5 hf
    refine lv_aload_n FX.1 FX.2.1 dX0_mark_15 rfl (lv_at hl 0 rfl) ?_
    refine gX0_86 FX hw dX0_mark_16 ?_
    refine lv_aload_n FX.1 FX.2.1 dX0_mark_19 rfl (lv_at hl 0 rfl) ?_
    refine gX0_481 FX hw dX0_mark_20 ?_
    refine bd hf (fun K1 h_K1 hf => ?_)
    refine nX0_84 FX hw h_K1 (hm.roomO h_K1) dX0_mark_23 (fun H hw => ?_)
    have hm : Cn K K1 (0 + 1) (0 + 3) := hm.sO h_K1
    refine lv_dup FX.1 FX.2.1 dX0_mark_26 rfl ?_
    refine lv_aload_n FX.1 FX.2.1 dX0_mark_27 rfl (lv_at hl 0 rfl) ?_
    refine gX0_38 FX hw dX0_mark_28 ?_
    refine bd hf (fun a2 h_a2 hf => ?_)
    rw [show va_rf (C.2.2.1 103) = .ref a2 from congrArg va_rf h_a2]
    refine bd hf (fun g3 h_g3 hf => ?_)
    refine bd hf (fun t4 h_t4 hf => ?_)
    refine bd hf (fun g5 h_g5 hf => ?_)
    obtain ⟨fs_g3, he_g3⟩ := dC_some (gC_some h_g3)
    refine xlV_q (As := []) (rest := [.ref K.2.1, .ref K.2.1, .int (C.1 130), .ref (G.2.2.2 129)]) FX hw (wX4_twin h_t4) (cwV 0 FX.2.2.2.2 (lw_V q1339 q1340 q1341 q141 q1342) rfl rfl rfl (by decide +kernel) ⟨Nat.le_of_ble_eq_true rfl, Nat.le_of_ble_eq_true rfl⟩) (dyn_he hw he_g3) rfl rfl hl.1 rfl (lv_room (Nat.le_of_ble_eq_true rfl)) dX0_mark_31 hm.roomC (fun H locs hw => ?_)
    have hm := hm.sM h_g5
    refine lv_aload_n FX.1 FX.2.1 dX0_mark_34 rfl (lv_at hl 0 rfl) ?_
    refine gX0_199 FX hw dX0_mark_35 ?_
    refine lv_aload_n FX.1 FX.2.1 dX0_mark_38 rfl (lv_at hl 0 rfl) ?_
    refine gX0_203 FX hw dX0_mark_39 ?_
    refine bd hf (fun t6 h_t6 hf => ?_)
    refine bd hf (fun g7 h_g7 hf => ?_)
    refine clI_v0 (As := [.ref t4.1, va_rf (C.2.2.1 104), .int (C.1 105)]) (rest := [.ref K.2.1, .int (C.1 130), .ref (G.2.2.2 129)]) FX hw (wX14_init h_t6) (cwI 3 FX.2.2.2.2 (lw_meth q1526) rfl rfl rfl (FX.2.2.2.2 _ q162) (FX.2.2.2.2 _ q1524) (FX.2.2.2.2 _ q1525) rfl (by decide +kernel) ⟨Nat.le_of_ble_eq_true rfl, Nat.le_of_ble_eq_true rfl⟩) rfl hl.1 rfl (lv_room (Nat.le_of_ble_eq_true rfl)) dX0_mark_42 ⟨rfl, rfl⟩ hm.le (fun H locs hw => ?_)
    have hm := hm.sG h_g7
    refine bd hf (fun g8 h_g8 hf => ?_)
    refine bd hf (fun C9 h_C9 hf => ?_)
    obtain ⟨fs_g8, he_g8⟩ := dC_some (gC_some h_g8)
    refine as129 FX hw (dyn_he hw he_g8) h_C9 dX0_mark_45 (fun H locs hw => ?_)
    refine lv_aload_n FX.1 FX.2.1 dX0_mark_46 rfl (lv_at hl 0 rfl) ?_
    refine lv_dup FX.1 FX.2.1 dX0_mark_47 rfl ?_
    refine gX0_481 FX hw dX0_mark_48 ?_
    refine lv_iconst (v := 1) FX.1 FX.2.1 dX0_mark_51 (by decide) ?_
    refine lv_iadd FX.1 FX.2.1 dX0_mark_52 ?_
    refine bd hf (fun C10 h_C10 hf => ?_)
    refine sX0_481 FX hw dX0_mark_53 (fun H locs hw => ?_)
    rw [Option.some.inj h_C10] at hw
    refine lv_aload_n FX.1 FX.2.1 dX0_mark_56 rfl (lv_at hl 0 rfl) ?_
    refine lv_aload_n FX.1 FX.2.1 dX0_mark_57 rfl (lv_at hl 0 rfl) ?_
    refine gX0_481 FX hw dX0_mark_58 ?_
    refine bd hf (fun t11 h_t11 hf => ?_)
    refine clV_i0 (As := [.int (C10.1 130)]) (rest := []) FX hw (wX0_gives h_t11) (cwV 1 FX.2.2.2.2 (lw_V q962 q964 qs16 q134 q965) rfl rfl rfl (by decide +kernel) ⟨Nat.le_of_ble_eq_true rfl, Nat.le_of_ble_eq_true rfl⟩) (fx_obj hw (o := (131, 0, 100, 31)) (by decide)) rfl rfl hl.1 rfl (lv_room (Nat.le_of_ble_eq_true rfl)) dX0_mark_61 ⟨rfl, rfl⟩ hm.le (fun H locs hw => ?_)
    have hk : t6 = t.2.2 := congrArg (fun z => z.2.2) (Option.some.inj hf)
    have hm : Cn K t.2.2 ((0 + 1) + (K1.2.2.1 - t4.2.2.2.1)) ((0 + 3) + (K1.2.2.2 - t4.2.2.2.2)) := hk ▸ hm
    refine w_cast hm.end_.1 hm.end_.2 ?_
    exact hret _ _ rfl (congrArg (fun z => z.1) (Option.some.inj hf)) (congrArg (fun z => (M, z.2.1, z.2.2.1, z.2.2.2.1)) (Option.some.inj hf)) hw dX0_mark_64
  · have hf := it_pos c_5 hf
    refine lv_aload_n FX.1 FX.2.1 dX0_mark_8 rfl (lv_at hl 0 rfl) ?_
    refine lv_bipush (v := 7) FX.1 FX.2.1 dX0_mark_9 (by decide) ?_
    refine bd hf (fun t12 h_t12 hf => ?_)
    refine clV_i0 (As := [.int 7]) (rest := []) FX hw (wX0_none h_t12) (cwV 1 FX.2.2.2.2 (lw_V q620 q622 qs3 q134 q623) rfl rfl rfl (by decide +kernel) ⟨Nat.le_of_ble_eq_true rfl, Nat.le_of_ble_eq_true rfl⟩) (fx_obj hw (o := (131, 0, 100, 31)) (by decide)) rfl rfl hl.1 rfl (lv_room (Nat.le_of_ble_eq_true rfl)) dX0_mark_11 ⟨rfl, rfl⟩ hm.le (fun H locs hw => ?_)
    have hk : K = t.2.2 := congrArg (fun z => z.2.2) (Option.some.inj hf)
    have hm : Cn K t.2.2 0 0 := hk ▸ hm
    refine w_cast hm.end_.1 hm.end_.2 ?_
    exact hret _ _ rfl (congrArg (fun z => z.1) (Option.some.inj hf)) (congrArg (fun z => (M, z.2.1, z.2.2.1, z.2.2.2.1)) (Option.some.inj hf)) hw dX0_mark_14
abbrev rmX0_back : Room := { frames := 1, cells := 0, slots := 0, locals := 21 }
set_option maxHeartbeats 4000000 in
theorem wX0_back {l : Launch} {G : GT} {M C : FS} {K : KT} {t : (Int32 × FS)} (hf : fX0_back C K = some t) : CtI l yX0_back (ws_ yX0_back cX0_back 2 (some .int)) rmX0_back G [.ref (G.2.2.2 131)] (M, C, K.1, K.2.1) t.1 (M, t.2, K.1, K.2.1) := by
  refine mkI (ty := .int) (by decide) (Nat.le_of_ble_eq_true rfl) (fun p e s m a0 below meth c Q FX hw hname hret ls hl => ?_)
  have hl : lv_has ls 2 [(0, .ref (G.2.2.2 131))] := hl
  unfold fX0_back at hf
  refine lv_aload_n FX.1 FX.2.1 dX0_back_0 rfl (lv_at hl 0 rfl) ?_
  refine gX0_481 FX hw dX0_back_1 ?_
  refine lv_if_ne (tgt := 14) FX.1 FX.2.1 dX0_back_4 (by decide) (fun c_4 => ?_) (fun c_4 => ?_)
  · have hf := it_neg c_4 hf
    refine lv_aload_n FX.1 FX.2.1 dX0_back_14 rfl (lv_at hl 0 rfl) ?_
    refine lv_dup FX.1 FX.2.1 dX0_back_15 rfl ?_
    refine gX0_481 FX hw dX0_back_16 ?_
    refine lv_iconst (v := 1) FX.1 FX.2.1 dX0_back_19 (by decide) ?_
    refine lv_isub FX.1 FX.2.1 dX0_back_20 ?_
    refine bd hf (fun C1 h_C1 hf => ?_)
    refine sX0_481 FX hw dX0_back_21 (fun H locs hw => ?_)
    rw [Option.some.inj h_C1] at hw
    refine lv_aload_n FX.1 FX.2.1 dX0_back_24 rfl (lv_at hl 0 rfl) ?_
    refine gX0_86 FX hw dX0_back_25 ?_
    refine lv_aload_n FX.1 FX.2.1 dX0_back_28 rfl (lv_at hl 0 rfl) ?_
    refine gX0_481 FX hw dX0_back_29 ?_
    refine bd hf (fun v2 h_v2 hf => ?_)
    refine al129 FX hw h_v2 dX0_back_32 ?_
    refine bd hf (fun a3 h_a3 hf => ?_)
    rw [show va_rf v2 = .ref a3 from congrArg va_rf h_a3]
    refine lv_astore_n (lv' := [(1, .ref a3), (0, .ref (G.2.2.2 131))]) FX.1 FX.2.1 dX0_back_33 rfl hl (by decide) rfl (fun ls hl => ?_)
    refine lv_aload_n FX.1 FX.2.1 dX0_back_34 rfl (lv_at hl 1 rfl) ?_
    refine lv_aload_n FX.1 FX.2.1 dX0_back_35 rfl (lv_at hl 0 rfl) ?_
    refine bd hf (fun a4 h_a4 hf => ?_)
    refine gX0_487 FX hw h_a4 dX0_back_36 ?_
    refine bd hf (fun C5 h_C5 hf => ?_)
    refine sX0_38 (v := (some a4)) FX hw dX0_back_39 (fun H locs hw => ?_)
    rw [Option.some.inj h_C5] at hw
    refine lv_aload_n FX.1 FX.2.1 dX0_back_42 rfl (lv_at hl 1 rfl) ?_
    refine lv_aload_n FX.1 FX.2.1 dX0_back_43 rfl (lv_at hl 0 rfl) ?_
    refine bd hf (fun v6 h_v6 hf => ?_)
    refine gX0_488q FX hw h_v6 dX0_back_44 ?_
    refine bd hf (fun C7 h_C7 hf => ?_)
    refine sX0_199 (v := v6) FX hw dX0_back_47 (fun H locs hw => ?_)
    rw [Option.some.inj h_C7] at hw
    refine lv_aload_n FX.1 FX.2.1 dX0_back_50 rfl (lv_at hl 1 rfl) ?_
    refine lv_aload_n FX.1 FX.2.1 dX0_back_51 rfl (lv_at hl 0 rfl) ?_
    refine bd hf (fun v8 h_v8 hf => ?_)
    refine gX0_489 FX hw h_v8 dX0_back_52 ?_
    refine bd hf (fun C9 h_C9 hf => ?_)
    refine sX0_203 FX hw dX0_back_55 (fun H locs hw => ?_)
    rw [Option.some.inj h_C9] at hw
    refine lv_aload_n FX.1 FX.2.1 dX0_back_58 rfl (lv_at hl 1 rfl) ?_
    refine lv_aload_n FX.1 FX.2.1 dX0_back_59 rfl (lv_at hl 1 rfl) ?_
    refine gX0_481 FX hw dX0_back_60 ?_
    refine bd hf (fun t10 h_t10 hf => ?_)
    refine clV_i0 (As := [.int (C9.1 130)]) (rest := []) FX hw (wX0_gives h_t10) (cwV 1 FX.2.2.2.2 (lw_V q962 q964 qs16 q134 q965) rfl rfl rfl (by decide +kernel) ⟨Nat.le_of_ble_eq_true rfl, Nat.le_of_ble_eq_true rfl⟩) (fx_obj hw (o := (131, 0, 100, 31)) (by decide)) rfl rfl hl.1 rfl (lv_room (Nat.le_of_ble_eq_true rfl)) dX0_back_63 ⟨rfl, rfl⟩ ⟨Nat.zero_le _, Nat.zero_le _⟩ (fun H locs hw => ?_)
    exact hret _ _ rfl (congrArg (fun z => z.1) (Option.some.inj hf)) (congrArg (fun z => (M, z.2, K.1, K.2.1)) (Option.some.inj hf)) hw dX0_back_66
  · have hf := it_pos c_4 hf
    refine lv_aload_n FX.1 FX.2.1 dX0_back_7 rfl (lv_at hl 0 rfl) ?_
    refine lv_bipush (v := 8) FX.1 FX.2.1 dX0_back_8 (by decide) ?_
    refine bd hf (fun t11 h_t11 hf => ?_)
    refine clV_i0 (As := [.int 8]) (rest := []) FX hw (wX0_none h_t11) (cwV 1 FX.2.2.2.2 (lw_V q620 q622 qs3 q134 q623) rfl rfl rfl (by decide +kernel) ⟨Nat.le_of_ble_eq_true rfl, Nat.le_of_ble_eq_true rfl⟩) (fx_obj hw (o := (131, 0, 100, 31)) (by decide)) rfl rfl hl.1 rfl (lv_room (Nat.le_of_ble_eq_true rfl)) dX0_back_10 ⟨rfl, rfl⟩ ⟨Nat.zero_le _, Nat.zero_le _⟩ (fun H locs hw => ?_)
    exact hret _ _ rfl (congrArg (fun z => z.1) (Option.some.inj hf)) (congrArg (fun z => (M, z.2, K.1, K.2.1)) (Option.some.inj hf)) hw dX0_back_13
abbrev rmX13_init : Room := { frames := 1, cells := 0, slots := 0, locals := 60 }
set_option maxHeartbeats 4000000 in
theorem wX13_init {l : Launch} {G : GT} {M C : FS} {K : KT} {a : Nat} {p1 : Int32} {t : KT} (hf : fX13_init K a p1 = some t) : CtV l yX13_init (ws_ yX13_init cX13_init 2 none) rmX13_init G [.ref a, .int p1] (M, C, K.1, K.2.1) (M, C, t.1, t.2.1) := by
  refine mkV (by decide) (Nat.le_of_ble_eq_true rfl) (fun p e s m a0 below meth c Q FX hw hname hret ls hl => ?_)
  have hl : lv_has ls 2 [(0, .ref a), (1, .int p1)] := hl
  unfold fX13_init at hf
  refine lv_aload_n FX.1 FX.2.1 dX13_init_0 rfl (lv_at hl 0 rfl) ?_
  refine W.objInit FX.1 FX.2.1 FX.2.2.2.1 (FX.2.2.2.2 _ q984) (FX.2.2.2.2 _ q169) (FX.2.2.2.2 _ q170) rfl (hl.1.trans FX.2.2.1.symm) rfl dX13_init_1 (Nat.le_of_ble_eq_true rfl) (Nat.le_of_ble_eq_true rfl) ?_
  refine W.eq (g2 := F0 m 4 ls []) rfl ?_
  refine lv_aload_n FX.1 FX.2.1 dX13_init_4 rfl (lv_at hl 0 rfl) ?_
  refine lv_iload_n FX.1 FX.2.1 dX13_init_5 rfl (lv_at hl 1 rfl) ?_
  refine bd hf (fun K1 h_K1 hf => ?_)
  refine sX13_7 FX hw hname h_K1 dX13_init_6 (fun H locs hw => ?_)
  exact hret _ (congrArg (fun z => (M, C, z.1, z.2.1)) (Option.some.inj hf)) hw dX13_init_9
abbrev rmX4_lead : Room := { frames := 0, cells := 0, slots := 0, locals := 0 }
set_option maxHeartbeats 4000000 in
theorem wX4_lead {l : Launch} {G : GT} {M C : FS} {K : KT} {a : Nat} {p1 : Int64} {t : Int32} (hf : fX4_lead K a p1 = some t) : CtI l yX4_lead (ws_ yX4_lead cX4_lead 4 (some .int)) rmX4_lead G [.ref a, .long p1] (M, C, K.1, K.2.1) t (M, C, K.1, K.2.1) := by
  refine mkI (ty := .int) (by decide) (Nat.le_of_ble_eq_true rfl) (fun p e s m a0 below meth c Q FX hw hname hret ls hl => ?_)
  have hl : lv_has ls 4 [(0, .ref a), (1, .long p1)] := hl
  unfold fX4_lead at hf
  refine lv_iconst (v := 0) FX.1 FX.2.1 dX4_lead_0 (by decide) ?_
  refine lv_istore_n (lv' := [(3, .int 0), (0, .ref a), (1, .long p1)]) FX.1 FX.2.1 dX4_lead_1 rfl hl (by decide) rfl (fun ls hl => ?_)
  refine bd hf (fun u2 ht hf => ?_)
  obtain ⟨n, hn⟩ := lp_iff.mp ht
  have hR2 : ∀ v, Sum.inl v = u2 → _ := fun v he => ell hf he
  have hX2 : ∀ (H : Heap) (locs : List Loc) (ls : Array Slot) , Sum.inr () = u2 → WS G (M, C, K.1, K.2.1) s H locs → lv_has ls 4 [] → W p l e rmX4_lead s m a0 below meth c H locs 0 0 Q (F0 m 32 ls []) := by
    intro H locs ls he hw hl
    have hf := elr hf he
    refine lv_iconst (v := (-1)) FX.1 FX.2.1 dX4_lead_32 (by decide) ?_
    exact hret _ _ rfl (congrArg (fun z => z) (Option.some.inj hf)) rfl hw dX4_lead_33
  have hL2 : ∀ (n : Nat) (z2_3 : Int32) (H : Heap) (locs : List Loc) (ls : Array Slot) , lpN (fX4_lead_L2 K a p1) n z2_3 = some u2 → WS G (M, C, K.1, K.2.1) s H locs → lv_has ls 4 [(0, .ref a), (1, .long p1), (3, .int z2_3)] → W p l e rmX4_lead s m a0 below meth c H locs 0 0 Q (F0 m 2 ls []) := by
    intro n
    induction n with
    | zero => intro z2_3 H locs ls hz; cases hz
    | succ n ih =>
      intro z2_3 H locs ls hz hw hl
      refine bd (show (fX4_lead_L2 K a p1 z2_3).bind _ = some u2 from hz) (fun x2 hf hk2 => ?_)
      unfold fX4_lead_L2 at hf
      refine lv_iload_n FX.1 FX.2.1 dX4_lead_2 rfl (lv_at hl 2 rfl) ?_
      refine lv_aload_n FX.1 FX.2.1 dX4_lead_3 rfl (lv_at hl 0 rfl) ?_
      refine bd hf (fun v1 h_v1 hf => ?_)
      refine gX4_37 FX hw h_v1 dX4_lead_4 ?_
      refine lv_icmp_ge (tgt := 32) FX.1 FX.2.1 dX4_lead_7 (by decide) (fun c_7 => ?_) (fun c_7 => ?_)
      · have hf := it_pos c_7 hf
        exact hX2 _ _ _ (lpe hf hk2) hw (lv_sub hl [] rfl)
      · have hf := it_neg c_7 hf
        refine lv_aload_n FX.1 FX.2.1 dX4_lead_10 rfl (lv_at hl 0 rfl) ?_
        refine bd hf (fun a2 h_a2 hf => ?_)
        refine gX4_11 FX hw h_a2 dX4_lead_11 ?_
        refine lv_iload_n FX.1 FX.2.1 dX4_lead_14 rfl (lv_at hl 2 rfl) ?_
        refine bd hf (fun a3 h_a3 hf => ?_)
        refine ei_aald 5 rfl FX hw h_a3 dX4_lead_15 ?_
        refine bd hf (fun v4 h_v4 hf => ?_)
        refine gX4_66 FX hw h_v4 dX4_lead_16 ?_
        refine lv_lload_n FX.1 FX.2.1 dX4_lead_19 rfl (lv_at hl 1 rfl) ?_
        refine W.lcmp FX.1 FX.2.1 dX4_lead_20 ?_
        refine lv_if_ne (tgt := 26) FX.1 FX.2.1 dX4_lead_21 (by decide) (fun c_21 => ?_) (fun c_21 => ?_)
        · have c_21 := mt (lg_cmp_eq _ _).mpr c_21
          have hf := it_neg c_21 hf
          refine lv_iinc (v := (z2_3 + 1)) (lv' := [(3, .int (z2_3 + 1)), (0, .ref a), (1, .long p1)]) FX.1 FX.2.1 dX4_lead_26 hl (k := 2) rfl (congrArg (fun q : Int32 => z2_3 + q) (by decide : Int32.ofInt 1 = 1)) (by decide) rfl (fun ls hl => ?_)
          refine lv_goto (tgt := 2) FX.1 FX.2.1 dX4_lead_29 (by decide) ?_
          exact ih _ _ _ _ (lpc hf hk2) hw (lv_sub hl [1, 2, 0] rfl)
        · have c_21 := (lg_cmp_eq _ _).mp c_21
          have hf := it_pos c_21 hf
          refine lv_iload_n FX.1 FX.2.1 dX4_lead_24 rfl (lv_at hl 2 rfl) ?_
          have hf := hR2 _ (lpe hf hk2)
          exact hret _ _ rfl (congrArg (fun z => z) (Option.some.inj hf)) rfl hw dX4_lead_25
  exact hL2 n _ _ _ _ hn hw (lv_sub hl [1, 2, 0] rfl)
abbrev rmX4_look : Room := { frames := 0, cells := 0, slots := 0, locals := 0 }
set_option maxHeartbeats 4000000 in
theorem wX4_look {l : Launch} {G : GT} {M C : FS} {K : KT} {a : Nat} {p1 : Int64} {t : Int32} (hf : fX4_look K a p1 = some t) : CtI l yX4_look (ws_ yX4_look cX4_look 4 (some .int)) rmX4_look G [.ref a, .long p1] (M, C, K.1, K.2.1) t (M, C, K.1, K.2.1) := by
  refine mkI (ty := .int) (by decide) (Nat.le_of_ble_eq_true rfl) (fun p e s m a0 below meth c Q FX hw hname hret ls hl => ?_)
  have hl : lv_has ls 4 [(0, .ref a), (1, .long p1)] := hl
  unfold fX4_look at hf
  refine lv_iconst (v := 0) FX.1 FX.2.1 dX4_look_0 (by decide) ?_
  refine lv_istore_n (lv' := [(3, .int 0), (0, .ref a), (1, .long p1)]) FX.1 FX.2.1 dX4_look_1 rfl hl (by decide) rfl (fun ls hl => ?_)
  refine bd hf (fun u2 ht hf => ?_)
  obtain ⟨n, hn⟩ := lp_iff.mp ht
  have hR2 : ∀ v, Sum.inl v = u2 → _ := fun v he => ell hf he
  have hX2 : ∀ (H : Heap) (locs : List Loc) (ls : Array Slot) , Sum.inr () = u2 → WS G (M, C, K.1, K.2.1) s H locs → lv_has ls 4 [] → W p l e rmX4_look s m a0 below meth c H locs 0 0 Q (F0 m 29 ls []) := by
    intro H locs ls he hw hl
    have hf := elr hf he
    refine lv_iconst (v := (-1)) FX.1 FX.2.1 dX4_look_29 (by decide) ?_
    exact hret _ _ rfl (congrArg (fun z => z) (Option.some.inj hf)) rfl hw dX4_look_30
  have hL2 : ∀ (n : Nat) (z2_3 : Int32) (H : Heap) (locs : List Loc) (ls : Array Slot) , lpN (fX4_look_L2 K a p1) n z2_3 = some u2 → WS G (M, C, K.1, K.2.1) s H locs → lv_has ls 4 [(0, .ref a), (1, .long p1), (3, .int z2_3)] → W p l e rmX4_look s m a0 below meth c H locs 0 0 Q (F0 m 2 ls []) := by
    intro n
    induction n with
    | zero => intro z2_3 H locs ls hz; cases hz
    | succ n ih =>
      intro z2_3 H locs ls hz hw hl
      refine bd (show (fX4_look_L2 K a p1 z2_3).bind _ = some u2 from hz) (fun x2 hf hk2 => ?_)
      unfold fX4_look_L2 at hf
      refine lv_iload_n FX.1 FX.2.1 dX4_look_2 rfl (lv_at hl 2 rfl) ?_
      refine lv_aload_n FX.1 FX.2.1 dX4_look_3 rfl (lv_at hl 0 rfl) ?_
      refine bd hf (fun v1 h_v1 hf => ?_)
      refine gX4_54 FX hw h_v1 dX4_look_4 ?_
      refine lv_icmp_ge (tgt := 29) FX.1 FX.2.1 dX4_look_7 (by decide) (fun c_7 => ?_) (fun c_7 => ?_)
      · have hf := it_pos c_7 hf
        exact hX2 _ _ _ (lpe hf hk2) hw (lv_sub hl [] rfl)
      · have hf := it_neg c_7 hf
        refine lv_aload_n FX.1 FX.2.1 dX4_look_10 rfl (lv_at hl 0 rfl) ?_
        refine bd hf (fun a2 h_a2 hf => ?_)
        refine gX4_23 FX hw h_a2 dX4_look_11 ?_
        refine lv_iload_n FX.1 FX.2.1 dX4_look_14 rfl (lv_at hl 2 rfl) ?_
        refine bd hf (fun v3 h_v3 hf => ?_)
        refine ei_lald FX hw h_v3 dX4_look_15 ?_
        refine lv_lload_n FX.1 FX.2.1 dX4_look_16 rfl (lv_at hl 1 rfl) ?_
        refine W.lcmp FX.1 FX.2.1 dX4_look_17 ?_
        refine lv_if_ne (tgt := 23) FX.1 FX.2.1 dX4_look_18 (by decide) (fun c_18 => ?_) (fun c_18 => ?_)
        · have c_18 := mt (lg_cmp_eq _ _).mpr c_18
          have hf := it_neg c_18 hf
          refine lv_iinc (v := (z2_3 + 1)) (lv' := [(3, .int (z2_3 + 1)), (0, .ref a), (1, .long p1)]) FX.1 FX.2.1 dX4_look_23 hl (k := 2) rfl (congrArg (fun q : Int32 => z2_3 + q) (by decide : Int32.ofInt 1 = 1)) (by decide) rfl (fun ls hl => ?_)
          refine lv_goto (tgt := 2) FX.1 FX.2.1 dX4_look_26 (by decide) ?_
          exact ih _ _ _ _ (lpc hf hk2) hw (lv_sub hl [1, 2, 0] rfl)
        · have c_18 := (lg_cmp_eq _ _).mp c_18
          have hf := it_pos c_18 hf
          refine lv_iload_n FX.1 FX.2.1 dX4_look_21 rfl (lv_at hl 2 rfl) ?_
          have hf := hR2 _ (lpe hf hk2)
          exact hret _ _ rfl (congrArg (fun z => z) (Option.some.inj hf)) rfl hw dX4_look_22
  exact hL2 n _ _ _ _ hn hw (lv_sub hl [1, 2, 0] rfl)
abbrev rmX5_init : Room := { frames := 1, cells := 0, slots := 0, locals := 60 }
set_option maxHeartbeats 4000000 in
theorem wX5_init {l : Launch} {G : GT} {M C : FS} {K : KT} {a : Nat} {t : Unit} (hf : fX5_init a = some t) : CtV l yX5_init (ws_ yX5_init cX5_init 1 none) rmX5_init G [.ref a] (M, C, K.1, K.2.1) (M, C, K.1, K.2.1) := by
  refine mkV (by decide) (Nat.le_of_ble_eq_true rfl) (fun p e s m a0 below meth c Q FX hw hname hret ls hl => ?_)
  have hl : lv_has ls 1 [(0, .ref a)] := hl
  unfold fX5_init at hf
  refine lv_aload_n FX.1 FX.2.1 dX5_init_0 rfl (lv_at hl 0 rfl) ?_
  refine W.objInit FX.1 FX.2.1 FX.2.2.2.1 (FX.2.2.2.2 _ q401) (FX.2.2.2.2 _ q169) (FX.2.2.2.2 _ q170) rfl (hl.1.trans FX.2.2.1.symm) rfl dX5_init_1 (Nat.le_of_ble_eq_true rfl) (Nat.le_of_ble_eq_true rfl) ?_
  refine W.eq (g2 := F0 m 4 ls []) rfl ?_
  exact hret _ rfl hw dX5_init_4
