abbrev rmX0_opens (K : KT) : Room := { frames := 7, cells := K.2.2.1, slots := K.2.2.2, locals := 194 }
set_option maxHeartbeats 4000000 in
theorem wX0_opens {l : Launch} {G : GT} {M C : FS} {K : KT} {t : (Int32 × FS × KT)} (hf : fX0_opens C K = some t) : EtI l yX0_opens (ws_ yX0_opens cX0_opens 7 (some .int)) (rmX0_opens K) G [.ref (G.2.2.2 131)] (M, C, K.1, K.2.1) t.1 (M, t.2.1, t.2.2.1, t.2.2.2.1) (K.2.2.1 - t.2.2.2.2.1) (K.2.2.2 - t.2.2.2.2.2) := by
  refine ekI (ty := .int) (by decide) (Nat.le_of_ble_eq_true rfl) (fun p e s m a0 below meth c Q FX hw hname hret ls hl => ?_)
  have hl : lv_has ls 7 [(0, .ref (G.2.2.2 131))] := hl
  unfold fX0_opens at hf
  have hm : Cn K K 0 0 := Cn.rf
  refine lv_iconst (v := 0) FX.1 FX.2.1 dX0_opens_0 (by decide) ?_
  refine lv_istore_n (lv' := [(1, .int 0), (0, .ref (G.2.2.2 131))]) FX.1 FX.2.1 dX0_opens_1 rfl hl (by decide) rfl (fun ls hl => ?_)
  refine lv_aload_n FX.1 FX.2.1 dX0_opens_2 rfl (lv_at hl 1 rfl) ?_
  refine gX0_38 FX hw dX0_opens_3 ?_
  refine bd hf (fun a1 h_a1 hf => ?_)
  rw [show va_rf (C.2.2.1 103) = .ref a1 from congrArg va_rf h_a1]
  refine lv_dup FX.1 FX.2.1 dX0_opens_6 rfl ?_
  refine bd hf (fun v2 h_v2 hf => ?_)
  refine gX0_233 FX hw h_v2 dX0_opens_7 ?_
  refine lv_iconst (v := 1) FX.1 FX.2.1 dX0_opens_10 (by decide) ?_
  refine lv_iadd FX.1 FX.2.1 dX0_opens_11 ?_
  refine bd hf (fun K3 h_K3 hf => ?_)
  refine sX0_233 FX hw h_K3 dX0_opens_12 (fun H locs hw => ?_)
  have hm := hm.keep (ke_uV h_K3)
  refine lv_iconst (v := 0) FX.1 FX.2.1 dX0_opens_15 (by decide) ?_
  refine lv_istore_n (lv' := [(2, .int 0), (1, .int 0), (0, .ref (G.2.2.2 131))]) FX.1 FX.2.1 dX0_opens_16 rfl hl (by decide) rfl (fun ls hl => ?_)
  refine bd hf (fun u17 ht hf => ?_)
  obtain ⟨n, hn⟩ := lp_iff.mp ht
  have hX17 : ∀ (t17_1 : Int32) (Ct17 : FS) (Kt17 : KT) (H : Heap) (locs : List Loc) (ls : Array Slot) (nc ns : Nat) , (t17_1, Ct17, Kt17) = u17 → Cn K Kt17 nc ns → WS G (M, Ct17, Kt17.1, Kt17.2.1) s H locs → lv_has ls 7 [(1, .int t17_1)] → W p l e (rmX0_opens K) s m a0 below meth c H locs nc ns Q (F0 m 174 ls []) := by
    intro t17_1 Ct17 Kt17 H locs ls nc ns he hm hw hl
    subst he
    have hf : fX0_opens_X17 t17_1 Ct17 Kt17 = some t := hf
    unfold fX0_opens_X17 at hf
    refine lv_iload_n FX.1 FX.2.1 dX0_opens_174 rfl (lv_at hl 0 rfl) ?_
    have hk : Kt17 = t.2.2 := congrArg (fun z => z.2.2) (Option.some.inj hf)
    have hm : Cn K t.2.2 nc ns := hk ▸ hm
    refine w_cast hm.end_.1 hm.end_.2 ?_
    exact hret _ _ rfl (congrArg (fun z => z.1) (Option.some.inj hf)) (congrArg (fun z => (M, z.2.1, z.2.2.1, z.2.2.2.1)) (Option.some.inj hf)) hw dX0_opens_175
  have hL17 : ∀ (n : Nat) (z17_1 : Int32) (z17_2 : Int32) (Cz17 : FS) (Kz17 : KT) (H : Heap) (locs : List Loc) (ls : Array Slot) (nc ns : Nat) , lpN (fun z => fX0_opens_L17 z.1 z.2.1 z.2.2.1 z.2.2.2) n (z17_1, z17_2, Cz17, Kz17) = some u17 → Cn K Kz17 nc ns → WS G (M, Cz17, Kz17.1, Kz17.2.1) s H locs → lv_has ls 7 [(0, .ref (G.2.2.2 131)), (1, .int z17_1), (2, .int z17_2)] → W p l e (rmX0_opens K) s m a0 below meth c H locs nc ns Q (F0 m 17 ls []) := by
    intro n
    induction n with
    | zero => intro z17_1 z17_2 Cz17 Kz17 H locs ls nc ns hz; cases hz
    | succ n ih =>
      intro z17_1 z17_2 Cz17 Kz17 H locs ls nc ns hz hm hw hl
      refine bd (show (fX0_opens_L17 z17_1 z17_2 Cz17 Kz17).bind _ = some u17 from hz) (fun x17 hf hk17 => ?_)
      unfold fX0_opens_L17 at hf
      refine lv_iload_n FX.1 FX.2.1 dX0_opens_17 rfl (lv_at hl 2 rfl) ?_
      refine lv_aload_n FX.1 FX.2.1 dX0_opens_18 rfl (lv_at hl 0 rfl) ?_
      refine gX0_38 FX hw dX0_opens_19 ?_
      refine bd hf (fun a4 h_a4 hf => ?_)
      rw [show va_rf (Cz17.2.2.1 103) = .ref a4 from congrArg va_rf h_a4]
      refine bd hf (fun v5 h_v5 hf => ?_)
      refine gX0_152 FX hw h_v5 dX0_opens_22 ?_
      refine lv_icmp_ge (tgt := 174) FX.1 FX.2.1 dX0_opens_25 (by decide) (fun c_25 => ?_) (fun c_25 => ?_)
      · have hf := it_pos c_25 hf
        exact hX17 _ _ _ _ _ _ _ _ (lpe hf hk17) hm hw (lv_sub hl [1] rfl)
      · have hf := it_neg c_25 hf
        refine lv_aload_n FX.1 FX.2.1 dX0_opens_28 rfl (lv_at hl 0 rfl) ?_
        refine gX0_38 FX hw dX0_opens_29 ?_
        refine bd hf (fun a6 h_a6 hf => ?_)
        rw [show va_rf (Cz17.2.2.1 103) = .ref a6 from congrArg va_rf h_a6]
        refine bd hf (fun a7 h_a7 hf => ?_)
        refine gX0_161 FX hw h_a7 dX0_opens_32 ?_
        refine lv_iload_n FX.1 FX.2.1 dX0_opens_35 rfl (lv_at hl 2 rfl) ?_
        refine bd hf (fun a8 h_a8 hf => ?_)
        refine ei_aald 5 rfl FX hw h_a8 dX0_opens_36 ?_
        refine lv_astore_n (lv' := [(3, .ref a8), (0, .ref (G.2.2.2 131)), (1, .int z17_1), (2, .int z17_2)]) FX.1 FX.2.1 dX0_opens_37 rfl hl (by decide) rfl (fun ls hl => ?_)
        refine lv_aload_n FX.1 FX.2.1 dX0_opens_38 rfl (lv_at hl 0 rfl) ?_
        refine bd hf (fun g9 h_g9 hf => ?_)
        refine bd hf (fun t10 h_t10 hf => ?_)
        obtain ⟨fs_g9, he_g9⟩ := dC_some (gC_some h_g9)
        refine clV_i0 (As := []) (rest := []) FX hw (wX7_mayTangle h_t10) (cwV 0 FX.2.2.2.2 (lw_V q1268 q1256 q1257 q154 q1258) rfl rfl rfl (by decide +kernel) ⟨Nat.le_of_ble_eq_true rfl, Nat.le_of_ble_eq_true rfl⟩) (dyn_he hw he_g9) rfl rfl hl.1 rfl (lv_room (Nat.le_of_ble_eq_true rfl)) dX0_opens_39 ⟨rfl, rfl⟩ hm.le (fun H locs hw => ?_)
        refine lv_if_eq (tgt := 168) FX.1 FX.2.1 dX0_opens_42 (by decide) (fun c_42 => ?_) (fun c_42 => ?_)
        · have hf := it_pos c_42 hf
          refine lv_iinc (v := (z17_2 + 1)) (lv' := [(2, .int (z17_2 + 1)), (3, .ref a8), (0, .ref (G.2.2.2 131)), (1, .int z17_1)]) FX.1 FX.2.1 dX0_opens_168 hl (k := 3) rfl (congrArg (fun q : Int32 => z17_2 + q) (by decide : Int32.ofInt 1 = 1)) (by decide) rfl (fun ls hl => ?_)
          refine lv_goto (tgt := 17) FX.1 FX.2.1 dX0_opens_171 (by decide) ?_
          exact ih _ _ _ _ _ _ _ _ _ (lpc hf hk17) hm hw (lv_sub hl [2, 3, 0] rfl)
        · have hf := it_neg c_42 hf
          refine lv_aload_n FX.1 FX.2.1 dX0_opens_45 rfl (lv_at hl 1 rfl) ?_
          refine lv_bipush (v := 16) FX.1 FX.2.1 dX0_opens_46 (by decide) ?_
          refine bd hf (fun t11 h_t11 hf => ?_)
          refine clV_i0 (As := [.int 16]) (rest := []) FX hw (wX0_draw h_t11) (cwV 1 FX.2.2.2.2 (lw_V q1279 q1281 qs26 q134 q1282) rfl rfl rfl (by decide +kernel) ⟨Nat.le_of_ble_eq_true rfl, Nat.le_of_ble_eq_true rfl⟩) (fx_obj hw (o := (131, 0, 100, 31)) (by decide)) rfl rfl hl.1 rfl (lv_room (Nat.le_of_ble_eq_true rfl)) dX0_opens_48 ⟨rfl, rfl⟩ hm.le (fun H locs hw => ?_)
          refine lv_aload_n FX.1 FX.2.1 dX0_opens_51 rfl (lv_at hl 0 rfl) ?_
          refine bd hf (fun g12 h_g12 hf => ?_)
          refine bd hf (fun t13 h_t13 hf => ?_)
          obtain ⟨fs_g12, he_g12⟩ := dC_some (gC_some h_g12)
          refine clV_i0 (As := []) (rest := [.int t11.1]) FX hw (wX7_risk h_t13) (cwV 0 FX.2.2.2.2 (lw_V q1053 q1054 q1055 q154 q1056) rfl rfl rfl (by decide +kernel) ⟨Nat.le_of_ble_eq_true rfl, Nat.le_of_ble_eq_true rfl⟩) (dyn_he hw he_g12) rfl rfl hl.1 rfl (lv_room (Nat.le_of_ble_eq_true rfl)) dX0_opens_52 ⟨rfl, rfl⟩ hm.le (fun H locs hw => ?_)
          refine lv_icmp_lt (tgt := 61) FX.1 FX.2.1 dX0_opens_55 (by decide) (fun c_55 => ?_) (fun c_55 => ?_)
          · have hf := it_pos c_55 hf
            refine lv_aload_n FX.1 FX.2.1 dX0_opens_61 rfl (lv_at hl 1 rfl) ?_
            refine lv_iload_n FX.1 FX.2.1 dX0_opens_62 rfl (lv_at hl 3 rfl) ?_
            refine bd hf (fun t14 h_t14 hf => ?_)
            refine clV_i0 (As := [.int z17_2]) (rest := []) FX hw (wX0_others h_t14) (cwV 1 FX.2.2.2.2 (lw_V q1284 q1286 qs27 q134 q1287) rfl rfl rfl (by decide +kernel) ⟨Nat.le_of_ble_eq_true rfl, Nat.le_of_ble_eq_true rfl⟩) (fx_obj hw (o := (131, 0, 100, 31)) (by decide)) rfl rfl hl.1 rfl (lv_room (Nat.le_of_ble_eq_true rfl)) dX0_opens_63 ⟨rfl, rfl⟩ hm.le (fun H locs hw => ?_)
            refine lv_istore (lv' := [(4, .int t14), (3, .ref a8), (0, .ref (G.2.2.2 131)), (1, .int z17_1), (2, .int z17_2)]) FX.1 FX.2.1 dX0_opens_66 hl (by decide) rfl (fun ls hl => ?_)
            refine lv_iload FX.1 FX.2.1 dX0_opens_68 (lv_at hl 0 rfl) ?_
            refine lv_if_ne (tgt := 76) FX.1 FX.2.1 dX0_opens_70 (by decide) (fun c_70 => ?_) (fun c_70 => ?_)
            · have hf := it_neg c_70 hf
              refine lv_aload_n FX.1 FX.2.1 dX0_opens_76 rfl (lv_at hl 2 rfl) ?_
              refine lv_iload_n FX.1 FX.2.1 dX0_opens_77 rfl (lv_at hl 4 rfl) ?_
              refine lv_aload_n FX.1 FX.2.1 dX0_opens_78 rfl (lv_at hl 2 rfl) ?_
              refine lv_iload FX.1 FX.2.1 dX0_opens_79 (lv_at hl 0 rfl) ?_
              refine bd hf (fun t15 h_t15 hf => ?_)
              refine clV_i0 (As := [.int t14]) (rest := [.int z17_2, .ref (G.2.2.2 131)]) FX hw (wX0_draw h_t15) (cwV 1 FX.2.2.2.2 (lw_V q1279 q1281 qs26 q134 q1282) rfl rfl rfl (by decide +kernel) ⟨Nat.le_of_ble_eq_true rfl, Nat.le_of_ble_eq_true rfl⟩) (fx_obj hw (o := (131, 0, 100, 31)) (by decide)) rfl rfl hl.1 rfl (lv_room (Nat.le_of_ble_eq_true rfl)) dX0_opens_81 ⟨rfl, rfl⟩ hm.le (fun H locs hw => ?_)
              refine bd hf (fun t16 h_t16 hf => ?_)
              refine clV_i0 (As := [.int z17_2, .int t15.1]) (rest := []) FX hw (wX0_other h_t16) (cwV 2 FX.2.2.2.2 (lw_V q1288 q1290 qs28 q134 q1291) rfl rfl rfl (by decide +kernel) ⟨Nat.le_of_ble_eq_true rfl, Nat.le_of_ble_eq_true rfl⟩) (fx_obj hw (o := (131, 0, 100, 31)) (by decide)) rfl rfl hl.1 rfl (lv_room (Nat.le_of_ble_eq_true rfl)) dX0_opens_84 ⟨rfl, rfl⟩ hm.le (fun H locs hw => ?_)
              refine lv_istore (lv' := [(5, .int t16), (4, .int t14), (3, .ref a8), (0, .ref (G.2.2.2 131)), (1, .int z17_1), (2, .int z17_2)]) FX.1 FX.2.1 dX0_opens_87 hl (by decide) rfl (fun ls hl => ?_)
              refine lv_aload_n FX.1 FX.2.1 dX0_opens_89 rfl (lv_at hl 3 rfl) ?_
              refine gX0_38 FX hw dX0_opens_90 ?_
              refine bd hf (fun a17 h_a17 hf => ?_)
              rw [show va_rf (t15.2.2.2.1 103) = .ref a17 from congrArg va_rf h_a17]
              refine bd hf (fun v18 h_v18 hf => ?_)
              refine gX0_217 FX hw h_v18 dX0_opens_93 ?_
              refine lv_bipush (v := 24) FX.1 FX.2.1 dX0_opens_96 (by decide) ?_
              refine lv_icmp_ne (tgt := 104) FX.1 FX.2.1 dX0_opens_98 (by decide) (fun c_98 => ?_) (fun c_98 => ?_)
              · have hf := it_neg c_98 hf
                refine lv_aload_n FX.1 FX.2.1 dX0_opens_104 rfl (lv_at hl 2 rfl) ?_
                refine bd hf (fun v19 h_v19 hf => ?_)
                refine gX0_242 FX hw h_v19 dX0_opens_105 ?_
                refine lv_aload_n FX.1 FX.2.1 dX0_opens_108 rfl (lv_at hl 2 rfl) ?_
                refine bd hf (fun v20 h_v20 hf => ?_)
                refine gX0_245 FX hw h_v20 dX0_opens_109 ?_
                refine va_mmin FX.1 FX.2.1 (FX.2.2.1.trans hl.1.symm) FX.2.2.2.1 (FX.2.2.2.2 _ q1292) (FX.2.2.2.2 _ q682) (FX.2.2.2.2 _ q150) (FX.2.2.2.2 _ q683) (Nat.le_of_ble_eq_true rfl) (Nat.le_of_ble_eq_true rfl) hm.le.1 hm.le.2 dX0_opens_112 ?_
                refine lv_bipush (v := 9) FX.1 FX.2.1 dX0_opens_115 (by decide) ?_
                refine lv_aload_n FX.1 FX.2.1 dX0_opens_117 rfl (lv_at hl 3 rfl) ?_
                refine gX0_38 FX hw dX0_opens_118 ?_
                refine bd hf (fun a21 h_a21 hf => ?_)
                rw [show va_rf (t15.2.2.2.1 103) = .ref a21 from congrArg va_rf h_a21]
                refine bd hf (fun a22 h_a22 hf => ?_)
                refine gX0_161 FX hw h_a22 dX0_opens_121 ?_
                refine lv_iload FX.1 FX.2.1 dX0_opens_124 (lv_at hl 0 rfl) ?_
                refine bd hf (fun a23 h_a23 hf => ?_)
                refine ei_aald 5 rfl FX hw h_a23 dX0_opens_126 ?_
                refine bd hf (fun v24 h_v24 hf => ?_)
                refine gX0_239 FX hw h_v24 dX0_opens_127 ?_
                refine lv_iconst (v := 2) FX.1 FX.2.1 dX0_opens_130 (by decide) ?_
                refine lv_iadd FX.1 FX.2.1 dX0_opens_131 ?_
                refine va_mmin FX.1 FX.2.1 (FX.2.2.1.trans hl.1.symm) FX.2.2.2.1 (FX.2.2.2.2 _ q1292) (FX.2.2.2.2 _ q682) (FX.2.2.2.2 _ q150) (FX.2.2.2.2 _ q683) (Nat.le_of_ble_eq_true rfl) (Nat.le_of_ble_eq_true rfl) hm.le.1 hm.le.2 dX0_opens_132 ?_
                have hK143 : ∀ (y0_143 : Int32) (H : Heap) (locs : List Loc) (ls : Array Slot) (nc ns : Nat) , fX0_opens_J143 z17_1 z17_2 Kz17 t15 t16 y0_143 = some x17 → Cn K Kz17 nc ns → WS G (M, t15.2, Kz17.1, Kz17.2.1) s H locs → lv_has ls 7 [(0, .ref (G.2.2.2 131)), (1, .int z17_1), (2, .int z17_2), (5, .int t16)] → W p l e (rmX0_opens K) s m a0 below meth c H locs nc ns Q (F0 m 143 ls [.int y0_143]) := by
                  intro y0_143 H locs ls nc ns hf hm hw hl
                  unfold fX0_opens_J143 at hf
                  refine lv_istore (lv' := [(6, .int y0_143), (0, .ref (G.2.2.2 131)), (1, .int z17_1), (2, .int z17_2), (5, .int t16)]) FX.1 FX.2.1 dX0_opens_143 hl (by decide) rfl (fun ls hl => ?_)
                  refine lv_aload_n FX.1 FX.2.1 dX0_opens_145 rfl (lv_at hl 1 rfl) ?_
                  refine gX0_38 FX hw dX0_opens_146 ?_
                  refine bd hf (fun a25 h_a25 hf => ?_)
                  rw [show va_rf (t15.2.2.2.1 103) = .ref a25 from congrArg va_rf h_a25]
                  refine lv_iload_n FX.1 FX.2.1 dX0_opens_149 rfl (lv_at hl 3 rfl) ?_
                  refine lv_iload FX.1 FX.2.1 dX0_opens_150 (lv_at hl 4 rfl) ?_
                  refine lv_iload FX.1 FX.2.1 dX0_opens_152 (lv_at hl 0 rfl) ?_
                  refine lv_if_eq (tgt := 161) FX.1 FX.2.1 dX0_opens_154 (by decide) (fun c_154 => ?_) (fun c_154 => ?_)
                  · have hf := it_pos c_154 hf
                    refine lv_iconst (v := 0) FX.1 FX.2.1 dX0_opens_161 (by decide) ?_
                    refine bd hf (fun g26 h_g26 hf => ?_)
                    refine bd hf (fun t27 h_t27 hf => ?_)
                    refine bd hf (fun g28 h_g28 hf => ?_)
                    obtain ⟨fs_g26, he_g26⟩ := dC_some (gC_some h_g26)
                    refine xlV_v (As := [.int z17_2, .int t16, .int 0]) (rest := []) FX hw (wX4_adds h_t27) (cwV 3 FX.2.2.2.2 (lw_V q1269 q888 q889 q141 q890) rfl rfl rfl (by decide +kernel) ⟨Nat.le_of_ble_eq_true rfl, Nat.le_of_ble_eq_true rfl⟩) (dyn_he hw he_g26) rfl rfl hl.1 rfl (lv_room (Nat.le_of_ble_eq_true rfl)) dX0_opens_162 hm.roomC (fun H locs hw => ?_)
                    have hm := hm.sM h_g28
                    refine lv_iinc (v := (z17_1 + 1)) (lv' := [(1, .int (z17_1 + 1)), (6, .int y0_143), (0, .ref (G.2.2.2 131)), (2, .int z17_2), (5, .int t16)]) FX.1 FX.2.1 dX0_opens_165 hl (k := 2) rfl (congrArg (fun q : Int32 => z17_1 + q) (by decide : Int32.ofInt 1 = 1)) (by decide) rfl (fun ls hl => ?_)
                    refine lv_iinc (v := (z17_2 + 1)) (lv' := [(2, .int (z17_2 + 1)), (1, .int (z17_1 + 1)), (6, .int y0_143), (0, .ref (G.2.2.2 131)), (5, .int t16)]) FX.1 FX.2.1 dX0_opens_168 hl (k := 3) rfl (congrArg (fun q : Int32 => z17_2 + q) (by decide : Int32.ofInt 1 = 1)) (by decide) rfl (fun ls hl => ?_)
                    refine lv_goto (tgt := 17) FX.1 FX.2.1 dX0_opens_171 (by decide) ?_
                    exact ih _ _ _ _ _ _ _ _ _ (lpc hf hk17) hm hw (lv_sub hl [3, 1, 0] rfl)
                  · have hf := it_neg c_154 hf
                    refine lv_iconst (v := 1) FX.1 FX.2.1 dX0_opens_157 (by decide) ?_
                    refine lv_goto (tgt := 162) FX.1 FX.2.1 dX0_opens_158 (by decide) ?_
                    refine bd hf (fun g29 h_g29 hf => ?_)
                    refine bd hf (fun t30 h_t30 hf => ?_)
                    refine bd hf (fun g31 h_g31 hf => ?_)
                    obtain ⟨fs_g29, he_g29⟩ := dC_some (gC_some h_g29)
                    refine xlV_v (As := [.int z17_2, .int t16, .int 1]) (rest := []) FX hw (wX4_adds h_t30) (cwV 3 FX.2.2.2.2 (lw_V q1269 q888 q889 q141 q890) rfl rfl rfl (by decide +kernel) ⟨Nat.le_of_ble_eq_true rfl, Nat.le_of_ble_eq_true rfl⟩) (dyn_he hw he_g29) rfl rfl hl.1 rfl (lv_room (Nat.le_of_ble_eq_true rfl)) dX0_opens_162 hm.roomC (fun H locs hw => ?_)
                    have hm := hm.sM h_g31
                    refine lv_iinc (v := (z17_1 + 1)) (lv' := [(1, .int (z17_1 + 1)), (6, .int y0_143), (0, .ref (G.2.2.2 131)), (2, .int z17_2), (5, .int t16)]) FX.1 FX.2.1 dX0_opens_165 hl (k := 2) rfl (congrArg (fun q : Int32 => z17_1 + q) (by decide : Int32.ofInt 1 = 1)) (by decide) rfl (fun ls hl => ?_)
                    refine lv_iinc (v := (z17_2 + 1)) (lv' := [(2, .int (z17_2 + 1)), (1, .int (z17_1 + 1)), (6, .int y0_143), (0, .ref (G.2.2.2 131)), (5, .int t16)]) FX.1 FX.2.1 dX0_opens_168 hl (k := 3) rfl (congrArg (fun q : Int32 => z17_2 + q) (by decide : Int32.ofInt 1 = 1)) (by decide) rfl (fun ls hl => ?_)
                    refine lv_goto (tgt := 17) FX.1 FX.2.1 dX0_opens_171 (by decide) ?_
                    exact ih _ _ _ _ _ _ _ _ _ (lpc hf hk17) hm hw (lv_sub hl [3, 1, 0] rfl)
                refine lv_icmp_ge (tgt := 142) FX.1 FX.2.1 dX0_opens_135 (by decide) (fun c_135 => ?_) (fun c_135 => ?_)
                · have hf := it_pos c_135 hf
                  refine lv_iconst (v := 0) FX.1 FX.2.1 dX0_opens_142 (by decide) ?_
                  exact hK143 _ _ _ _ _ _ hf hm hw (lv_sub hl [3, 4, 5, 0] rfl)
                · have hf := it_neg c_135 hf
                  refine lv_iconst (v := 1) FX.1 FX.2.1 dX0_opens_138 (by decide) ?_
                  refine lv_goto (tgt := 143) FX.1 FX.2.1 dX0_opens_139 (by decide) ?_
                  exact hK143 _ _ _ _ _ _ hf hm hw (lv_sub hl [3, 4, 5, 0] rfl)
              · have hf := it_pos c_98 hf
                refine lv_goto (tgt := 168) FX.1 FX.2.1 dX0_opens_101 (by decide) ?_
                refine lv_iinc (v := (z17_2 + 1)) (lv' := [(2, .int (z17_2 + 1)), (5, .int t16), (4, .int t14), (3, .ref a8), (0, .ref (G.2.2.2 131)), (1, .int z17_1)]) FX.1 FX.2.1 dX0_opens_168 hl (k := 5) rfl (congrArg (fun q : Int32 => z17_2 + q) (by decide : Int32.ofInt 1 = 1)) (by decide) rfl (fun ls hl => ?_)
                refine lv_goto (tgt := 17) FX.1 FX.2.1 dX0_opens_171 (by decide) ?_
                exact ih _ _ _ _ _ _ _ _ _ (lpc hf hk17) hm hw (lv_sub hl [4, 5, 0] rfl)
            · have hf := it_pos c_70 hf
              refine lv_goto (tgt := 168) FX.1 FX.2.1 dX0_opens_73 (by decide) ?_
              refine lv_iinc (v := (z17_2 + 1)) (lv' := [(2, .int (z17_2 + 1)), (4, .int t14), (3, .ref a8), (0, .ref (G.2.2.2 131)), (1, .int z17_1)]) FX.1 FX.2.1 dX0_opens_168 hl (k := 4) rfl (congrArg (fun q : Int32 => z17_2 + q) (by decide : Int32.ofInt 1 = 1)) (by decide) rfl (fun ls hl => ?_)
              refine lv_goto (tgt := 17) FX.1 FX.2.1 dX0_opens_171 (by decide) ?_
              exact ih _ _ _ _ _ _ _ _ _ (lpc hf hk17) hm hw (lv_sub hl [3, 4, 0] rfl)
          · have hf := it_neg c_55 hf
            refine lv_goto (tgt := 168) FX.1 FX.2.1 dX0_opens_58 (by decide) ?_
            refine lv_iinc (v := (z17_2 + 1)) (lv' := [(2, .int (z17_2 + 1)), (3, .ref a8), (0, .ref (G.2.2.2 131)), (1, .int z17_1)]) FX.1 FX.2.1 dX0_opens_168 hl (k := 3) rfl (congrArg (fun q : Int32 => z17_2 + q) (by decide : Int32.ofInt 1 = 1)) (by decide) rfl (fun ls hl => ?_)
            refine lv_goto (tgt := 17) FX.1 FX.2.1 dX0_opens_171 (by decide) ?_
            exact ih _ _ _ _ _ _ _ _ _ (lpc hf hk17) hm hw (lv_sub hl [2, 3, 0] rfl)
  exact hL17 n _ _ _ _ _ _ _ _ _ hn hm hw (lv_sub hl [2, 1, 0] rfl)
abbrev rmX0_open (K : KT) : Room := { frames := 8, cells := K.2.2.1, slots := K.2.2.2, locals := 220 }
set_option maxHeartbeats 4000000 in
theorem wX0_open {l : Launch} {G : GT} {M C : FS} {K : KT} {p1 : Int32} {t : (Int32 × FS × KT)} (hf : fX0_open C K p1 = some t) : EtI l yX0_open (ws_ yX0_open cX0_open 2 (some .int)) (rmX0_open K) G [.ref (G.2.2.2 131), .int p1] (M, C, K.1, K.2.1) t.1 (M, t.2.1, t.2.2.1, t.2.2.2.1) (K.2.2.1 - t.2.2.2.2.1) (K.2.2.2 - t.2.2.2.2.2) := by
  refine ekI (ty := .int) (by decide) (Nat.le_of_ble_eq_true rfl) (fun p e s m a0 below meth c Q FX hw hname hret ls hl => ?_)
  have hl : lv_has ls 2 [(0, .ref (G.2.2.2 131)), (1, .int p1)] := hl
  unfold fX0_open at hf
  have hm : Cn K K 0 0 := Cn.rf
  refine lv_iload_n FX.1 FX.2.1 dX0_open_0 rfl (lv_at hl 1 rfl) ?_
  refine lv_i2l (v := p1.toInt64) FX.1 FX.2.1 dX0_open_1 rfl ?_
  refine lv_lconst (v := 0) FX.1 FX.2.1 dX0_open_2 (by decide) ?_
  refine lv_ldc2 FX.1 FX.2.1 FX.2.2.2.1 (FX.2.2.2.2 _ q1274) dX0_open_3 ?_
  refine bd hf (fun t1 h_t1 hf => ?_)
  refine clS_i0 (As := [.long p1.toInt64, .long 0, .long 9999]) (rest := []) FX hw (wX0_isFrom h_t1) (va_cwS 3 FX.2.2.2.2 (lw_S q1119 q1120 q134 q1121) rfl rfl rfl (by decide +kernel) ⟨Nat.le_of_ble_eq_true rfl, Nat.le_of_ble_eq_true rfl⟩) rfl hl.1 rfl (lv_room (Nat.le_of_ble_eq_true rfl)) dX0_open_6 ⟨rfl, rfl⟩ hm.le (fun H locs hw => ?_)
  refine lv_if_ne (tgt := 18) FX.1 FX.2.1 dX0_open_9 (by decide) (fun c_9 => ?_) (fun c_9 => ?_)
  · have hf := it_neg c_9 hf
    refine lv_aload_n FX.1 FX.2.1 dX0_open_18 rfl (lv_at hl 0 rfl) ?_
    refine lv_iload_n FX.1 FX.2.1 dX0_open_19 rfl (lv_at hl 1 rfl) ?_
    refine bd hf (fun C2 h_C2 hf => ?_)
    refine sX0_321 FX hw dX0_open_20 (fun H locs hw => ?_)
    rw [Option.some.inj h_C2] at hw
    refine lv_aload_n FX.1 FX.2.1 dX0_open_23 rfl (lv_at hl 0 rfl) ?_
    refine lv_aload_n FX.1 FX.2.1 dX0_open_24 rfl (lv_at hl 0 rfl) ?_
    refine bd hf (fun t3 h_t3 hf => ?_)
    refine bd hf (fun g4 h_g4 hf => ?_)
    refine xlV_i (As := []) (rest := [.ref (G.2.2.2 131)]) FX hw (wX0_opens h_t3) (cwV 0 FX.2.2.2.2 (lw_V q1275 q1277 qs25 q134 q1278) rfl rfl rfl (by decide +kernel) ⟨Nat.le_of_ble_eq_true rfl, Nat.le_of_ble_eq_true rfl⟩) (fx_obj hw (o := (131, 0, 100, 31)) (by decide)) rfl rfl hl.1 rfl (lv_room (Nat.le_of_ble_eq_true rfl)) dX0_open_25 hm.roomC (fun H locs hw => ?_)
    have hm := hm.sM h_g4
    refine bd hf (fun t5 h_t5 hf => ?_)
    refine clV_i0 (As := [.int t3.1]) (rest := []) FX hw (wX0_gives h_t5) (cwV 1 FX.2.2.2.2 (lw_V q962 q964 qs16 q134 q965) rfl rfl rfl (by decide +kernel) ⟨Nat.le_of_ble_eq_true rfl, Nat.le_of_ble_eq_true rfl⟩) (fx_obj hw (o := (131, 0, 100, 31)) (by decide)) rfl rfl hl.1 rfl (lv_room (Nat.le_of_ble_eq_true rfl)) dX0_open_28 ⟨rfl, rfl⟩ hm.le (fun H locs hw => ?_)
    have hk : t3.2.2 = t.2.2 := congrArg (fun z => z.2.2) (Option.some.inj hf)
    have hm : Cn K t.2.2 (0 + (K.2.2.1 - t3.2.2.2.2.1)) (0 + (K.2.2.2 - t3.2.2.2.2.2)) := hk ▸ hm
    refine w_cast hm.end_.1 hm.end_.2 ?_
    exact hret _ _ rfl (congrArg (fun z => z.1) (Option.some.inj hf)) (congrArg (fun z => (M, z.2.1, z.2.2.1, z.2.2.2.1)) (Option.some.inj hf)) hw dX0_open_31
  · have hf := it_pos c_9 hf
    refine lv_aload_n FX.1 FX.2.1 dX0_open_12 rfl (lv_at hl 0 rfl) ?_
    refine lv_iconst (v := 5) FX.1 FX.2.1 dX0_open_13 (by decide) ?_
    refine bd hf (fun t6 h_t6 hf => ?_)
    refine clV_i0 (As := [.int 5]) (rest := []) FX hw (wX0_none h_t6) (cwV 1 FX.2.2.2.2 (lw_V q620 q622 qs3 q134 q623) rfl rfl rfl (by decide +kernel) ⟨Nat.le_of_ble_eq_true rfl, Nat.le_of_ble_eq_true rfl⟩) (fx_obj hw (o := (131, 0, 100, 31)) (by decide)) rfl rfl hl.1 rfl (lv_room (Nat.le_of_ble_eq_true rfl)) dX0_open_14 ⟨rfl, rfl⟩ hm.le (fun H locs hw => ?_)
    have hk : K = t.2.2 := congrArg (fun z => z.2.2) (Option.some.inj hf)
    have hm : Cn K t.2.2 0 0 := hk ▸ hm
    refine w_cast hm.end_.1 hm.end_.2 ?_
    exact hret _ _ rfl (congrArg (fun z => z.1) (Option.some.inj hf)) (congrArg (fun z => (M, z.2.1, z.2.2.1, z.2.2.2.1)) (Option.some.inj hf)) hw dX0_open_17
abbrev rmX0_lump : Room := { frames := 7, cells := 0, slots := 0, locals := 424 }
set_option maxHeartbeats 4000000 in
theorem wX0_lump {l : Launch} {G : GT} {M C : FS} {K : KT} {p1 : Int32} {t : (Int32 × FS)} (hf : fX0_lump C K p1 = some t) : CtI l yX0_lump (ws_ yX0_lump cX0_lump 3 (some .int)) rmX0_lump G [.ref (G.2.2.2 131), .int p1] (M, C, K.1, K.2.1) t.1 (M, t.2, K.1, K.2.1) := by
  refine mkI (ty := .int) (by decide) (Nat.le_of_ble_eq_true rfl) (fun p e s m a0 below meth c Q FX hw hname hret ls hl => ?_)
  have hl : lv_has ls 3 [(0, .ref (G.2.2.2 131)), (1, .int p1)] := hl
  unfold fX0_lump at hf
  refine lv_aload_n FX.1 FX.2.1 dX0_lump_0 rfl (lv_at hl 0 rfl) ?_
  refine lv_iload_n FX.1 FX.2.1 dX0_lump_1 rfl (lv_at hl 1 rfl) ?_
  refine bd hf (fun t1 h_t1 hf => ?_)
  refine clV_i0 (As := [.int p1]) (rest := []) FX hw (wX0_wrongLead h_t1) (cwV 1 FX.2.2.2.2 (lw_V q1193 q1195 qs24 q134 q1196) rfl rfl rfl (by decide +kernel) ⟨Nat.le_of_ble_eq_true rfl, Nat.le_of_ble_eq_true rfl⟩) (fx_obj hw (o := (131, 0, 100, 31)) (by decide)) rfl rfl hl.1 rfl (lv_room (Nat.le_of_ble_eq_true rfl)) dX0_lump_2 ⟨rfl, rfl⟩ ⟨Nat.zero_le _, Nat.zero_le _⟩ (fun H locs hw => ?_)
  refine lv_istore_n (lv' := [(2, .int t1), (0, .ref (G.2.2.2 131)), (1, .int p1)]) FX.1 FX.2.1 dX0_lump_5 rfl hl (by decide) rfl (fun ls hl => ?_)
  refine lv_iload_n FX.1 FX.2.1 dX0_lump_6 rfl (lv_at hl 0 rfl) ?_
  refine lv_if_le (tgt := 18) FX.1 FX.2.1 dX0_lump_7 (by decide) (fun c_7 => ?_) (fun c_7 => ?_)
  · have hf := it_pos c_7 hf
    refine lv_aload_n FX.1 FX.2.1 dX0_lump_18 rfl (lv_at hl 1 rfl) ?_
    refine lv_aload_n FX.1 FX.2.1 dX0_lump_19 rfl (lv_at hl 1 rfl) ?_
    refine gX0_38 FX hw dX0_lump_20 ?_
    refine bd hf (fun a2 h_a2 hf => ?_)
    rw [show va_rf (C.2.2.1 103) = .ref a2 from congrArg va_rf h_a2]
    refine lv_iload_n FX.1 FX.2.1 dX0_lump_23 rfl (lv_at hl 2 rfl) ?_
    refine bd hf (fun g3 h_g3 hf => ?_)
    refine bd hf (fun t4 h_t4 hf => ?_)
    obtain ⟨fs_g3, he_g3⟩ := dC_some (gC_some h_g3)
    refine clV_i0 (As := [.int p1]) (rest := [.ref (G.2.2.2 131)]) FX hw (wX4_lump h_t4) (cwV 1 FX.2.2.2.2 (lw_V q1297 q1202 q1203 q141 q1204) rfl rfl rfl (by decide +kernel) ⟨Nat.le_of_ble_eq_true rfl, Nat.le_of_ble_eq_true rfl⟩) (dyn_he hw he_g3) rfl rfl hl.1 rfl (lv_room (Nat.le_of_ble_eq_true rfl)) dX0_lump_24 ⟨rfl, rfl⟩ ⟨Nat.zero_le _, Nat.zero_le _⟩ (fun H locs hw => ?_)
    refine bd hf (fun t5 h_t5 hf => ?_)
    refine clV_i0 (As := [.int t4]) (rest := []) FX hw (wX0_gives h_t5) (cwV 1 FX.2.2.2.2 (lw_V q962 q964 qs16 q134 q965) rfl rfl rfl (by decide +kernel) ⟨Nat.le_of_ble_eq_true rfl, Nat.le_of_ble_eq_true rfl⟩) (fx_obj hw (o := (131, 0, 100, 31)) (by decide)) rfl rfl hl.1 rfl (lv_room (Nat.le_of_ble_eq_true rfl)) dX0_lump_27 ⟨rfl, rfl⟩ ⟨Nat.zero_le _, Nat.zero_le _⟩ (fun H locs hw => ?_)
    exact hret _ _ rfl (congrArg (fun z => z.1) (Option.some.inj hf)) (congrArg (fun z => (M, z.2, K.1, K.2.1)) (Option.some.inj hf)) hw dX0_lump_30
  · have hf := it_neg c_7 hf
    refine lv_aload_n FX.1 FX.2.1 dX0_lump_10 rfl (lv_at hl 1 rfl) ?_
    refine lv_iload_n FX.1 FX.2.1 dX0_lump_11 rfl (lv_at hl 0 rfl) ?_
    refine bd hf (fun t6 h_t6 hf => ?_)
    refine clV_i0 (As := [.int t1]) (rest := []) FX hw (wX0_none h_t6) (cwV 1 FX.2.2.2.2 (lw_V q620 q622 qs3 q134 q623) rfl rfl rfl (by decide +kernel) ⟨Nat.le_of_ble_eq_true rfl, Nat.le_of_ble_eq_true rfl⟩) (fx_obj hw (o := (131, 0, 100, 31)) (by decide)) rfl rfl hl.1 rfl (lv_room (Nat.le_of_ble_eq_true rfl)) dX0_lump_12 ⟨rfl, rfl⟩ ⟨Nat.zero_le _, Nat.zero_le _⟩ (fun H locs hw => ?_)
    refine lv_goto (tgt := 30) FX.1 FX.2.1 dX0_lump_15 (by decide) ?_
    exact hret _ _ rfl (congrArg (fun z => z.1) (Option.some.inj hf)) (congrArg (fun z => (M, z.2, K.1, K.2.1)) (Option.some.inj hf)) hw dX0_lump_30
abbrev rmX4_largest : Room := { frames := 7, cells := 0, slots := 0, locals := 424 }
set_option maxHeartbeats 4000000 in
theorem wX4_largest {l : Launch} {G : GT} {M C : FS} {K : KT} {a : Nat} {t : Int32} (hf : fX4_largest K a = some t) : CtI l yX4_largest (ws_ yX4_largest cX4_largest 3 (some .int)) rmX4_largest G [.ref a] (M, C, K.1, K.2.1) t (M, C, K.1, K.2.1) := by
  refine mkI (ty := .int) (by decide) (Nat.le_of_ble_eq_true rfl) (fun p e s m a0 below meth c Q FX hw hname hret ls hl => ?_)
  have hl : lv_has ls 3 [(0, .ref a)] := hl
  unfold fX4_largest at hf
  refine lv_iconst (v := 0) FX.1 FX.2.1 dX4_largest_0 (by decide) ?_
  refine lv_istore_n (lv' := [(1, .int 0), (0, .ref a)]) FX.1 FX.2.1 dX4_largest_1 rfl hl (by decide) rfl (fun ls hl => ?_)
  refine lv_iconst (v := 0) FX.1 FX.2.1 dX4_largest_2 (by decide) ?_
  refine lv_istore_n (lv' := [(2, .int 0), (1, .int 0), (0, .ref a)]) FX.1 FX.2.1 dX4_largest_3 rfl hl (by decide) rfl (fun ls hl => ?_)
  refine bd hf (fun u4 ht hf => ?_)
  obtain ⟨n, hn⟩ := lp_iff.mp ht
  have hX4 : ∀ (t4_1 : Int32) (H : Heap) (locs : List Loc) (ls : Array Slot) , t4_1 = u4 → WS G (M, C, K.1, K.2.1) s H locs → lv_has ls 3 [(1, .int t4_1)] → W p l e rmX4_largest s m a0 below meth c H locs 0 0 Q (F0 m 43 ls []) := by
    intro t4_1 H locs ls he hw hl
    subst he
    refine lv_iload_n FX.1 FX.2.1 dX4_largest_43 rfl (lv_at hl 0 rfl) ?_
    exact hret _ _ rfl (congrArg (fun z => z) (Option.some.inj hf)) rfl hw dX4_largest_44
  have hL4 : ∀ (n : Nat) (z4_1 : Int32) (z4_2 : Int32) (H : Heap) (locs : List Loc) (ls : Array Slot) , lpN (fun z => fX4_largest_L4 K a z.1 z.2) n (z4_1, z4_2) = some u4 → WS G (M, C, K.1, K.2.1) s H locs → lv_has ls 3 [(0, .ref a), (1, .int z4_1), (2, .int z4_2)] → W p l e rmX4_largest s m a0 below meth c H locs 0 0 Q (F0 m 4 ls []) := by
    intro n
    induction n with
    | zero => intro z4_1 z4_2 H locs ls hz; cases hz
    | succ n ih =>
      intro z4_1 z4_2 H locs ls hz hw hl
      refine bd (show (fX4_largest_L4 K a z4_1 z4_2).bind _ = some u4 from hz) (fun x4 hf hk4 => ?_)
      unfold fX4_largest_L4 at hf
      refine lv_iload_n FX.1 FX.2.1 dX4_largest_4 rfl (lv_at hl 2 rfl) ?_
      refine lv_aload_n FX.1 FX.2.1 dX4_largest_5 rfl (lv_at hl 0 rfl) ?_
      refine bd hf (fun v1 h_v1 hf => ?_)
      refine gX4_37 FX hw h_v1 dX4_largest_6 ?_
      refine lv_icmp_ge (tgt := 43) FX.1 FX.2.1 dX4_largest_9 (by decide) (fun c_9 => ?_) (fun c_9 => ?_)
      · have hf := it_pos c_9 hf
        exact hX4 _ _ _ _ (lpe hf hk4) hw (lv_sub hl [1] rfl)
      · have hf := it_neg c_9 hf
        refine lv_aload_n FX.1 FX.2.1 dX4_largest_12 rfl (lv_at hl 0 rfl) ?_
        refine bd hf (fun a2 h_a2 hf => ?_)
        refine gX4_11 FX hw h_a2 dX4_largest_13 ?_
        refine lv_iload_n FX.1 FX.2.1 dX4_largest_16 rfl (lv_at hl 2 rfl) ?_
        refine bd hf (fun a3 h_a3 hf => ?_)
        refine ei_aald 5 rfl FX hw h_a3 dX4_largest_17 ?_
        refine bd hf (fun v4 h_v4 hf => ?_)
        refine gX4_70 FX hw h_v4 dX4_largest_18 ?_
        refine lv_if_ne (tgt := 37) FX.1 FX.2.1 dX4_largest_21 (by decide) (fun c_21 => ?_) (fun c_21 => ?_)
        · have hf := it_neg c_21 hf
          refine lv_iinc (v := (z4_2 + 1)) (lv' := [(2, .int (z4_2 + 1)), (0, .ref a), (1, .int z4_1)]) FX.1 FX.2.1 dX4_largest_37 hl (k := 2) rfl (congrArg (fun q : Int32 => z4_2 + q) (by decide : Int32.ofInt 1 = 1)) (by decide) rfl (fun ls hl => ?_)
          refine lv_goto (tgt := 4) FX.1 FX.2.1 dX4_largest_40 (by decide) ?_
          exact ih _ _ _ _ _ (lpc hf hk4) hw (lv_sub hl [1, 2, 0] rfl)
        · have hf := it_pos c_21 hf
          refine lv_iload_n FX.1 FX.2.1 dX4_largest_24 rfl (lv_at hl 1 rfl) ?_
          refine lv_aload_n FX.1 FX.2.1 dX4_largest_25 rfl (lv_at hl 0 rfl) ?_
          refine lv_iload_n FX.1 FX.2.1 dX4_largest_26 rfl (lv_at hl 2 rfl) ?_
          refine bd hf (fun g5 h_g5 hf => ?_)
          refine bd hf (fun t6 h_t6 hf => ?_)
          obtain ⟨fs_g5, he_g5⟩ := dC_some (gC_some h_g5)
          refine clV_i0 (As := [.int z4_2]) (rest := [.int z4_1]) FX hw (wX4_lump h_t6) (cwV 1 FX.2.2.2.2 (lw_V q1201 q1202 q1203 q141 q1204) rfl rfl rfl (by decide +kernel) ⟨Nat.le_of_ble_eq_true rfl, Nat.le_of_ble_eq_true rfl⟩) (dyn_he hw he_g5) rfl rfl hl.1 rfl (lv_room (Nat.le_of_ble_eq_true rfl)) dX4_largest_27 ⟨rfl, rfl⟩ ⟨Nat.zero_le _, Nat.zero_le _⟩ (fun H locs hw => ?_)
          refine bd hf (fun t7 h_t7 hf => ?_)
          refine clS_i0 (As := [.int t6]) (rest := [.int z4_1]) FX hw (wJ12_bitCount h_t7) (va_cwS 1 FX.2.2.2.2 (lw_S q1229 q1230 q161 q1231) rfl rfl rfl (by decide +kernel) ⟨Nat.le_of_ble_eq_true rfl, Nat.le_of_ble_eq_true rfl⟩) rfl hl.1 rfl (lv_room (Nat.le_of_ble_eq_true rfl)) dX4_largest_30 ⟨rfl, rfl⟩ ⟨Nat.zero_le _, Nat.zero_le _⟩ (fun H locs hw => ?_)
          refine va_mmax FX.1 FX.2.1 (FX.2.2.1.trans hl.1.symm) FX.2.2.2.1 (FX.2.2.2.2 _ q1306) (FX.2.2.2.2 _ q1059) (FX.2.2.2.2 _ q150) (FX.2.2.2.2 _ q1060) (Nat.le_of_ble_eq_true rfl) (Nat.le_of_ble_eq_true rfl) (Nat.le_of_ble_eq_true rfl) (Nat.le_of_ble_eq_true rfl) dX4_largest_33 ?_
          refine lv_istore_n (lv' := [(1, .int (if z4_1 < t7 then t7 else z4_1)), (0, .ref a), (2, .int z4_2)]) FX.1 FX.2.1 dX4_largest_36 rfl hl (by decide) rfl (fun ls hl => ?_)
          refine lv_iinc (v := (z4_2 + 1)) (lv' := [(2, .int (z4_2 + 1)), (1, .int (if z4_1 < t7 then t7 else z4_1)), (0, .ref a)]) FX.1 FX.2.1 dX4_largest_37 hl (k := 2) rfl (congrArg (fun q : Int32 => z4_2 + q) (by decide : Int32.ofInt 1 = 1)) (by decide) rfl (fun ls hl => ?_)
          refine lv_goto (tgt := 4) FX.1 FX.2.1 dX4_largest_40 (by decide) ?_
          exact ih _ _ _ _ _ (lpc hf hk4) hw (lv_sub hl [2, 1, 0] rfl)
  exact hL4 n _ _ _ _ _ hn hw (lv_sub hl [2, 1, 0] rfl)
abbrev rmX4_comes : Room := { frames := 7, cells := 0, slots := 0, locals := 424 }
set_option maxHeartbeats 4000000 in
theorem wX4_comes {l : Launch} {G : GT} {M C : FS} {K : KT} {a : Nat} {p1 : Int32} {t : Int32} (hf : fX4_comes K a p1 = some t) : CtI l yX4_comes (ws_ yX4_comes cX4_comes 2 (some .boolean)) rmX4_comes G [.ref a, .int p1] (M, C, K.1, K.2.1) t (M, C, K.1, K.2.1) := by
  refine mkI (ty := .boolean) (by decide) (Nat.le_of_ble_eq_true rfl) (fun p e s m a0 below meth c Q FX hw hname hret ls hl => ?_)
  have hl : lv_has ls 2 [(0, .ref a), (1, .int p1)] := hl
  unfold fX4_comes at hf
  refine lv_aload_n FX.1 FX.2.1 dX4_comes_0 rfl (lv_at hl 0 rfl) ?_
  refine lv_iload_n FX.1 FX.2.1 dX4_comes_1 rfl (lv_at hl 1 rfl) ?_
  refine bd hf (fun g1 h_g1 hf => ?_)
  refine bd hf (fun t2 h_t2 hf => ?_)
  obtain ⟨fs_g1, he_g1⟩ := dC_some (gC_some h_g1)
  refine clV_i0 (As := [.int p1]) (rest := []) FX hw (wX4_lump h_t2) (cwV 1 FX.2.2.2.2 (lw_V q1201 q1202 q1203 q141 q1204) rfl rfl rfl (by decide +kernel) ⟨Nat.le_of_ble_eq_true rfl, Nat.le_of_ble_eq_true rfl⟩) (dyn_he hw he_g1) rfl rfl hl.1 rfl (lv_room (Nat.le_of_ble_eq_true rfl)) dX4_comes_2 ⟨rfl, rfl⟩ ⟨Nat.zero_le _, Nat.zero_le _⟩ (fun H locs hw => ?_)
  refine lv_iconst (v := 1) FX.1 FX.2.1 dX4_comes_5 (by decide) ?_
  refine lv_iload_n FX.1 FX.2.1 dX4_comes_6 rfl (lv_at hl 1 rfl) ?_
  refine lv_ishl FX.1 FX.2.1 dX4_comes_7 ?_
  refine lv_icmp_ne (tgt := 15) FX.1 FX.2.1 dX4_comes_8 (by decide) (fun c_8 => ?_) (fun c_8 => ?_)
  · have hf := it_neg c_8 hf
    refine lv_iconst (v := 0) FX.1 FX.2.1 dX4_comes_15 (by decide) ?_
    exact hret _ _ rfl (congrArg (fun z => z) (Option.some.inj hf)) rfl hw dX4_comes_16
  · have hf := it_pos c_8 hf
    refine lv_iconst (v := 1) FX.1 FX.2.1 dX4_comes_11 (by decide) ?_
    refine lv_goto (tgt := 16) FX.1 FX.2.1 dX4_comes_12 (by decide) ?_
    exact hret _ _ rfl (congrArg (fun z => z) (Option.some.inj hf)) rfl hw dX4_comes_16
abbrev rmX0_lumps : Room := { frames := 8, cells := 0, slots := 0, locals := 446 }
set_option maxHeartbeats 4000000 in
theorem wX0_lumps {l : Launch} {G : GT} {M C : FS} {K : KT} {p1 : Int32} {t : (Int32 × FS)} (hf : fX0_lumps C K p1 = some t) : CtI l yX0_lumps (ws_ yX0_lumps cX0_lumps 4 (some .int)) rmX0_lumps G [.ref (G.2.2.2 131), .int p1] (M, C, K.1, K.2.1) t.1 (M, t.2, K.1, K.2.1) := by
  refine mkI (ty := .int) (by decide) (Nat.le_of_ble_eq_true rfl) (fun p e s m a0 below meth c Q FX hw hname hret ls hl => ?_)
  have hl : lv_has ls 4 [(0, .ref (G.2.2.2 131)), (1, .int p1)] := hl
  unfold fX0_lumps at hf
  refine lv_iload_n FX.1 FX.2.1 dX0_lumps_0 rfl (lv_at hl 1 rfl) ?_
  refine lv_i2l (v := p1.toInt64) FX.1 FX.2.1 dX0_lumps_1 rfl ?_
  refine lv_lconst (v := 0) FX.1 FX.2.1 dX0_lumps_2 (by decide) ?_
  refine lv_lconst (v := 1) FX.1 FX.2.1 dX0_lumps_3 (by decide) ?_
  refine bd hf (fun t1 h_t1 hf => ?_)
  refine clS_i0 (As := [.long p1.toInt64, .long 0, .long 1]) (rest := []) FX hw (wX0_isFrom h_t1) (va_cwS 3 FX.2.2.2.2 (lw_S q1119 q1120 q134 q1121) rfl rfl rfl (by decide +kernel) ⟨Nat.le_of_ble_eq_true rfl, Nat.le_of_ble_eq_true rfl⟩) rfl hl.1 rfl (lv_room (Nat.le_of_ble_eq_true rfl)) dX0_lumps_4 ⟨rfl, rfl⟩ ⟨Nat.zero_le _, Nat.zero_le _⟩ (fun H locs hw => ?_)
  refine lv_if_ne (tgt := 16) FX.1 FX.2.1 dX0_lumps_7 (by decide) (fun c_7 => ?_) (fun c_7 => ?_)
  · have hf := it_neg c_7 hf
    refine lv_iload_n FX.1 FX.2.1 dX0_lumps_16 rfl (lv_at hl 1 rfl) ?_
    refine lv_iconst (v := 1) FX.1 FX.2.1 dX0_lumps_17 (by decide) ?_
    refine lv_icmp_ne (tgt := 33) FX.1 FX.2.1 dX0_lumps_18 (by decide) (fun c_18 => ?_) (fun c_18 => ?_)
    · have hf := it_neg c_18 hf
      refine lv_iconst (v := 0) FX.1 FX.2.1 dX0_lumps_33 (by decide) ?_
      refine lv_istore_n (lv' := [(2, .int 0), (0, .ref (G.2.2.2 131)), (1, .int p1)]) FX.1 FX.2.1 dX0_lumps_34 rfl hl (by decide) rfl (fun ls hl => ?_)
      refine lv_iconst (v := 0) FX.1 FX.2.1 dX0_lumps_35 (by decide) ?_
      refine lv_istore_n (lv' := [(3, .int 0), (2, .int 0), (0, .ref (G.2.2.2 131)), (1, .int p1)]) FX.1 FX.2.1 dX0_lumps_36 rfl hl (by decide) rfl (fun ls hl => ?_)
      refine bd hf (fun u37 ht hf => ?_)
      obtain ⟨n, hn⟩ := lp_iff.mp ht
      have hX37 : ∀ (t37_2 : Int32) (H : Heap) (locs : List Loc) (ls : Array Slot) , t37_2 = u37 → WS G (M, C, K.1, K.2.1) s H locs → lv_has ls 4 [(0, .ref (G.2.2.2 131)), (2, .int t37_2)] → W p l e rmX0_lumps s m a0 below meth c H locs 0 0 Q (F0 m 108 ls []) := by
        intro t37_2 H locs ls he hw hl
        subst he
        refine lv_aload_n FX.1 FX.2.1 dX0_lumps_108 rfl (lv_at hl 0 rfl) ?_
        refine lv_iload_n FX.1 FX.2.1 dX0_lumps_109 rfl (lv_at hl 1 rfl) ?_
        refine bd hf (fun t14 h_t14 hf => ?_)
        refine clV_i0 (As := [.int t37_2]) (rest := []) FX hw (wX0_gives h_t14) (cwV 1 FX.2.2.2.2 (lw_V q962 q964 qs16 q134 q965) rfl rfl rfl (by decide +kernel) ⟨Nat.le_of_ble_eq_true rfl, Nat.le_of_ble_eq_true rfl⟩) (fx_obj hw (o := (131, 0, 100, 31)) (by decide)) rfl rfl hl.1 rfl (lv_room (Nat.le_of_ble_eq_true rfl)) dX0_lumps_110 ⟨rfl, rfl⟩ ⟨Nat.zero_le _, Nat.zero_le _⟩ (fun H locs hw => ?_)
        exact hret _ _ rfl (congrArg (fun z => z.1) (Option.some.inj hf)) (congrArg (fun z => (M, z.2, K.1, K.2.1)) (Option.some.inj hf)) hw dX0_lumps_113
      have hL37 : ∀ (n : Nat) (z37_2 : Int32) (z37_3 : Int32) (H : Heap) (locs : List Loc) (ls : Array Slot) , lpN (fun z => fX0_lumps_L37 C K z.1 z.2) n (z37_2, z37_3) = some u37 → WS G (M, C, K.1, K.2.1) s H locs → lv_has ls 4 [(0, .ref (G.2.2.2 131)), (2, .int z37_2), (3, .int z37_3)] → W p l e rmX0_lumps s m a0 below meth c H locs 0 0 Q (F0 m 37 ls []) := by
        intro n
        induction n with
        | zero => intro z37_2 z37_3 H locs ls hz; cases hz
        | succ n ih =>
          intro z37_2 z37_3 H locs ls hz hw hl
          refine bd (show (fX0_lumps_L37 C K z37_2 z37_3).bind _ = some u37 from hz) (fun x37 hf hk37 => ?_)
          unfold fX0_lumps_L37 at hf
          refine lv_iload_n FX.1 FX.2.1 dX0_lumps_37 rfl (lv_at hl 2 rfl) ?_
          refine lv_aload_n FX.1 FX.2.1 dX0_lumps_38 rfl (lv_at hl 0 rfl) ?_
          refine gX0_38 FX hw dX0_lumps_39 ?_
          refine bd hf (fun a2 h_a2 hf => ?_)
          rw [show va_rf (C.2.2.1 103) = .ref a2 from congrArg va_rf h_a2]
          refine bd hf (fun v3 h_v3 hf => ?_)
          refine gX0_152 FX hw h_v3 dX0_lumps_42 ?_
          refine lv_icmp_ge (tgt := 108) FX.1 FX.2.1 dX0_lumps_45 (by decide) (fun c_45 => ?_) (fun c_45 => ?_)
          · have hf := it_pos c_45 hf
            exact hX37 _ _ _ _ (lpe hf hk37) hw (lv_sub hl [0, 1] rfl)
          · have hf := it_neg c_45 hf
            refine lv_aload_n FX.1 FX.2.1 dX0_lumps_48 rfl (lv_at hl 0 rfl) ?_
            refine gX0_38 FX hw dX0_lumps_49 ?_
            refine bd hf (fun a4 h_a4 hf => ?_)
            rw [show va_rf (C.2.2.1 103) = .ref a4 from congrArg va_rf h_a4]
            refine bd hf (fun a5 h_a5 hf => ?_)
            refine gX0_161 FX hw h_a5 dX0_lumps_52 ?_
            refine lv_iload_n FX.1 FX.2.1 dX0_lumps_55 rfl (lv_at hl 2 rfl) ?_
            refine bd hf (fun a6 h_a6 hf => ?_)
            refine ei_aald 5 rfl FX hw h_a6 dX0_lumps_56 ?_
            refine bd hf (fun v7 h_v7 hf => ?_)
            refine gX0_165 FX hw h_v7 dX0_lumps_57 ?_
            refine lv_if_ne (tgt := 102) FX.1 FX.2.1 dX0_lumps_60 (by decide) (fun c_60 => ?_) (fun c_60 => ?_)
            · have hf := it_neg c_60 hf
              refine lv_iinc (v := (z37_3 + 1)) (lv' := [(3, .int (z37_3 + 1)), (0, .ref (G.2.2.2 131)), (2, .int z37_2)]) FX.1 FX.2.1 dX0_lumps_102 hl (k := 2) rfl (congrArg (fun q : Int32 => z37_3 + q) (by decide : Int32.ofInt 1 = 1)) (by decide) rfl (fun ls hl => ?_)
              refine lv_goto (tgt := 37) FX.1 FX.2.1 dX0_lumps_105 (by decide) ?_
              exact ih _ _ _ _ _ (lpc hf hk37) hw (lv_sub hl [1, 2, 0] rfl)
            · have hf := it_pos c_60 hf
              refine lv_aload_n FX.1 FX.2.1 dX0_lumps_63 rfl (lv_at hl 0 rfl) ?_
              refine gX0_38 FX hw dX0_lumps_64 ?_
              refine bd hf (fun a8 h_a8 hf => ?_)
              rw [show va_rf (C.2.2.1 103) = .ref a8 from congrArg va_rf h_a8]
              refine lv_iload_n FX.1 FX.2.1 dX0_lumps_67 rfl (lv_at hl 2 rfl) ?_
              refine bd hf (fun g9 h_g9 hf => ?_)
              refine bd hf (fun t10 h_t10 hf => ?_)
              obtain ⟨fs_g9, he_g9⟩ := dC_some (gC_some h_g9)
              refine clV_i0 (As := [.int z37_3]) (rest := []) FX hw (wX4_comes h_t10) (cwV 1 FX.2.2.2.2 (lw_V q1307 q1308 q1309 q141 q1310) rfl rfl rfl (by decide +kernel) ⟨Nat.le_of_ble_eq_true rfl, Nat.le_of_ble_eq_true rfl⟩) (dyn_he hw he_g9) rfl rfl hl.1 rfl (lv_room (Nat.le_of_ble_eq_true rfl)) dX0_lumps_68 ⟨rfl, rfl⟩ ⟨Nat.zero_le _, Nat.zero_le _⟩ (fun H locs hw => ?_)
              refine lv_if_eq (tgt := 77) FX.1 FX.2.1 dX0_lumps_71 (by decide) (fun c_71 => ?_) (fun c_71 => ?_)
              · have hf := it_pos c_71 hf
                refine lv_iload_n FX.1 FX.2.1 dX0_lumps_77 rfl (lv_at hl 1 rfl) ?_
                refine lv_aload_n FX.1 FX.2.1 dX0_lumps_78 rfl (lv_at hl 0 rfl) ?_
                refine gX0_38 FX hw dX0_lumps_79 ?_
                refine bd hf (fun a11 h_a11 hf => ?_)
                rw [show va_rf (C.2.2.1 103) = .ref a11 from congrArg va_rf h_a11]
                refine lv_iload_n FX.1 FX.2.1 dX0_lumps_82 rfl (lv_at hl 2 rfl) ?_
                refine bd hf (fun g12 h_g12 hf => ?_)
                refine bd hf (fun t13 h_t13 hf => ?_)
                obtain ⟨fs_g12, he_g12⟩ := dC_some (gC_some h_g12)
                refine clV_i0 (As := [.int z37_3]) (rest := [.int z37_2]) FX hw (wX4_lump h_t13) (cwV 1 FX.2.2.2.2 (lw_V q1297 q1202 q1203 q141 q1204) rfl rfl rfl (by decide +kernel) ⟨Nat.le_of_ble_eq_true rfl, Nat.le_of_ble_eq_true rfl⟩) (dyn_he hw he_g12) rfl rfl hl.1 rfl (lv_room (Nat.le_of_ble_eq_true rfl)) dX0_lumps_83 ⟨rfl, rfl⟩ ⟨Nat.zero_le _, Nat.zero_le _⟩ (fun H locs hw => ?_)
                refine lv_iconst (v := 1) FX.1 FX.2.1 dX0_lumps_86 (by decide) ?_
                refine lv_iload_n FX.1 FX.2.1 dX0_lumps_87 rfl (lv_at hl 2 rfl) ?_
                refine lv_ishl FX.1 FX.2.1 dX0_lumps_88 ?_
                refine lv_iconst (v := 1) FX.1 FX.2.1 dX0_lumps_89 (by decide) ?_
                refine lv_isub FX.1 FX.2.1 dX0_lumps_90 ?_
                refine lv_iand FX.1 FX.2.1 dX0_lumps_91 ?_
                refine lv_if_ne (tgt := 99) FX.1 FX.2.1 dX0_lumps_92 (by decide) (fun c_92 => ?_) (fun c_92 => ?_)
                · have hf := it_neg c_92 hf
                  refine lv_iconst (v := 0) FX.1 FX.2.1 dX0_lumps_99 (by decide) ?_
                  refine lv_iadd FX.1 FX.2.1 dX0_lumps_100 ?_
                  refine lv_istore_n (lv' := [(2, .int (z37_2 + 0)), (0, .ref (G.2.2.2 131)), (3, .int z37_3)]) FX.1 FX.2.1 dX0_lumps_101 rfl hl (by decide) rfl (fun ls hl => ?_)
                  refine lv_iinc (v := (z37_3 + 1)) (lv' := [(3, .int (z37_3 + 1)), (2, .int (z37_2 + 0)), (0, .ref (G.2.2.2 131))]) FX.1 FX.2.1 dX0_lumps_102 hl (k := 2) rfl (congrArg (fun q : Int32 => z37_3 + q) (by decide : Int32.ofInt 1 = 1)) (by decide) rfl (fun ls hl => ?_)
                  refine lv_goto (tgt := 37) FX.1 FX.2.1 dX0_lumps_105 (by decide) ?_
                  exact ih _ _ _ _ _ (lpc hf hk37) hw (lv_sub hl [2, 1, 0] rfl)
                · have hf := it_pos c_92 hf
                  refine lv_iconst (v := 1) FX.1 FX.2.1 dX0_lumps_95 (by decide) ?_
                  refine lv_goto (tgt := 100) FX.1 FX.2.1 dX0_lumps_96 (by decide) ?_
                  refine lv_iadd FX.1 FX.2.1 dX0_lumps_100 ?_
                  refine lv_istore_n (lv' := [(2, .int (z37_2 + 1)), (0, .ref (G.2.2.2 131)), (3, .int z37_3)]) FX.1 FX.2.1 dX0_lumps_101 rfl hl (by decide) rfl (fun ls hl => ?_)
                  refine lv_iinc (v := (z37_3 + 1)) (lv' := [(3, .int (z37_3 + 1)), (2, .int (z37_2 + 1)), (0, .ref (G.2.2.2 131))]) FX.1 FX.2.1 dX0_lumps_102 hl (k := 2) rfl (congrArg (fun q : Int32 => z37_3 + q) (by decide : Int32.ofInt 1 = 1)) (by decide) rfl (fun ls hl => ?_)
                  refine lv_goto (tgt := 37) FX.1 FX.2.1 dX0_lumps_105 (by decide) ?_
                  exact ih _ _ _ _ _ (lpc hf hk37) hw (lv_sub hl [2, 1, 0] rfl)
              · have hf := it_neg c_71 hf
                refine lv_goto (tgt := 102) FX.1 FX.2.1 dX0_lumps_74 (by decide) ?_
                refine lv_iinc (v := (z37_3 + 1)) (lv' := [(3, .int (z37_3 + 1)), (0, .ref (G.2.2.2 131)), (2, .int z37_2)]) FX.1 FX.2.1 dX0_lumps_102 hl (k := 2) rfl (congrArg (fun q : Int32 => z37_3 + q) (by decide : Int32.ofInt 1 = 1)) (by decide) rfl (fun ls hl => ?_)
                refine lv_goto (tgt := 37) FX.1 FX.2.1 dX0_lumps_105 (by decide) ?_
                exact ih _ _ _ _ _ (lpc hf hk37) hw (lv_sub hl [1, 2, 0] rfl)
      exact hL37 n _ _ _ _ _ hn hw (lv_sub hl [2, 1, 0] rfl)
    · have hf := it_pos c_18 hf
      refine lv_aload_n FX.1 FX.2.1 dX0_lumps_21 rfl (lv_at hl 0 rfl) ?_
      refine lv_aload_n FX.1 FX.2.1 dX0_lumps_22 rfl (lv_at hl 0 rfl) ?_
      refine gX0_38 FX hw dX0_lumps_23 ?_
      refine bd hf (fun a15 h_a15 hf => ?_)
      rw [show va_rf (C.2.2.1 103) = .ref a15 from congrArg va_rf h_a15]
      refine bd hf (fun g16 h_g16 hf => ?_)
      refine bd hf (fun t17 h_t17 hf => ?_)
      obtain ⟨fs_g16, he_g16⟩ := dC_some (gC_some h_g16)
      refine clV_i0 (As := []) (rest := [.ref (G.2.2.2 131)]) FX hw (wX4_largest h_t17) (cwV 0 FX.2.2.2.2 (lw_V q1302 q1303 q1304 q141 q1305) rfl rfl rfl (by decide +kernel) ⟨Nat.le_of_ble_eq_true rfl, Nat.le_of_ble_eq_true rfl⟩) (dyn_he hw he_g16) rfl rfl hl.1 rfl (lv_room (Nat.le_of_ble_eq_true rfl)) dX0_lumps_26 ⟨rfl, rfl⟩ ⟨Nat.zero_le _, Nat.zero_le _⟩ (fun H locs hw => ?_)
      refine bd hf (fun t18 h_t18 hf => ?_)
      refine clV_i0 (As := [.int t17]) (rest := []) FX hw (wX0_gives h_t18) (cwV 1 FX.2.2.2.2 (lw_V q962 q964 qs16 q134 q965) rfl rfl rfl (by decide +kernel) ⟨Nat.le_of_ble_eq_true rfl, Nat.le_of_ble_eq_true rfl⟩) (fx_obj hw (o := (131, 0, 100, 31)) (by decide)) rfl rfl hl.1 rfl (lv_room (Nat.le_of_ble_eq_true rfl)) dX0_lumps_29 ⟨rfl, rfl⟩ ⟨Nat.zero_le _, Nat.zero_le _⟩ (fun H locs hw => ?_)
      exact hret _ _ rfl (congrArg (fun z => z.1) (Option.some.inj hf)) (congrArg (fun z => (M, z.2, K.1, K.2.1)) (Option.some.inj hf)) hw dX0_lumps_32
  · have hf := it_pos c_7 hf
    refine lv_aload_n FX.1 FX.2.1 dX0_lumps_10 rfl (lv_at hl 0 rfl) ?_
    refine lv_iconst (v := 5) FX.1 FX.2.1 dX0_lumps_11 (by decide) ?_
    refine bd hf (fun t19 h_t19 hf => ?_)
    refine clV_i0 (As := [.int 5]) (rest := []) FX hw (wX0_none h_t19) (cwV 1 FX.2.2.2.2 (lw_V q620 q622 qs3 q134 q623) rfl rfl rfl (by decide +kernel) ⟨Nat.le_of_ble_eq_true rfl, Nat.le_of_ble_eq_true rfl⟩) (fx_obj hw (o := (131, 0, 100, 31)) (by decide)) rfl rfl hl.1 rfl (lv_room (Nat.le_of_ble_eq_true rfl)) dX0_lumps_12 ⟨rfl, rfl⟩ ⟨Nat.zero_le _, Nat.zero_le _⟩ (fun H locs hw => ?_)
    exact hret _ _ rfl (congrArg (fun z => z.1) (Option.some.inj hf)) (congrArg (fun z => (M, z.2, K.1, K.2.1)) (Option.some.inj hf)) hw dX0_lumps_15
abbrev rmX0_comes : Room := { frames := 8, cells := 0, slots := 0, locals := 445 }
set_option maxHeartbeats 4000000 in
theorem wX0_comes {l : Launch} {G : GT} {M C : FS} {K : KT} {p1 : Int32} {t : (Int32 × FS)} (hf : fX0_comes C K p1 = some t) : CtI l yX0_comes (ws_ yX0_comes cX0_comes 3 (some .int)) rmX0_comes G [.ref (G.2.2.2 131), .int p1] (M, C, K.1, K.2.1) t.1 (M, t.2, K.1, K.2.1) := by
  refine mkI (ty := .int) (by decide) (Nat.le_of_ble_eq_true rfl) (fun p e s m a0 below meth c Q FX hw hname hret ls hl => ?_)
  have hl : lv_has ls 3 [(0, .ref (G.2.2.2 131)), (1, .int p1)] := hl
  unfold fX0_comes at hf
  refine lv_aload_n FX.1 FX.2.1 dX0_comes_0 rfl (lv_at hl 0 rfl) ?_
  refine lv_iload_n FX.1 FX.2.1 dX0_comes_1 rfl (lv_at hl 1 rfl) ?_
  refine bd hf (fun t1 h_t1 hf => ?_)
  refine clV_i0 (As := [.int p1]) (rest := []) FX hw (wX0_wrongLead h_t1) (cwV 1 FX.2.2.2.2 (lw_V q1193 q1195 qs24 q134 q1196) rfl rfl rfl (by decide +kernel) ⟨Nat.le_of_ble_eq_true rfl, Nat.le_of_ble_eq_true rfl⟩) (fx_obj hw (o := (131, 0, 100, 31)) (by decide)) rfl rfl hl.1 rfl (lv_room (Nat.le_of_ble_eq_true rfl)) dX0_comes_2 ⟨rfl, rfl⟩ ⟨Nat.zero_le _, Nat.zero_le _⟩ (fun H locs hw => ?_)
  refine lv_istore_n (lv' := [(2, .int t1), (0, .ref (G.2.2.2 131)), (1, .int p1)]) FX.1 FX.2.1 dX0_comes_5 rfl hl (by decide) rfl (fun ls hl => ?_)
  refine lv_iload_n FX.1 FX.2.1 dX0_comes_6 rfl (lv_at hl 0 rfl) ?_
  refine lv_if_le (tgt := 18) FX.1 FX.2.1 dX0_comes_7 (by decide) (fun c_7 => ?_) (fun c_7 => ?_)
  · have hf := it_pos c_7 hf
    refine lv_aload_n FX.1 FX.2.1 dX0_comes_18 rfl (lv_at hl 1 rfl) ?_
    refine lv_aload_n FX.1 FX.2.1 dX0_comes_19 rfl (lv_at hl 1 rfl) ?_
    refine gX0_38 FX hw dX0_comes_20 ?_
    refine bd hf (fun a2 h_a2 hf => ?_)
    rw [show va_rf (C.2.2.1 103) = .ref a2 from congrArg va_rf h_a2]
    refine lv_iload_n FX.1 FX.2.1 dX0_comes_23 rfl (lv_at hl 2 rfl) ?_
    refine bd hf (fun g3 h_g3 hf => ?_)
    refine bd hf (fun t4 h_t4 hf => ?_)
    obtain ⟨fs_g3, he_g3⟩ := dC_some (gC_some h_g3)
    refine clV_i0 (As := [.int p1]) (rest := [.ref (G.2.2.2 131)]) FX hw (wX4_comes h_t4) (cwV 1 FX.2.2.2.2 (lw_V q1307 q1308 q1309 q141 q1310) rfl rfl rfl (by decide +kernel) ⟨Nat.le_of_ble_eq_true rfl, Nat.le_of_ble_eq_true rfl⟩) (dyn_he hw he_g3) rfl rfl hl.1 rfl (lv_room (Nat.le_of_ble_eq_true rfl)) dX0_comes_24 ⟨rfl, rfl⟩ ⟨Nat.zero_le _, Nat.zero_le _⟩ (fun H locs hw => ?_)
    refine lv_if_eq (tgt := 34) FX.1 FX.2.1 dX0_comes_27 (by decide) (fun c_27 => ?_) (fun c_27 => ?_)
    · have hf := it_pos c_27 hf
      refine lv_iconst (v := 0) FX.1 FX.2.1 dX0_comes_34 (by decide) ?_
      refine bd hf (fun t5 h_t5 hf => ?_)
      refine clV_i0 (As := [.int 0]) (rest := []) FX hw (wX0_gives h_t5) (cwV 1 FX.2.2.2.2 (lw_V q962 q964 qs16 q134 q965) rfl rfl rfl (by decide +kernel) ⟨Nat.le_of_ble_eq_true rfl, Nat.le_of_ble_eq_true rfl⟩) (fx_obj hw (o := (131, 0, 100, 31)) (by decide)) rfl rfl hl.1 rfl (lv_room (Nat.le_of_ble_eq_true rfl)) dX0_comes_35 ⟨rfl, rfl⟩ ⟨Nat.zero_le _, Nat.zero_le _⟩ (fun H locs hw => ?_)
      exact hret _ _ rfl (congrArg (fun z => z.1) (Option.some.inj hf)) (congrArg (fun z => (M, z.2, K.1, K.2.1)) (Option.some.inj hf)) hw dX0_comes_38
    · have hf := it_neg c_27 hf
      refine lv_iconst (v := 1) FX.1 FX.2.1 dX0_comes_30 (by decide) ?_
      refine lv_goto (tgt := 35) FX.1 FX.2.1 dX0_comes_31 (by decide) ?_
      refine bd hf (fun t6 h_t6 hf => ?_)
      refine clV_i0 (As := [.int 1]) (rest := []) FX hw (wX0_gives h_t6) (cwV 1 FX.2.2.2.2 (lw_V q962 q964 qs16 q134 q965) rfl rfl rfl (by decide +kernel) ⟨Nat.le_of_ble_eq_true rfl, Nat.le_of_ble_eq_true rfl⟩) (fx_obj hw (o := (131, 0, 100, 31)) (by decide)) rfl rfl hl.1 rfl (lv_room (Nat.le_of_ble_eq_true rfl)) dX0_comes_35 ⟨rfl, rfl⟩ ⟨Nat.zero_le _, Nat.zero_le _⟩ (fun H locs hw => ?_)
      exact hret _ _ rfl (congrArg (fun z => z.1) (Option.some.inj hf)) (congrArg (fun z => (M, z.2, K.1, K.2.1)) (Option.some.inj hf)) hw dX0_comes_38
  · have hf := it_neg c_7 hf
    refine lv_aload_n FX.1 FX.2.1 dX0_comes_10 rfl (lv_at hl 1 rfl) ?_
    refine lv_iload_n FX.1 FX.2.1 dX0_comes_11 rfl (lv_at hl 0 rfl) ?_
    refine bd hf (fun t7 h_t7 hf => ?_)
    refine clV_i0 (As := [.int t1]) (rest := []) FX hw (wX0_none h_t7) (cwV 1 FX.2.2.2.2 (lw_V q620 q622 qs3 q134 q623) rfl rfl rfl (by decide +kernel) ⟨Nat.le_of_ble_eq_true rfl, Nat.le_of_ble_eq_true rfl⟩) (fx_obj hw (o := (131, 0, 100, 31)) (by decide)) rfl rfl hl.1 rfl (lv_room (Nat.le_of_ble_eq_true rfl)) dX0_comes_12 ⟨rfl, rfl⟩ ⟨Nat.zero_le _, Nat.zero_le _⟩ (fun H locs hw => ?_)
    refine lv_goto (tgt := 38) FX.1 FX.2.1 dX0_comes_15 (by decide) ?_
    exact hret _ _ rfl (congrArg (fun z => z.1) (Option.some.inj hf)) (congrArg (fun z => (M, z.2, K.1, K.2.1)) (Option.some.inj hf)) hw dX0_comes_38
abbrev rmX0_easy : Room := { frames := 8, cells := 0, slots := 0, locals := 445 }
set_option maxHeartbeats 4000000 in
theorem wX0_easy {l : Launch} {G : GT} {M C : FS} {K : KT} {t : (Int32 × FS)} (hf : fX0_easy C K = some t) : CtI l yX0_easy (ws_ yX0_easy cX0_easy 3 (some .int)) rmX0_easy G [.ref (G.2.2.2 131)] (M, C, K.1, K.2.1) t.1 (M, t.2, K.1, K.2.1) := by
  refine mkI (ty := .int) (by decide) (Nat.le_of_ble_eq_true rfl) (fun p e s m a0 below meth c Q FX hw hname hret ls hl => ?_)
  have hl : lv_has ls 3 [(0, .ref (G.2.2.2 131))] := hl
  unfold fX0_easy at hf
  refine lv_iconst (v := 0) FX.1 FX.2.1 dX0_easy_0 (by decide) ?_
  refine lv_istore_n (lv' := [(1, .int 0), (0, .ref (G.2.2.2 131))]) FX.1 FX.2.1 dX0_easy_1 rfl hl (by decide) rfl (fun ls hl => ?_)
  refine lv_iconst (v := 0) FX.1 FX.2.1 dX0_easy_2 (by decide) ?_
  refine lv_istore_n (lv' := [(2, .int 0), (1, .int 0), (0, .ref (G.2.2.2 131))]) FX.1 FX.2.1 dX0_easy_3 rfl hl (by decide) rfl (fun ls hl => ?_)
  refine bd hf (fun u4 ht hf => ?_)
  obtain ⟨n, hn⟩ := lp_iff.mp ht
  have hX4 : ∀ (t4_1 : Int32) (H : Heap) (locs : List Loc) (ls : Array Slot) , t4_1 = u4 → WS G (M, C, K.1, K.2.1) s H locs → lv_has ls 3 [(0, .ref (G.2.2.2 131)), (1, .int t4_1)] → W p l e rmX0_easy s m a0 below meth c H locs 0 0 Q (F0 m 57 ls []) := by
    intro t4_1 H locs ls he hw hl
    subst he
    refine lv_aload_n FX.1 FX.2.1 dX0_easy_57 rfl (lv_at hl 0 rfl) ?_
    refine lv_iload_n FX.1 FX.2.1 dX0_easy_58 rfl (lv_at hl 1 rfl) ?_
    refine bd hf (fun t10 h_t10 hf => ?_)
    refine clV_i0 (As := [.int t4_1]) (rest := []) FX hw (wX0_gives h_t10) (cwV 1 FX.2.2.2.2 (lw_V q962 q964 qs16 q134 q965) rfl rfl rfl (by decide +kernel) ⟨Nat.le_of_ble_eq_true rfl, Nat.le_of_ble_eq_true rfl⟩) (fx_obj hw (o := (131, 0, 100, 31)) (by decide)) rfl rfl hl.1 rfl (lv_room (Nat.le_of_ble_eq_true rfl)) dX0_easy_59 ⟨rfl, rfl⟩ ⟨Nat.zero_le _, Nat.zero_le _⟩ (fun H locs hw => ?_)
    exact hret _ _ rfl (congrArg (fun z => z.1) (Option.some.inj hf)) (congrArg (fun z => (M, z.2, K.1, K.2.1)) (Option.some.inj hf)) hw dX0_easy_62
  have hL4 : ∀ (n : Nat) (z4_1 : Int32) (z4_2 : Int32) (H : Heap) (locs : List Loc) (ls : Array Slot) , lpN (fun z => fX0_easy_L4 C K z.1 z.2) n (z4_1, z4_2) = some u4 → WS G (M, C, K.1, K.2.1) s H locs → lv_has ls 3 [(0, .ref (G.2.2.2 131)), (1, .int z4_1), (2, .int z4_2)] → W p l e rmX0_easy s m a0 below meth c H locs 0 0 Q (F0 m 4 ls []) := by
    intro n
    induction n with
    | zero => intro z4_1 z4_2 H locs ls hz; cases hz
    | succ n ih =>
      intro z4_1 z4_2 H locs ls hz hw hl
      refine bd (show (fX0_easy_L4 C K z4_1 z4_2).bind _ = some u4 from hz) (fun x4 hf hk4 => ?_)
      unfold fX0_easy_L4 at hf
      refine lv_iload_n FX.1 FX.2.1 dX0_easy_4 rfl (lv_at hl 2 rfl) ?_
      refine lv_aload_n FX.1 FX.2.1 dX0_easy_5 rfl (lv_at hl 0 rfl) ?_
      refine gX0_38 FX hw dX0_easy_6 ?_
      refine bd hf (fun a1 h_a1 hf => ?_)
      rw [show va_rf (C.2.2.1 103) = .ref a1 from congrArg va_rf h_a1]
      refine bd hf (fun v2 h_v2 hf => ?_)
      refine gX0_152 FX hw h_v2 dX0_easy_9 ?_
      refine lv_icmp_ge (tgt := 57) FX.1 FX.2.1 dX0_easy_12 (by decide) (fun c_12 => ?_) (fun c_12 => ?_)
      · have hf := it_pos c_12 hf
        exact hX4 _ _ _ _ (lpe hf hk4) hw (lv_sub hl [0, 1] rfl)
      · have hf := it_neg c_12 hf
        refine lv_iload_n FX.1 FX.2.1 dX0_easy_15 rfl (lv_at hl 1 rfl) ?_
        refine lv_aload_n FX.1 FX.2.1 dX0_easy_16 rfl (lv_at hl 0 rfl) ?_
        refine gX0_38 FX hw dX0_easy_17 ?_
        refine bd hf (fun a3 h_a3 hf => ?_)
        rw [show va_rf (C.2.2.1 103) = .ref a3 from congrArg va_rf h_a3]
        refine bd hf (fun a4 h_a4 hf => ?_)
        refine gX0_161 FX hw h_a4 dX0_easy_20 ?_
        refine lv_iload_n FX.1 FX.2.1 dX0_easy_23 rfl (lv_at hl 2 rfl) ?_
        refine bd hf (fun a5 h_a5 hf => ?_)
        refine ei_aald 5 rfl FX hw h_a5 dX0_easy_24 ?_
        refine bd hf (fun v6 h_v6 hf => ?_)
        refine gX0_165 FX hw h_v6 dX0_easy_25 ?_
        refine lv_if_ne (tgt := 48) FX.1 FX.2.1 dX0_easy_28 (by decide) (fun c_28 => ?_) (fun c_28 => ?_)
        · have hf := it_neg c_28 hf
          refine lv_iconst (v := 0) FX.1 FX.2.1 dX0_easy_48 (by decide) ?_
          refine lv_ior FX.1 FX.2.1 dX0_easy_49 ?_
          refine lv_istore_n (lv' := [(1, .int (z4_1 ||| 0)), (0, .ref (G.2.2.2 131)), (2, .int z4_2)]) FX.1 FX.2.1 dX0_easy_50 rfl hl (by decide) rfl (fun ls hl => ?_)
          refine lv_iinc (v := (z4_2 + 1)) (lv' := [(2, .int (z4_2 + 1)), (1, .int (z4_1 ||| 0)), (0, .ref (G.2.2.2 131))]) FX.1 FX.2.1 dX0_easy_51 hl (k := 2) rfl (congrArg (fun q : Int32 => z4_2 + q) (by decide : Int32.ofInt 1 = 1)) (by decide) rfl (fun ls hl => ?_)
          refine lv_goto (tgt := 4) FX.1 FX.2.1 dX0_easy_54 (by decide) ?_
          exact ih _ _ _ _ _ (lpc hf hk4) hw (lv_sub hl [2, 1, 0] rfl)
        · have hf := it_pos c_28 hf
          refine lv_aload_n FX.1 FX.2.1 dX0_easy_31 rfl (lv_at hl 0 rfl) ?_
          refine gX0_38 FX hw dX0_easy_32 ?_
          refine bd hf (fun a7 h_a7 hf => ?_)
          rw [show va_rf (C.2.2.1 103) = .ref a7 from congrArg va_rf h_a7]
          refine lv_iload_n FX.1 FX.2.1 dX0_easy_35 rfl (lv_at hl 2 rfl) ?_
          refine bd hf (fun g8 h_g8 hf => ?_)
          refine bd hf (fun t9 h_t9 hf => ?_)
          obtain ⟨fs_g8, he_g8⟩ := dC_some (gC_some h_g8)
          refine clV_i0 (As := [.int z4_2]) (rest := [.int z4_1]) FX hw (wX4_comes h_t9) (cwV 1 FX.2.2.2.2 (lw_V q1307 q1308 q1309 q141 q1310) rfl rfl rfl (by decide +kernel) ⟨Nat.le_of_ble_eq_true rfl, Nat.le_of_ble_eq_true rfl⟩) (dyn_he hw he_g8) rfl rfl hl.1 rfl (lv_room (Nat.le_of_ble_eq_true rfl)) dX0_easy_36 ⟨rfl, rfl⟩ ⟨Nat.zero_le _, Nat.zero_le _⟩ (fun H locs hw => ?_)
          refine lv_if_eq (tgt := 48) FX.1 FX.2.1 dX0_easy_39 (by decide) (fun c_39 => ?_) (fun c_39 => ?_)
          · have hf := it_pos c_39 hf
            refine lv_iconst (v := 0) FX.1 FX.2.1 dX0_easy_48 (by decide) ?_
            refine lv_ior FX.1 FX.2.1 dX0_easy_49 ?_
            refine lv_istore_n (lv' := [(1, .int (z4_1 ||| 0)), (0, .ref (G.2.2.2 131)), (2, .int z4_2)]) FX.1 FX.2.1 dX0_easy_50 rfl hl (by decide) rfl (fun ls hl => ?_)
            refine lv_iinc (v := (z4_2 + 1)) (lv' := [(2, .int (z4_2 + 1)), (1, .int (z4_1 ||| 0)), (0, .ref (G.2.2.2 131))]) FX.1 FX.2.1 dX0_easy_51 hl (k := 2) rfl (congrArg (fun q : Int32 => z4_2 + q) (by decide : Int32.ofInt 1 = 1)) (by decide) rfl (fun ls hl => ?_)
            refine lv_goto (tgt := 4) FX.1 FX.2.1 dX0_easy_54 (by decide) ?_
            exact ih _ _ _ _ _ (lpc hf hk4) hw (lv_sub hl [2, 1, 0] rfl)
          · have hf := it_neg c_39 hf
            refine lv_iconst (v := 1) FX.1 FX.2.1 dX0_easy_42 (by decide) ?_
            refine lv_iload_n FX.1 FX.2.1 dX0_easy_43 rfl (lv_at hl 2 rfl) ?_
            refine lv_ishl FX.1 FX.2.1 dX0_easy_44 ?_
            refine lv_goto (tgt := 49) FX.1 FX.2.1 dX0_easy_45 (by decide) ?_
            refine lv_ior FX.1 FX.2.1 dX0_easy_49 ?_
            refine lv_istore_n (lv' := [(1, .int (z4_1 ||| (1 <<< (z4_2 &&& 31)))), (0, .ref (G.2.2.2 131)), (2, .int z4_2)]) FX.1 FX.2.1 dX0_easy_50 rfl hl (by decide) rfl (fun ls hl => ?_)
            refine lv_iinc (v := (z4_2 + 1)) (lv' := [(2, .int (z4_2 + 1)), (1, .int (z4_1 ||| (1 <<< (z4_2 &&& 31)))), (0, .ref (G.2.2.2 131))]) FX.1 FX.2.1 dX0_easy_51 hl (k := 2) rfl (congrArg (fun q : Int32 => z4_2 + q) (by decide : Int32.ofInt 1 = 1)) (by decide) rfl (fun ls hl => ?_)
            refine lv_goto (tgt := 4) FX.1 FX.2.1 dX0_easy_54 (by decide) ?_
            exact ih _ _ _ _ _ (lpc hf hk4) hw (lv_sub hl [2, 1, 0] rfl)
  exact hL4 n _ _ _ _ _ hn hw (lv_sub hl [2, 1, 0] rfl)
abbrev rmX4_isFree : Room := { frames := 7, cells := 0, slots := 0, locals := 423 }
set_option maxHeartbeats 4000000 in
theorem wX4_isFree {l : Launch} {G : GT} {M C : FS} {K : KT} {a : Nat} {p1 : Int32} {t : Int32} (hf : fX4_isFree K a p1 = some t) : CtI l yX4_isFree (ws_ yX4_isFree cX4_isFree 2 (some .boolean)) rmX4_isFree G [.ref a, .int p1] (M, C, K.1, K.2.1) t (M, C, K.1, K.2.1) := by
  refine mkI (ty := .boolean) (by decide) (Nat.le_of_ble_eq_true rfl) (fun p e s m a0 below meth c Q FX hw hname hret ls hl => ?_)
  have hl : lv_has ls 2 [(0, .ref a), (1, .int p1)] := hl
  unfold fX4_isFree at hf
  refine lv_aload_n FX.1 FX.2.1 dX4_isFree_0 rfl (lv_at hl 0 rfl) ?_
  refine bd hf (fun a1 h_a1 hf => ?_)
  refine gX4_11 FX hw h_a1 dX4_isFree_1 ?_
  refine lv_iload_n FX.1 FX.2.1 dX4_isFree_4 rfl (lv_at hl 1 rfl) ?_
  refine bd hf (fun a2 h_a2 hf => ?_)
  refine ei_aald 5 rfl FX hw h_a2 dX4_isFree_5 ?_
  refine bd hf (fun v3 h_v3 hf => ?_)
  refine gX4_70 FX hw h_v3 dX4_isFree_6 ?_
  refine lv_if_ne (tgt := 24) FX.1 FX.2.1 dX4_isFree_9 (by decide) (fun c_9 => ?_) (fun c_9 => ?_)
  · have hf := it_neg c_9 hf
    refine lv_iconst (v := 0) FX.1 FX.2.1 dX4_isFree_24 (by decide) ?_
    exact hret _ _ rfl (congrArg (fun z => z) (Option.some.inj hf)) rfl hw dX4_isFree_25
  · have hf := it_pos c_9 hf
    refine lv_aload_n FX.1 FX.2.1 dX4_isFree_12 rfl (lv_at hl 0 rfl) ?_
    refine lv_iload_n FX.1 FX.2.1 dX4_isFree_13 rfl (lv_at hl 1 rfl) ?_
    refine bd hf (fun g4 h_g4 hf => ?_)
    refine bd hf (fun t5 h_t5 hf => ?_)
    obtain ⟨fs_g4, he_g4⟩ := dC_some (gC_some h_g4)
    refine clV_i0 (As := [.int p1]) (rest := []) FX hw (wX4_crossings h_t5) (cwV 1 FX.2.2.2.2 (lw_V q1126 q1042 q1043 q141 q1044) rfl rfl rfl (by decide +kernel) ⟨Nat.le_of_ble_eq_true rfl, Nat.le_of_ble_eq_true rfl⟩) (dyn_he hw he_g4) rfl rfl hl.1 rfl (lv_room (Nat.le_of_ble_eq_true rfl)) dX4_isFree_14 ⟨rfl, rfl⟩ ⟨Nat.zero_le _, Nat.zero_le _⟩ (fun H locs hw => ?_)
    refine lv_if_ne (tgt := 24) FX.1 FX.2.1 dX4_isFree_17 (by decide) (fun c_17 => ?_) (fun c_17 => ?_)
    · have hf := it_neg c_17 hf
      refine lv_iconst (v := 0) FX.1 FX.2.1 dX4_isFree_24 (by decide) ?_
      exact hret _ _ rfl (congrArg (fun z => z) (Option.some.inj hf)) rfl hw dX4_isFree_25
    · have hf := it_pos c_17 hf
      refine lv_iconst (v := 1) FX.1 FX.2.1 dX4_isFree_20 (by decide) ?_
      refine lv_goto (tgt := 25) FX.1 FX.2.1 dX4_isFree_21 (by decide) ?_
      exact hret _ _ rfl (congrArg (fun z => z) (Option.some.inj hf)) rfl hw dX4_isFree_25
abbrev rmX0_free : Room := { frames := 8, cells := 0, slots := 0, locals := 444 }
set_option maxHeartbeats 4000000 in
theorem wX0_free {l : Launch} {G : GT} {M C : FS} {K : KT} {p1 : Int32} {t : (Int32 × FS)} (hf : fX0_free C K p1 = some t) : CtI l yX0_free (ws_ yX0_free cX0_free 2 (some .int)) rmX0_free G [.ref (G.2.2.2 131), .int p1] (M, C, K.1, K.2.1) t.1 (M, t.2, K.1, K.2.1) := by
  refine mkI (ty := .int) (by decide) (Nat.le_of_ble_eq_true rfl) (fun p e s m a0 below meth c Q FX hw hname hret ls hl => ?_)
  have hl : lv_has ls 2 [(0, .ref (G.2.2.2 131)), (1, .int p1)] := hl
  unfold fX0_free at hf
  refine lv_aload_n FX.1 FX.2.1 dX0_free_0 rfl (lv_at hl 0 rfl) ?_
  refine lv_iload_n FX.1 FX.2.1 dX0_free_1 rfl (lv_at hl 1 rfl) ?_
  refine bd hf (fun t1 h_t1 hf => ?_)
  refine clV_i0 (As := [.int p1]) (rest := []) FX hw (wX0_isLead h_t1) (cwV 1 FX.2.2.2.2 (lw_V q1037 q1039 qs20 q134 q1040) rfl rfl rfl (by decide +kernel) ⟨Nat.le_of_ble_eq_true rfl, Nat.le_of_ble_eq_true rfl⟩) (fx_obj hw (o := (131, 0, 100, 31)) (by decide)) rfl rfl hl.1 rfl (lv_room (Nat.le_of_ble_eq_true rfl)) dX0_free_2 ⟨rfl, rfl⟩ ⟨Nat.zero_le _, Nat.zero_le _⟩ (fun H locs hw => ?_)
  refine lv_if_eq (tgt := 31) FX.1 FX.2.1 dX0_free_5 (by decide) (fun c_5 => ?_) (fun c_5 => ?_)
  · have hf := it_pos c_5 hf
    refine lv_aload_n FX.1 FX.2.1 dX0_free_31 rfl (lv_at hl 0 rfl) ?_
    refine lv_iconst (v := 2) FX.1 FX.2.1 dX0_free_32 (by decide) ?_
    refine bd hf (fun t2 h_t2 hf => ?_)
    refine clV_i0 (As := [.int 2]) (rest := []) FX hw (wX0_none h_t2) (cwV 1 FX.2.2.2.2 (lw_V q620 q622 qs3 q134 q623) rfl rfl rfl (by decide +kernel) ⟨Nat.le_of_ble_eq_true rfl, Nat.le_of_ble_eq_true rfl⟩) (fx_obj hw (o := (131, 0, 100, 31)) (by decide)) rfl rfl hl.1 rfl (lv_room (Nat.le_of_ble_eq_true rfl)) dX0_free_33 ⟨rfl, rfl⟩ ⟨Nat.zero_le _, Nat.zero_le _⟩ (fun H locs hw => ?_)
    exact hret _ _ rfl (congrArg (fun z => z.1) (Option.some.inj hf)) (congrArg (fun z => (M, z.2, K.1, K.2.1)) (Option.some.inj hf)) hw dX0_free_36
  · have hf := it_neg c_5 hf
    refine lv_aload_n FX.1 FX.2.1 dX0_free_8 rfl (lv_at hl 0 rfl) ?_
    refine lv_aload_n FX.1 FX.2.1 dX0_free_9 rfl (lv_at hl 0 rfl) ?_
    refine gX0_38 FX hw dX0_free_10 ?_
    refine bd hf (fun a3 h_a3 hf => ?_)
    rw [show va_rf (C.2.2.1 103) = .ref a3 from congrArg va_rf h_a3]
    refine lv_iload_n FX.1 FX.2.1 dX0_free_13 rfl (lv_at hl 1 rfl) ?_
    refine bd hf (fun g4 h_g4 hf => ?_)
    refine bd hf (fun t5 h_t5 hf => ?_)
    obtain ⟨fs_g4, he_g4⟩ := dC_some (gC_some h_g4)
    refine clV_i0 (As := [.int p1]) (rest := [.ref (G.2.2.2 131)]) FX hw (wX4_isFree h_t5) (cwV 1 FX.2.2.2.2 (lw_V q1323 q1324 q1325 q141 q1326) rfl rfl rfl (by decide +kernel) ⟨Nat.le_of_ble_eq_true rfl, Nat.le_of_ble_eq_true rfl⟩) (dyn_he hw he_g4) rfl rfl hl.1 rfl (lv_room (Nat.le_of_ble_eq_true rfl)) dX0_free_14 ⟨rfl, rfl⟩ ⟨Nat.zero_le _, Nat.zero_le _⟩ (fun H locs hw => ?_)
    refine lv_if_eq (tgt := 24) FX.1 FX.2.1 dX0_free_17 (by decide) (fun c_17 => ?_) (fun c_17 => ?_)
    · have hf := it_pos c_17 hf
      refine lv_iconst (v := 0) FX.1 FX.2.1 dX0_free_24 (by decide) ?_
      refine bd hf (fun t6 h_t6 hf => ?_)
      refine clV_i0 (As := [.int 0]) (rest := []) FX hw (wX0_gives h_t6) (cwV 1 FX.2.2.2.2 (lw_V q962 q964 qs16 q134 q965) rfl rfl rfl (by decide +kernel) ⟨Nat.le_of_ble_eq_true rfl, Nat.le_of_ble_eq_true rfl⟩) (fx_obj hw (o := (131, 0, 100, 31)) (by decide)) rfl rfl hl.1 rfl (lv_room (Nat.le_of_ble_eq_true rfl)) dX0_free_25 ⟨rfl, rfl⟩ ⟨Nat.zero_le _, Nat.zero_le _⟩ (fun H locs hw => ?_)
      refine lv_goto (tgt := 36) FX.1 FX.2.1 dX0_free_28 (by decide) ?_
      exact hret _ _ rfl (congrArg (fun z => z.1) (Option.some.inj hf)) (congrArg (fun z => (M, z.2, K.1, K.2.1)) (Option.some.inj hf)) hw dX0_free_36
    · have hf := it_neg c_17 hf
      refine lv_iconst (v := 1) FX.1 FX.2.1 dX0_free_20 (by decide) ?_
      refine lv_goto (tgt := 25) FX.1 FX.2.1 dX0_free_21 (by decide) ?_
      refine bd hf (fun t7 h_t7 hf => ?_)
      refine clV_i0 (As := [.int 1]) (rest := []) FX hw (wX0_gives h_t7) (cwV 1 FX.2.2.2.2 (lw_V q962 q964 qs16 q134 q965) rfl rfl rfl (by decide +kernel) ⟨Nat.le_of_ble_eq_true rfl, Nat.le_of_ble_eq_true rfl⟩) (fx_obj hw (o := (131, 0, 100, 31)) (by decide)) rfl rfl hl.1 rfl (lv_room (Nat.le_of_ble_eq_true rfl)) dX0_free_25 ⟨rfl, rfl⟩ ⟨Nat.zero_le _, Nat.zero_le _⟩ (fun H locs hw => ?_)
      refine lv_goto (tgt := 36) FX.1 FX.2.1 dX0_free_28 (by decide) ?_
      exact hret _ _ rfl (congrArg (fun z => z.1) (Option.some.inj hf)) (congrArg (fun z => (M, z.2, K.1, K.2.1)) (Option.some.inj hf)) hw dX0_free_36
abbrev rmX0_stateMany : Room := { frames := 6, cells := 0, slots := 0, locals := 400 }
set_option maxHeartbeats 4000000 in
theorem wX0_stateMany {l : Launch} {G : GT} {M C : FS} {K : KT} {p1 : Int32} {t : Int32} (hf : fX0_stateMany C K p1 = some t) : CtI l yX0_stateMany (ws_ yX0_stateMany cX0_stateMany 4 (some .int)) rmX0_stateMany G [.ref (G.2.2.2 131), .int p1] (M, C, K.1, K.2.1) t (M, C, K.1, K.2.1) := by
  refine mkI (ty := .int) (by decide) (Nat.le_of_ble_eq_true rfl) (fun p e s m a0 below meth c Q FX hw hname hret ls hl => ?_)
  have hl : lv_has ls 4 [(0, .ref (G.2.2.2 131)), (1, .int p1)] := hl
  unfold fX0_stateMany at hf
  refine lv_iconst (v := 0) FX.1 FX.2.1 dX0_stateMany_0 (by decide) ?_
  refine lv_istore_n (lv' := [(2, .int 0), (0, .ref (G.2.2.2 131)), (1, .int p1)]) FX.1 FX.2.1 dX0_stateMany_1 rfl hl (by decide) rfl (fun ls hl => ?_)
  refine lv_iconst (v := 0) FX.1 FX.2.1 dX0_stateMany_2 (by decide) ?_
  refine lv_istore_n (lv' := [(3, .int 0), (2, .int 0), (0, .ref (G.2.2.2 131)), (1, .int p1)]) FX.1 FX.2.1 dX0_stateMany_3 rfl hl (by decide) rfl (fun ls hl => ?_)
  refine bd hf (fun u4 ht hf => ?_)
  obtain ⟨n, hn⟩ := lp_iff.mp ht
  have hX4 : ∀ (t4_2 : Int32) (H : Heap) (locs : List Loc) (ls : Array Slot) , t4_2 = u4 → WS G (M, C, K.1, K.2.1) s H locs → lv_has ls 4 [(2, .int t4_2)] → W p l e rmX0_stateMany s m a0 below meth c H locs 0 0 Q (F0 m 45 ls []) := by
    intro t4_2 H locs ls he hw hl
    subst he
    refine lv_iload_n FX.1 FX.2.1 dX0_stateMany_45 rfl (lv_at hl 0 rfl) ?_
    exact hret _ _ rfl (congrArg (fun z => z) (Option.some.inj hf)) rfl hw dX0_stateMany_46
  have hL4 : ∀ (n : Nat) (z4_2 : Int32) (z4_3 : Int32) (H : Heap) (locs : List Loc) (ls : Array Slot) , lpN (fun z => fX0_stateMany_L4 C K p1 z.1 z.2) n (z4_2, z4_3) = some u4 → WS G (M, C, K.1, K.2.1) s H locs → lv_has ls 4 [(0, .ref (G.2.2.2 131)), (1, .int p1), (2, .int z4_2), (3, .int z4_3)] → W p l e rmX0_stateMany s m a0 below meth c H locs 0 0 Q (F0 m 4 ls []) := by
    intro n
    induction n with
    | zero => intro z4_2 z4_3 H locs ls hz; cases hz
    | succ n ih =>
      intro z4_2 z4_3 H locs ls hz hw hl
      refine bd (show (fX0_stateMany_L4 C K p1 z4_2 z4_3).bind _ = some u4 from hz) (fun x4 hf hk4 => ?_)
      unfold fX0_stateMany_L4 at hf
      refine lv_iload_n FX.1 FX.2.1 dX0_stateMany_4 rfl (lv_at hl 3 rfl) ?_
      refine lv_aload_n FX.1 FX.2.1 dX0_stateMany_5 rfl (lv_at hl 0 rfl) ?_
      refine gX0_38 FX hw dX0_stateMany_6 ?_
      refine bd hf (fun a1 h_a1 hf => ?_)
      rw [show va_rf (C.2.2.1 103) = .ref a1 from congrArg va_rf h_a1]
      refine bd hf (fun v2 h_v2 hf => ?_)
      refine gX0_217 FX hw h_v2 dX0_stateMany_9 ?_
      refine lv_icmp_ge (tgt := 45) FX.1 FX.2.1 dX0_stateMany_12 (by decide) (fun c_12 => ?_) (fun c_12 => ?_)
      · have hf := it_pos c_12 hf
        exact hX4 _ _ _ _ (lpe hf hk4) hw (lv_sub hl [2] rfl)
      · have hf := it_neg c_12 hf
        refine lv_iload_n FX.1 FX.2.1 dX0_stateMany_15 rfl (lv_at hl 2 rfl) ?_
        refine lv_aload_n FX.1 FX.2.1 dX0_stateMany_16 rfl (lv_at hl 0 rfl) ?_
        refine gX0_38 FX hw dX0_stateMany_17 ?_
        refine bd hf (fun a3 h_a3 hf => ?_)
        rw [show va_rf (C.2.2.1 103) = .ref a3 from congrArg va_rf h_a3]
        refine bd hf (fun a4 h_a4 hf => ?_)
        refine gX0_260 FX hw h_a4 dX0_stateMany_20 ?_
        refine lv_iload_n FX.1 FX.2.1 dX0_stateMany_23 rfl (lv_at hl 3 rfl) ?_
        refine bd hf (fun a5 h_a5 hf => ?_)
        refine ei_aald 4 rfl FX hw h_a5 dX0_stateMany_24 ?_
        refine bd hf (fun t6 h_t6 hf => ?_)
        refine vc_state (rest := [.int z4_2]) FX hw h_t6 q1065 hl.1 rfl (lv_room (Nat.le_of_ble_eq_true rfl)) dX0_stateMany_25 ⟨Nat.le_of_ble_eq_true rfl, Nat.le_of_ble_eq_true rfl⟩ ⟨Nat.zero_le _, Nat.zero_le _⟩ (fun H locs hw => ?_)
        refine lv_iload_n FX.1 FX.2.1 dX0_stateMany_28 rfl (lv_at hl 1 rfl) ?_
        refine lv_icmp_ne (tgt := 36) FX.1 FX.2.1 dX0_stateMany_29 (by decide) (fun c_29 => ?_) (fun c_29 => ?_)
        · have hf := it_neg c_29 hf
          refine lv_iconst (v := 0) FX.1 FX.2.1 dX0_stateMany_36 (by decide) ?_
          refine lv_iadd FX.1 FX.2.1 dX0_stateMany_37 ?_
          refine lv_istore_n (lv' := [(2, .int (z4_2 + 0)), (0, .ref (G.2.2.2 131)), (1, .int p1), (3, .int z4_3)]) FX.1 FX.2.1 dX0_stateMany_38 rfl hl (by decide) rfl (fun ls hl => ?_)
          refine lv_iinc (v := (z4_3 + 1)) (lv' := [(3, .int (z4_3 + 1)), (2, .int (z4_2 + 0)), (0, .ref (G.2.2.2 131)), (1, .int p1)]) FX.1 FX.2.1 dX0_stateMany_39 hl (k := 3) rfl (congrArg (fun q : Int32 => z4_3 + q) (by decide : Int32.ofInt 1 = 1)) (by decide) rfl (fun ls hl => ?_)
          refine lv_goto (tgt := 4) FX.1 FX.2.1 dX0_stateMany_42 (by decide) ?_
          exact ih _ _ _ _ _ (lpc hf hk4) hw (lv_sub hl [2, 3, 1, 0] rfl)
        · have hf := it_pos c_29 hf
          refine lv_iconst (v := 1) FX.1 FX.2.1 dX0_stateMany_32 (by decide) ?_
          refine lv_goto (tgt := 37) FX.1 FX.2.1 dX0_stateMany_33 (by decide) ?_
          refine lv_iadd FX.1 FX.2.1 dX0_stateMany_37 ?_
          refine lv_istore_n (lv' := [(2, .int (z4_2 + 1)), (0, .ref (G.2.2.2 131)), (1, .int p1), (3, .int z4_3)]) FX.1 FX.2.1 dX0_stateMany_38 rfl hl (by decide) rfl (fun ls hl => ?_)
          refine lv_iinc (v := (z4_3 + 1)) (lv' := [(3, .int (z4_3 + 1)), (2, .int (z4_2 + 1)), (0, .ref (G.2.2.2 131)), (1, .int p1)]) FX.1 FX.2.1 dX0_stateMany_39 hl (k := 3) rfl (congrArg (fun q : Int32 => z4_3 + q) (by decide : Int32.ofInt 1 = 1)) (by decide) rfl (fun ls hl => ?_)
          refine lv_goto (tgt := 4) FX.1 FX.2.1 dX0_stateMany_42 (by decide) ?_
          exact ih _ _ _ _ _ (lpc hf hk4) hw (lv_sub hl [2, 3, 1, 0] rfl)
  exact hL4 n _ _ _ _ _ hn hw (lv_sub hl [2, 3, 1, 0] rfl)
abbrev rmX0_inState : Room := { frames := 7, cells := 0, slots := 0, locals := 423 }
set_option maxHeartbeats 4000000 in
theorem wX0_inState {l : Launch} {G : GT} {M C : FS} {K : KT} {p1 : Int32} {t : (Int32 × FS)} (hf : fX0_inState C K p1 = some t) : CtI l yX0_inState (ws_ yX0_inState cX0_inState 2 (some .int)) rmX0_inState G [.ref (G.2.2.2 131), .int p1] (M, C, K.1, K.2.1) t.1 (M, t.2, K.1, K.2.1) := by
  refine mkI (ty := .int) (by decide) (Nat.le_of_ble_eq_true rfl) (fun p e s m a0 below meth c Q FX hw hname hret ls hl => ?_)
  have hl : lv_has ls 2 [(0, .ref (G.2.2.2 131)), (1, .int p1)] := hl
  unfold fX0_inState at hf
  refine lv_iload_n FX.1 FX.2.1 dX0_inState_0 rfl (lv_at hl 1 rfl) ?_
  refine lv_i2l (v := p1.toInt64) FX.1 FX.2.1 dX0_inState_1 rfl ?_
  refine lv_lconst (v := 0) FX.1 FX.2.1 dX0_inState_2 (by decide) ?_
  refine lv_ldc2 FX.1 FX.2.1 FX.2.2.2.1 (FX.2.2.2.2 _ q1267) dX0_inState_3 ?_
  refine bd hf (fun t1 h_t1 hf => ?_)
  refine clS_i0 (As := [.long p1.toInt64, .long 0, .long 3]) (rest := []) FX hw (wX0_isFrom h_t1) (va_cwS 3 FX.2.2.2.2 (lw_S q1119 q1120 q134 q1121) rfl rfl rfl (by decide +kernel) ⟨Nat.le_of_ble_eq_true rfl, Nat.le_of_ble_eq_true rfl⟩) rfl hl.1 rfl (lv_room (Nat.le_of_ble_eq_true rfl)) dX0_inState_6 ⟨rfl, rfl⟩ ⟨Nat.zero_le _, Nat.zero_le _⟩ (fun H locs hw => ?_)
  refine lv_if_eq (tgt := 24) FX.1 FX.2.1 dX0_inState_9 (by decide) (fun c_9 => ?_) (fun c_9 => ?_)
  · have hf := it_pos c_9 hf
    refine lv_aload_n FX.1 FX.2.1 dX0_inState_24 rfl (lv_at hl 0 rfl) ?_
    refine lv_iconst (v := 5) FX.1 FX.2.1 dX0_inState_25 (by decide) ?_
    refine bd hf (fun t2 h_t2 hf => ?_)
    refine clV_i0 (As := [.int 5]) (rest := []) FX hw (wX0_none h_t2) (cwV 1 FX.2.2.2.2 (lw_V q620 q622 qs3 q134 q623) rfl rfl rfl (by decide +kernel) ⟨Nat.le_of_ble_eq_true rfl, Nat.le_of_ble_eq_true rfl⟩) (fx_obj hw (o := (131, 0, 100, 31)) (by decide)) rfl rfl hl.1 rfl (lv_room (Nat.le_of_ble_eq_true rfl)) dX0_inState_26 ⟨rfl, rfl⟩ ⟨Nat.zero_le _, Nat.zero_le _⟩ (fun H locs hw => ?_)
    exact hret _ _ rfl (congrArg (fun z => z.1) (Option.some.inj hf)) (congrArg (fun z => (M, z.2, K.1, K.2.1)) (Option.some.inj hf)) hw dX0_inState_29
  · have hf := it_neg c_9 hf
    refine lv_aload_n FX.1 FX.2.1 dX0_inState_12 rfl (lv_at hl 0 rfl) ?_
    refine lv_aload_n FX.1 FX.2.1 dX0_inState_13 rfl (lv_at hl 0 rfl) ?_
    refine lv_iload_n FX.1 FX.2.1 dX0_inState_14 rfl (lv_at hl 1 rfl) ?_
    refine bd hf (fun t3 h_t3 hf => ?_)
    refine clV_i0 (As := [.int p1]) (rest := [.ref (G.2.2.2 131)]) FX hw (wX0_stateMany h_t3) (cwV 1 FX.2.2.2.2 (lw_V q1331 q1333 qs29 q134 q1334) rfl rfl rfl (by decide +kernel) ⟨Nat.le_of_ble_eq_true rfl, Nat.le_of_ble_eq_true rfl⟩) (fx_obj hw (o := (131, 0, 100, 31)) (by decide)) rfl rfl hl.1 rfl (lv_room (Nat.le_of_ble_eq_true rfl)) dX0_inState_15 ⟨rfl, rfl⟩ ⟨Nat.zero_le _, Nat.zero_le _⟩ (fun H locs hw => ?_)
    refine bd hf (fun t4 h_t4 hf => ?_)
    refine clV_i0 (As := [.int t3]) (rest := []) FX hw (wX0_gives h_t4) (cwV 1 FX.2.2.2.2 (lw_V q962 q964 qs16 q134 q965) rfl rfl rfl (by decide +kernel) ⟨Nat.le_of_ble_eq_true rfl, Nat.le_of_ble_eq_true rfl⟩) (fx_obj hw (o := (131, 0, 100, 31)) (by decide)) rfl rfl hl.1 rfl (lv_room (Nat.le_of_ble_eq_true rfl)) dX0_inState_18 ⟨rfl, rfl⟩ ⟨Nat.zero_le _, Nat.zero_le _⟩ (fun H locs hw => ?_)
    refine lv_goto (tgt := 29) FX.1 FX.2.1 dX0_inState_21 (by decide) ?_
    exact hret _ _ rfl (congrArg (fun z => z.1) (Option.some.inj hf)) (congrArg (fun z => (M, z.2, K.1, K.2.1)) (Option.some.inj hf)) hw dX0_inState_29
abbrev rmX4_init (K : KT) : Room := { frames := 1, cells := K.2.2.1, slots := K.2.2.2, locals := 60 }
set_option maxHeartbeats 4000000 in
theorem wX4_init {l : Launch} {G : GT} {M C : FS} {K : KT} {a : Nat} {p1 : Nat} {t : KT} (hf : fX4_init K a p1 = some t) : EtV l yX4_init (ws_ yX4_init cX4_init 2 none) (rmX4_init K) G [.ref a, .ref p1] (M, C, K.1, K.2.1) (M, C, t.1, t.2.1) (K.2.2.1 - t.2.2.1) (K.2.2.2 - t.2.2.2) := by
  refine ekV (by decide) (Nat.le_of_ble_eq_true rfl) (fun p e s m a0 below meth c Q FX hw hname hret ls hl => ?_)
  have hl : lv_has ls 2 [(0, .ref a), (1, .ref p1)] := hl
  unfold fX4_init at hf
  have hm : Cn K K 0 0 := Cn.rf
  refine lv_aload_n FX.1 FX.2.1 dX4_init_0 rfl (lv_at hl 0 rfl) ?_
  refine W.objInit FX.1 FX.2.1 FX.2.2.2.1 (FX.2.2.2.2 _ q341) (FX.2.2.2.2 _ q169) (FX.2.2.2.2 _ q170) rfl (hl.1.trans FX.2.2.1.symm) rfl dX4_init_1 (Nat.le_of_ble_eq_true rfl) (Nat.le_of_ble_eq_true rfl) ?_
  refine W.eq (g2 := F0 m 4 ls []) rfl ?_
  refine lv_aload_n FX.1 FX.2.1 dX4_init_4 rfl (lv_at hl 0 rfl) ?_
  refine lv_bipush (v := 8) FX.1 FX.2.1 dX4_init_5 (by decide) ?_
  refine bd hf (fun K1 h_K1 hf => ?_)
  refine aX4_9 (N := 8) FX hw (by decide) (by decide) (by decide) h_K1 (hm.roomE h_K1) dX4_init_7 (fun H hw => ?_)
  have hm : Cn K K1 (0 + 1) (0 + 8) := hm.sE h_K1
  refine bd hf (fun K2 h_K2 hf => ?_)
  refine sX4_11 (v := (some K.2.1)) FX hw hname h_K2 dX4_init_10 (fun H locs hw => ?_)
  have hm := hm.keep (ke_uV h_K2)
  refine lv_aload_n FX.1 FX.2.1 dX4_init_13 rfl (lv_at hl 0 rfl) ?_
  refine lv_bipush (v := 24) FX.1 FX.2.1 dX4_init_14 (by decide) ?_
  refine bd hf (fun K3 h_K3 hf => ?_)
  refine aX4_17 (N := 24) FX hw (by decide) (by decide) (by decide) h_K3 (hm.roomE h_K3) dX4_init_16 (fun H hw => ?_)
  have hm : Cn K K3 ((0 + 1) + 1) ((0 + 8) + 24) := hm.sE h_K3
  refine bd hf (fun K4 h_K4 hf => ?_)
  refine sX4_19 (v := (some K2.2.1)) FX hw hname h_K4 dX4_init_19 (fun H locs hw => ?_)
  have hm := hm.keep (ke_uV h_K4)
  refine lv_aload_n FX.1 FX.2.1 dX4_init_22 rfl (lv_at hl 0 rfl) ?_
  refine lv_iconst (v := 3) FX.1 FX.2.1 dX4_init_23 (by decide) ?_
  refine bd hf (fun K5 h_K5 hf => ?_)
  refine na_long (N := 3) FX hw (by decide) (by decide) (by decide) h_K5 (hm.roomE h_K5) dX4_init_24 (fun H hw => ?_)
  have hm : Cn K K5 (((0 + 1) + 1) + 1) (((0 + 8) + 24) + 3) := hm.sE h_K5
  refine bd hf (fun K6 h_K6 hf => ?_)
  refine sX4_23 (v := (some K4.2.1)) FX hw hname h_K6 dX4_init_26 (fun H locs hw => ?_)
  have hm := hm.keep (ke_uV h_K6)
  refine lv_aload_n FX.1 FX.2.1 dX4_init_29 rfl (lv_at hl 0 rfl) ?_
  refine lv_iconst (v := 3) FX.1 FX.2.1 dX4_init_30 (by decide) ?_
  refine bd hf (fun K7 h_K7 hf => ?_)
  refine na_int (N := 3) FX hw (by decide) (by decide) (by decide) h_K7 (hm.roomE h_K7) dX4_init_31 (fun H hw => ?_)
  have hm : Cn K K7 ((((0 + 1) + 1) + 1) + 1) ((((0 + 8) + 24) + 3) + 3) := hm.sE h_K7
  refine bd hf (fun K8 h_K8 hf => ?_)
  refine sX4_27 (v := (some K6.2.1)) FX hw hname h_K8 dX4_init_33 (fun H locs hw => ?_)
  have hm := hm.keep (ke_uV h_K8)
  refine lv_aload_n FX.1 FX.2.1 dX4_init_36 rfl (lv_at hl 0 rfl) ?_
  refine lv_aload_n FX.1 FX.2.1 dX4_init_37 rfl (lv_at hl 1 rfl) ?_
  refine bd hf (fun K9 h_K9 hf => ?_)
  refine sX4_31 (v := (some p1)) FX hw hname h_K9 dX4_init_38 (fun H locs hw => ?_)
  have hm := hm.keep (ke_uV h_K9)
  have hk : K9 = t := congrArg (fun z => z) (Option.some.inj hf)
  have hm : Cn K t ((((0 + 1) + 1) + 1) + 1) ((((0 + 8) + 24) + 3) + 3) := hk ▸ hm
  refine w_cast hm.end_.1 hm.end_.2 ?_
  exact hret _ (congrArg (fun z => (M, C, z.1, z.2.1)) (Option.some.inj hf)) hw dX4_init_41
abbrev rmX7_init : Room := { frames := 1, cells := 0, slots := 0, locals := 60 }
set_option maxHeartbeats 4000000 in
theorem wX7_init {l : Launch} {G : GT} {M C : FS} {K : KT} {a : Nat} {p1 : Int64} {t : KT} (hf : fX7_init K a p1 = some t) : CtV l yX7_init (ws_ yX7_init cX7_init 3 none) rmX7_init G [.ref a, .long p1] (M, C, K.1, K.2.1) (M, C, t.1, t.2.1) := by
  refine mkV (by decide) (Nat.le_of_ble_eq_true rfl) (fun p e s m a0 below meth c Q FX hw hname hret ls hl => ?_)
  have hl : lv_has ls 3 [(0, .ref a), (1, .long p1)] := hl
  unfold fX7_init at hf
  refine lv_aload_n FX.1 FX.2.1 dX7_init_0 rfl (lv_at hl 0 rfl) ?_
  refine W.objInit FX.1 FX.2.1 FX.2.2.2.1 (FX.2.2.2.2 _ q803) (FX.2.2.2.2 _ q169) (FX.2.2.2.2 _ q170) rfl (hl.1.trans FX.2.2.1.symm) rfl dX7_init_1 (Nat.le_of_ble_eq_true rfl) (Nat.le_of_ble_eq_true rfl) ?_
  refine W.eq (g2 := F0 m 4 ls []) rfl ?_
  refine lv_aload_n FX.1 FX.2.1 dX7_init_4 rfl (lv_at hl 0 rfl) ?_
  refine lv_iconst (v := 3) FX.1 FX.2.1 dX7_init_5 (by decide) ?_
  refine bd hf (fun K1 h_K1 hf => ?_)
  refine sX7_9 FX hw h_K1 dX7_init_6 (fun H locs hw => ?_)
  refine lv_aload_n FX.1 FX.2.1 dX7_init_9 rfl (lv_at hl 0 rfl) ?_
  refine lv_iconst (v := 3) FX.1 FX.2.1 dX7_init_10 (by decide) ?_
  refine bd hf (fun K2 h_K2 hf => ?_)
  refine sX7_15 FX hw h_K2 dX7_init_11 (fun H locs hw => ?_)
  refine lv_aload_n FX.1 FX.2.1 dX7_init_14 rfl (lv_at hl 0 rfl) ?_
  refine lv_lload_n FX.1 FX.2.1 dX7_init_15 rfl (lv_at hl 1 rfl) ?_
  refine bd hf (fun K3 h_K3 hf => ?_)
  refine sX7_18 FX hw hname h_K3 dX7_init_16 (fun H locs hw => ?_)
  exact hret _ (congrArg (fun z => (M, C, z.1, z.2.1)) (Option.some.inj hf)) hw dX7_init_19
abbrev rmX7_twin (K : KT) : Room := { frames := 2, cells := K.2.2.1, slots := K.2.2.2, locals := 82 }
set_option maxHeartbeats 4000000 in
theorem wX7_twin {l : Launch} {G : GT} {M C : FS} {K : KT} {a : Nat} {t : (Nat × KT)} (hf : fX7_twin K a = some t) : EtQ l yX7_twin (ws_ yX7_twin cX7_twin 2 (some (.object "CableDrawer$Lead"))) (rmX7_twin K) G [.ref a] (M, C, K.1, K.2.1) (some t.1) (M, C, t.2.1, t.2.2.1) (K.2.2.1 - t.2.2.2.1) (K.2.2.2 - t.2.2.2.2) := by
  refine ekQ (by decide) (Nat.le_of_ble_eq_true rfl) (Or.inl ⟨_, rfl⟩) (fun p e s m a0 below meth c Q FX hw hname hret ls hl => ?_)
  have hl : lv_has ls 2 [(0, .ref a)] := hl
  unfold fX7_twin at hf
  have hm : Cn K K 0 0 := Cn.rf
  refine bd hf (fun K1 h_K1 hf => ?_)
  refine nX7_10 FX hw h_K1 (hm.roomO h_K1) dX7_twin_0 (fun H hw => ?_)
  have hm : Cn K K1 (0 + 1) (0 + 9) := hm.sO h_K1
  refine lv_dup FX.1 FX.2.1 dX7_twin_3 rfl ?_
  refine lv_aload_n FX.1 FX.2.1 dX7_twin_4 rfl (lv_at hl 0 rfl) ?_
  refine bd hf (fun v2 h_v2 hf => ?_)
  refine gX7_18 FX hw h_v2 dX7_twin_5 ?_
  refine bd hf (fun t3 h_t3 hf => ?_)
  refine bd hf (fun g4 h_g4 hf => ?_)
  refine clI_v0 (As := [.long v2]) (rest := [.ref K.2.1]) FX hw (wX7_init h_t3) (cwI 1 FX.2.2.2.2 (lw_meth q802) rfl rfl rfl (FX.2.2.2.2 _ q154) (FX.2.2.2.2 _ q1350) (FX.2.2.2.2 _ q801) rfl (by decide +kernel) ⟨Nat.le_of_ble_eq_true rfl, Nat.le_of_ble_eq_true rfl⟩) rfl hl.1 rfl (lv_room (Nat.le_of_ble_eq_true rfl)) dX7_twin_8 ⟨rfl, rfl⟩ hm.le (fun H locs hw => ?_)
  have hm := hm.sG h_g4
  refine lv_astore_n (lv' := [(1, .ref K.2.1), (0, .ref a)]) FX.1 FX.2.1 dX7_twin_11 rfl hl (by decide) rfl (fun ls hl => ?_)
  refine lv_aload_n FX.1 FX.2.1 dX7_twin_12 rfl (lv_at hl 0 rfl) ?_
  refine lv_aload_n FX.1 FX.2.1 dX7_twin_13 rfl (lv_at hl 1 rfl) ?_
  refine bd hf (fun v5 h_v5 hf => ?_)
  refine gX7_25 FX hw h_v5 dX7_twin_14 ?_
  refine bd hf (fun K6 h_K6 hf => ?_)
  refine sX7_25 FX hw h_K6 dX7_twin_17 (fun H locs hw => ?_)
  have hm := hm.keep (ke_uV h_K6)
  refine lv_aload_n FX.1 FX.2.1 dX7_twin_20 rfl (lv_at hl 0 rfl) ?_
  refine lv_aload_n FX.1 FX.2.1 dX7_twin_21 rfl (lv_at hl 1 rfl) ?_
  refine bd hf (fun v7 h_v7 hf => ?_)
  refine gX7_28 FX hw h_v7 dX7_twin_22 ?_
  refine bd hf (fun K8 h_K8 hf => ?_)
  refine sX7_28 FX hw h_K8 dX7_twin_25 (fun H locs hw => ?_)
  have hm := hm.keep (ke_uV h_K8)
  refine lv_aload_n FX.1 FX.2.1 dX7_twin_28 rfl (lv_at hl 0 rfl) ?_
  refine lv_aload_n FX.1 FX.2.1 dX7_twin_29 rfl (lv_at hl 1 rfl) ?_
  refine bd hf (fun v9 h_v9 hf => ?_)
  refine gX7_9 FX hw h_v9 dX7_twin_30 ?_
  refine bd hf (fun K10 h_K10 hf => ?_)
  refine sX7_9 FX hw h_K10 dX7_twin_33 (fun H locs hw => ?_)
  have hm := hm.keep (ke_uV h_K10)
  refine lv_aload_n FX.1 FX.2.1 dX7_twin_36 rfl (lv_at hl 0 rfl) ?_
  refine lv_aload_n FX.1 FX.2.1 dX7_twin_37 rfl (lv_at hl 1 rfl) ?_
  refine bd hf (fun v11 h_v11 hf => ?_)
  refine gX7_15 FX hw h_v11 dX7_twin_38 ?_
  refine bd hf (fun K12 h_K12 hf => ?_)
  refine sX7_15 FX hw h_K12 dX7_twin_41 (fun H locs hw => ?_)
  have hm := hm.keep (ke_uV h_K12)
  refine lv_aload_n FX.1 FX.2.1 dX7_twin_44 rfl (lv_at hl 0 rfl) ?_
  refine lv_aload_n FX.1 FX.2.1 dX7_twin_45 rfl (lv_at hl 1 rfl) ?_
  refine bd hf (fun v13 h_v13 hf => ?_)
  refine gX7_31 FX hw h_v13 dX7_twin_46 ?_
  refine bd hf (fun K14 h_K14 hf => ?_)
  refine sX7_31 FX hw h_K14 dX7_twin_49 (fun H locs hw => ?_)
  have hm := hm.keep (ke_uV h_K14)
  refine lv_aload_n FX.1 FX.2.1 dX7_twin_52 rfl (lv_at hl 0 rfl) ?_
  refine lv_aload_n FX.1 FX.2.1 dX7_twin_53 rfl (lv_at hl 1 rfl) ?_
  refine bd hf (fun v15 h_v15 hf => ?_)
  refine gX7_34 FX hw h_v15 dX7_twin_54 ?_
  refine bd hf (fun K16 h_K16 hf => ?_)
  refine sX7_34 FX hw h_K16 dX7_twin_57 (fun H locs hw => ?_)
  have hm := hm.keep (ke_uV h_K16)
  refine lv_aload_n FX.1 FX.2.1 dX7_twin_60 rfl (lv_at hl 0 rfl) ?_
  refine lv_aload_n FX.1 FX.2.1 dX7_twin_61 rfl (lv_at hl 1 rfl) ?_
  refine bd hf (fun v17 h_v17 hf => ?_)
  refine gX7_37 FX hw h_v17 dX7_twin_62 ?_
  refine bd hf (fun b18 h_b18 hf => ?_)
  refine bd hf (fun K19 h_K19 hf => ?_)
  refine sX7_37 FX hw (bz_or h_b18) h_K19 dX7_twin_65 (fun H locs hw => ?_)
  have hm := hm.keep (ke_uV h_K19)
  refine lv_aload_n FX.1 FX.2.1 dX7_twin_68 rfl (lv_at hl 0 rfl) ?_
  refine lv_aload_n FX.1 FX.2.1 dX7_twin_69 rfl (lv_at hl 1 rfl) ?_
  refine bd hf (fun v20 h_v20 hf => ?_)
  refine gX7_41 FX hw h_v20 dX7_twin_70 ?_
  refine bd hf (fun b21 h_b21 hf => ?_)
  refine bd hf (fun K22 h_K22 hf => ?_)
  refine sX7_41 FX hw (bz_or h_b21) h_K22 dX7_twin_73 (fun H locs hw => ?_)
  have hm := hm.keep (ke_uV h_K22)
  refine lv_aload_n FX.1 FX.2.1 dX7_twin_76 rfl (lv_at hl 0 rfl) ?_
  have hk : K22 = t.2 := congrArg (fun z => z.2) (Option.some.inj hf)
  have hm : Cn K t.2 (0 + 1) (0 + 9) := hk ▸ hm
  refine w_cast hm.end_.1 hm.end_.2 ?_
  exact hret (some K.2.1) _ (congrArg (fun z => some z.1) (Option.some.inj hf)) (congrArg (fun z => (M, C, z.2.1, z.2.2.1)) (Option.some.inj hf)) hw dX7_twin_77
abbrev rmX4_twin (K : KT) : Room := { frames := 3, cells := K.2.2.1, slots := K.2.2.2, locals := 103 }
set_option maxHeartbeats 4000000 in
theorem wX4_twin {l : Launch} {G : GT} {M C : FS} {K : KT} {a : Nat} {t : (Nat × KT)} (hf : fX4_twin K a = some t) : EtQ l yX4_twin (ws_ yX4_twin cX4_twin 3 (some (.object "CableDrawer$Drawer"))) (rmX4_twin K) G [.ref a] (M, C, K.1, K.2.1) (some t.1) (M, C, t.2.1, t.2.2.1) (K.2.2.1 - t.2.2.2.1) (K.2.2.2 - t.2.2.2.2) := by
  refine ekQ (by decide) (Nat.le_of_ble_eq_true rfl) (Or.inl ⟨_, rfl⟩) (fun p e s m a0 below meth c Q FX hw hname hret ls hl => ?_)
  have hl : lv_has ls 3 [(0, .ref a)] := hl
  unfold fX4_twin at hf
  have hm : Cn K K 0 0 := Cn.rf
  refine bd hf (fun K1 h_K1 hf => ?_)
  refine nX4_12 FX hw h_K1 (hm.roomO h_K1) dX4_twin_0 (fun H hw => ?_)
  have hm : Cn K K1 (0 + 1) (0 + 11) := hm.sO h_K1
  refine lv_dup FX.1 FX.2.1 dX4_twin_3 rfl ?_
  refine lv_aload_n FX.1 FX.2.1 dX4_twin_4 rfl (lv_at hl 0 rfl) ?_
  refine bd hf (fun a2 h_a2 hf => ?_)
  refine gX4_31 FX hw h_a2 dX4_twin_5 ?_
  refine bd hf (fun t3 h_t3 hf => ?_)
  refine bd hf (fun g4 h_g4 hf => ?_)
  refine xlI_v (As := [.ref a2]) (rest := [.ref K.2.1]) FX hw (wX4_init h_t3) (cwI 1 FX.2.2.2.2 (lw_meth q340) rfl rfl rfl (FX.2.2.2.2 _ q141) (FX.2.2.2.2 _ q1344) (FX.2.2.2.2 _ q339) rfl (by decide +kernel) ⟨Nat.le_of_ble_eq_true rfl, Nat.le_of_ble_eq_true rfl⟩) rfl hl.1 rfl (lv_room (Nat.le_of_ble_eq_true rfl)) dX4_twin_8 hm.roomC (fun H locs hw => ?_)
  have hm := hm.sM h_g4
  refine lv_astore_n (lv' := [(1, .ref K.2.1), (0, .ref a)]) FX.1 FX.2.1 dX4_twin_11 rfl hl (by decide) rfl (fun ls hl => ?_)
  refine lv_iconst (v := 0) FX.1 FX.2.1 dX4_twin_12 (by decide) ?_
  refine lv_istore_n (lv' := [(2, .int 0), (1, .ref K.2.1), (0, .ref a)]) FX.1 FX.2.1 dX4_twin_13 rfl hl (by decide) rfl (fun ls hl => ?_)
  refine bd hf (fun u14 ht hf => ?_)
  obtain ⟨n, hn⟩ := lp_iff.mp ht
  have hX14 : ∀ (Kt14 : KT) (H : Heap) (locs : List Loc) (ls : Array Slot) (nc ns : Nat) , Kt14 = u14 → Cn K Kt14 nc ns → WS G (M, C, Kt14.1, Kt14.2.1) s H locs → lv_has ls 3 [(0, .ref a), (1, .ref K.2.1)] → W p l e (rmX4_twin K) s m a0 below meth c H locs nc ns Q (F0 m 43 ls []) := by
    intro Kt14 H locs ls nc ns he hm hw hl
    subst he
    refine lv_aload_n FX.1 FX.2.1 dX4_twin_43 rfl (lv_at hl 0 rfl) ?_
    refine bd hf (fun a13 h_a13 hf => ?_)
    refine gX4_19 FX hw h_a13 dX4_twin_44 ?_
    refine lv_iconst (v := 0) FX.1 FX.2.1 dX4_twin_47 (by decide) ?_
    refine lv_aload_n FX.1 FX.2.1 dX4_twin_48 rfl (lv_at hl 1 rfl) ?_
    refine bd hf (fun a14 h_a14 hf => ?_)
    refine gX4_19 FX hw h_a14 dX4_twin_49 ?_
    refine lv_iconst (v := 0) FX.1 FX.2.1 dX4_twin_52 (by decide) ?_
    refine lv_bipush (v := 24) FX.1 FX.2.1 dX4_twin_53 (by decide) ?_
    refine bd hf (fun K15 h_K15 hf => ?_)
    refine ei_cpQ 4 (CC := "CableDrawer$Crossing") rfl FX hl.1 hw q1351 h_K15 (Nat.le_of_ble_eq_true rfl) (Nat.le_of_ble_eq_true rfl) dX4_twin_55 (fun H locs hw => ?_)
    have hm := hm.keep (ke_cpQ h_K15)
    refine lv_aload_n FX.1 FX.2.1 dX4_twin_58 rfl (lv_at hl 0 rfl) ?_
    refine bd hf (fun a16 h_a16 hf => ?_)
    refine gX4_23 FX hw h_a16 dX4_twin_59 ?_
    refine lv_iconst (v := 0) FX.1 FX.2.1 dX4_twin_62 (by decide) ?_
    refine lv_aload_n FX.1 FX.2.1 dX4_twin_63 rfl (lv_at hl 1 rfl) ?_
    refine bd hf (fun a17 h_a17 hf => ?_)
    refine gX4_23 FX hw h_a17 dX4_twin_64 ?_
    refine lv_iconst (v := 0) FX.1 FX.2.1 dX4_twin_67 (by decide) ?_
    refine lv_iconst (v := 3) FX.1 FX.2.1 dX4_twin_68 (by decide) ?_
    refine bd hf (fun K18 h_K18 hf => ?_)
    refine ei_cpL FX hl.1 hw q1351 h_K18 (Nat.le_of_ble_eq_true rfl) (Nat.le_of_ble_eq_true rfl) dX4_twin_69 (fun H locs hw => ?_)
    have hm := hm.keep (ke_cpL h_K18)
    refine lv_aload_n FX.1 FX.2.1 dX4_twin_72 rfl (lv_at hl 0 rfl) ?_
    refine bd hf (fun a19 h_a19 hf => ?_)
    refine gX4_27 FX hw h_a19 dX4_twin_73 ?_
    refine lv_iconst (v := 0) FX.1 FX.2.1 dX4_twin_76 (by decide) ?_
    refine lv_aload_n FX.1 FX.2.1 dX4_twin_77 rfl (lv_at hl 1 rfl) ?_
    refine bd hf (fun a20 h_a20 hf => ?_)
    refine gX4_27 FX hw h_a20 dX4_twin_78 ?_
    refine lv_iconst (v := 0) FX.1 FX.2.1 dX4_twin_81 (by decide) ?_
    refine lv_iconst (v := 3) FX.1 FX.2.1 dX4_twin_82 (by decide) ?_
    refine bd hf (fun K21 h_K21 hf => ?_)
    refine ei_cpI FX hl.1 hw q1351 h_K21 (Nat.le_of_ble_eq_true rfl) (Nat.le_of_ble_eq_true rfl) dX4_twin_83 (fun H locs hw => ?_)
    have hm := hm.keep (ke_cpI h_K21)
    refine lv_aload_n FX.1 FX.2.1 dX4_twin_86 rfl (lv_at hl 1 rfl) ?_
    refine lv_aload_n FX.1 FX.2.1 dX4_twin_87 rfl (lv_at hl 0 rfl) ?_
    refine bd hf (fun v22 h_v22 hf => ?_)
    refine gX4_37 FX hw h_v22 dX4_twin_88 ?_
    refine bd hf (fun K23 h_K23 hf => ?_)
    refine sX4_37 FX hw h_K23 dX4_twin_91 (fun H locs hw => ?_)
    have hm := hm.keep (ke_uV h_K23)
    refine lv_aload_n FX.1 FX.2.1 dX4_twin_94 rfl (lv_at hl 1 rfl) ?_
    refine lv_aload_n FX.1 FX.2.1 dX4_twin_95 rfl (lv_at hl 0 rfl) ?_
    refine bd hf (fun v24 h_v24 hf => ?_)
    refine gX4_51 FX hw h_v24 dX4_twin_96 ?_
    refine bd hf (fun K25 h_K25 hf => ?_)
    refine sX4_51 FX hw h_K25 dX4_twin_99 (fun H locs hw => ?_)
    have hm := hm.keep (ke_uV h_K25)
    refine lv_aload_n FX.1 FX.2.1 dX4_twin_102 rfl (lv_at hl 1 rfl) ?_
    refine lv_aload_n FX.1 FX.2.1 dX4_twin_103 rfl (lv_at hl 0 rfl) ?_
    refine bd hf (fun v26 h_v26 hf => ?_)
    refine gX4_54 FX hw h_v26 dX4_twin_104 ?_
    refine bd hf (fun K27 h_K27 hf => ?_)
    refine sX4_54 FX hw h_K27 dX4_twin_107 (fun H locs hw => ?_)
    have hm := hm.keep (ke_uV h_K27)
    refine lv_aload_n FX.1 FX.2.1 dX4_twin_110 rfl (lv_at hl 1 rfl) ?_
    refine lv_aload_n FX.1 FX.2.1 dX4_twin_111 rfl (lv_at hl 0 rfl) ?_
    refine bd hf (fun v28 h_v28 hf => ?_)
    refine gX4_57 FX hw h_v28 dX4_twin_112 ?_
    refine bd hf (fun K29 h_K29 hf => ?_)
    refine sX4_57 FX hw h_K29 dX4_twin_115 (fun H locs hw => ?_)
    have hm := hm.keep (ke_uV h_K29)
    refine lv_aload_n FX.1 FX.2.1 dX4_twin_118 rfl (lv_at hl 1 rfl) ?_
    refine lv_aload_n FX.1 FX.2.1 dX4_twin_119 rfl (lv_at hl 0 rfl) ?_
    refine bd hf (fun v30 h_v30 hf => ?_)
    refine gX4_60 FX hw h_v30 dX4_twin_120 ?_
    refine bd hf (fun K31 h_K31 hf => ?_)
    refine sX4_60 FX hw h_K31 dX4_twin_123 (fun H locs hw => ?_)
    have hm := hm.keep (ke_uV h_K31)
    refine lv_aload_n FX.1 FX.2.1 dX4_twin_126 rfl (lv_at hl 1 rfl) ?_
    refine lv_aload_n FX.1 FX.2.1 dX4_twin_127 rfl (lv_at hl 0 rfl) ?_
    refine bd hf (fun v32 h_v32 hf => ?_)
    refine gX4_63 FX hw h_v32 dX4_twin_128 ?_
    refine bd hf (fun K33 h_K33 hf => ?_)
    refine sX4_63 FX hw h_K33 dX4_twin_131 (fun H locs hw => ?_)
    have hm := hm.keep (ke_uV h_K33)
    refine lv_aload_n FX.1 FX.2.1 dX4_twin_134 rfl (lv_at hl 1 rfl) ?_
    have hk : K33 = t.2 := congrArg (fun z => z.2) (Option.some.inj hf)
    have hm : Cn K t.2 nc ns := hk ▸ hm
    refine w_cast hm.end_.1 hm.end_.2 ?_
    exact hret (some K.2.1) _ (congrArg (fun z => some z.1) (Option.some.inj hf)) (congrArg (fun z => (M, C, z.2.1, z.2.2.1)) (Option.some.inj hf)) hw dX4_twin_135
  have hL14 : ∀ (n : Nat) (z14_2 : Int32) (Kz14 : KT) (H : Heap) (locs : List Loc) (ls : Array Slot) (nc ns : Nat) , lpN (fun z => fX4_twin_L14 K a z.1 z.2) n (z14_2, Kz14) = some u14 → Cn K Kz14 nc ns → WS G (M, C, Kz14.1, Kz14.2.1) s H locs → lv_has ls 3 [(0, .ref a), (1, .ref K.2.1), (2, .int z14_2)] → W p l e (rmX4_twin K) s m a0 below meth c H locs nc ns Q (F0 m 14 ls []) := by
    intro n
    induction n with
    | zero => intro z14_2 Kz14 H locs ls nc ns hz; cases hz
    | succ n ih =>
      intro z14_2 Kz14 H locs ls nc ns hz hm hw hl
      refine bd (show (fX4_twin_L14 K a z14_2 Kz14).bind _ = some u14 from hz) (fun x14 hf hk14 => ?_)
      unfold fX4_twin_L14 at hf
      refine lv_iload_n FX.1 FX.2.1 dX4_twin_14 rfl (lv_at hl 2 rfl) ?_
      refine lv_aload_n FX.1 FX.2.1 dX4_twin_15 rfl (lv_at hl 0 rfl) ?_
      refine bd hf (fun v5 h_v5 hf => ?_)
      refine gX4_37 FX hw h_v5 dX4_twin_16 ?_
      refine lv_icmp_ge (tgt := 43) FX.1 FX.2.1 dX4_twin_19 (by decide) (fun c_19 => ?_) (fun c_19 => ?_)
      · have hf := it_pos c_19 hf
        exact hX14 _ _ _ _ _ _ (lpe hf hk14) hm hw (lv_sub hl [0, 1] rfl)
      · have hf := it_neg c_19 hf
        refine lv_aload_n FX.1 FX.2.1 dX4_twin_22 rfl (lv_at hl 1 rfl) ?_
        refine bd hf (fun a6 h_a6 hf => ?_)
        refine gX4_11 FX hw h_a6 dX4_twin_23 ?_
        refine lv_iload_n FX.1 FX.2.1 dX4_twin_26 rfl (lv_at hl 2 rfl) ?_
        refine lv_aload_n FX.1 FX.2.1 dX4_twin_27 rfl (lv_at hl 0 rfl) ?_
        refine bd hf (fun a7 h_a7 hf => ?_)
        refine gX4_11 FX hw h_a7 dX4_twin_28 ?_
        refine lv_iload_n FX.1 FX.2.1 dX4_twin_31 rfl (lv_at hl 2 rfl) ?_
        refine bd hf (fun a8 h_a8 hf => ?_)
        refine ei_aald 5 rfl FX hw h_a8 dX4_twin_32 ?_
        refine bd hf (fun g9 h_g9 hf => ?_)
        refine bd hf (fun t10 h_t10 hf => ?_)
        refine bd hf (fun g11 h_g11 hf => ?_)
        obtain ⟨fs_g9, he_g9⟩ := dC_some (gC_some h_g9)
        refine xlV_q (As := []) (rest := [.int z14_2, .ref a6]) FX hw (wX7_twin h_t10) (cwV 0 FX.2.2.2.2 (lw_V q1345 q1346 q1347 q154 q1348) rfl rfl rfl (by decide +kernel) ⟨Nat.le_of_ble_eq_true rfl, Nat.le_of_ble_eq_true rfl⟩) (dyn_he hw he_g9) rfl rfl hl.1 rfl (lv_room (Nat.le_of_ble_eq_true rfl)) dX4_twin_33 hm.roomC (fun H locs hw => ?_)
        have hm := hm.sM h_g11
        refine bd hf (fun K12 h_K12 hf => ?_)
        refine ei_rast FX hw h_K12 dX4_twin_36 (fun H locs hw => ?_)
        have hm := hm.keep (ke_wR h_K12)
        refine lv_iinc (v := (z14_2 + 1)) (lv' := [(2, .int (z14_2 + 1)), (0, .ref a), (1, .ref K.2.1)]) FX.1 FX.2.1 dX4_twin_37 hl (k := 2) rfl (congrArg (fun q : Int32 => z14_2 + q) (by decide : Int32.ofInt 1 = 1)) (by decide) rfl (fun ls hl => ?_)
        refine lv_goto (tgt := 14) FX.1 FX.2.1 dX4_twin_40 (by decide) ?_
        exact ih _ _ _ _ _ _ _ (lpc hf hk14) hm hw (lv_sub hl [1, 2, 0] rfl)
  exact hL14 n _ _ _ _ _ _ _ hn hm hw (lv_sub hl [2, 1, 0] rfl)
abbrev rmX0_worse (K : KT) : Room := { frames := 9, cells := K.2.2.1, slots := K.2.2.2, locals := 448 }
set_option maxHeartbeats 4000000 in
theorem wX0_worse {l : Launch} {G : GT} {M C : FS} {K : KT} {p1 : Int32} {p2 : Int32} {t : (Int32 × FS × KT)} (hf : fX0_worse C K p1 p2 = some t) : EtI l yX0_worse (ws_ yX0_worse cX0_worse 6 (some .int)) (rmX0_worse K) G [.ref (G.2.2.2 131), .int p1, .int p2] (M, C, K.1, K.2.1) t.1 (M, t.2.1, t.2.2.1, t.2.2.2.1) (K.2.2.1 - t.2.2.2.2.1) (K.2.2.2 - t.2.2.2.2.2) := by
  refine ekI (ty := .int) (by decide) (Nat.le_of_ble_eq_true rfl) (fun p e s m a0 below meth c Q FX hw hname hret ls hl => ?_)
  have hl : lv_has ls 6 [(0, .ref (G.2.2.2 131)), (1, .int p1), (2, .int p2)] := hl
  unfold fX0_worse at hf
  have hm : Cn K K 0 0 := Cn.rf
  refine lv_aload_n FX.1 FX.2.1 dX0_worse_0 rfl (lv_at hl 0 rfl) ?_
  refine lv_iload_n FX.1 FX.2.1 dX0_worse_1 rfl (lv_at hl 1 rfl) ?_
  refine bd hf (fun t1 h_t1 hf => ?_)
  refine clV_i0 (As := [.int p1]) (rest := []) FX hw (wX0_isLead h_t1) (cwV 1 FX.2.2.2.2 (lw_V q1037 q1039 qs20 q134 q1040) rfl rfl rfl (by decide +kernel) ⟨Nat.le_of_ble_eq_true rfl, Nat.le_of_ble_eq_true rfl⟩) (fx_obj hw (o := (131, 0, 100, 31)) (by decide)) rfl rfl hl.1 rfl (lv_room (Nat.le_of_ble_eq_true rfl)) dX0_worse_2 ⟨rfl, rfl⟩ hm.le (fun H locs hw => ?_)
  refine lv_if_ne (tgt := 14) FX.1 FX.2.1 dX0_worse_5 (by decide) (fun c_5 => ?_) (fun c_5 => ?_)
  · have hf := it_neg c_5 hf
    refine lv_iload_n FX.1 FX.2.1 dX0_worse_14 rfl (lv_at hl 2 rfl) ?_
    refine lv_i2l (v := p2.toInt64) FX.1 FX.2.1 dX0_worse_15 rfl ?_
    refine lv_lconst (v := 0) FX.1 FX.2.1 dX0_worse_16 (by decide) ?_
    refine lv_ldc2 FX.1 FX.2.1 FX.2.2.2.1 (FX.2.2.2.2 _ q1267) dX0_worse_17 ?_
    refine bd hf (fun t2 h_t2 hf => ?_)
    refine clS_i0 (As := [.long p2.toInt64, .long 0, .long 3]) (rest := []) FX hw (wX0_isFrom h_t2) (va_cwS 3 FX.2.2.2.2 (lw_S q1119 q1120 q134 q1121) rfl rfl rfl (by decide +kernel) ⟨Nat.le_of_ble_eq_true rfl, Nat.le_of_ble_eq_true rfl⟩) rfl hl.1 rfl (lv_room (Nat.le_of_ble_eq_true rfl)) dX0_worse_20 ⟨rfl, rfl⟩ hm.le (fun H locs hw => ?_)
    refine lv_if_ne (tgt := 32) FX.1 FX.2.1 dX0_worse_23 (by decide) (fun c_23 => ?_) (fun c_23 => ?_)
    · have hf := it_neg c_23 hf
      refine lv_aload_n FX.1 FX.2.1 dX0_worse_32 rfl (lv_at hl 0 rfl) ?_
      refine gX0_38 FX hw dX0_worse_33 ?_
      refine bd hf (fun a3 h_a3 hf => ?_)
      rw [show va_rf (C.2.2.1 103) = .ref a3 from congrArg va_rf h_a3]
      refine bd hf (fun a4 h_a4 hf => ?_)
      refine gX0_161 FX hw h_a4 dX0_worse_36 ?_
      refine lv_iload_n FX.1 FX.2.1 dX0_worse_39 rfl (lv_at hl 1 rfl) ?_
      refine bd hf (fun a5 h_a5 hf => ?_)
      refine ei_aald 5 rfl FX hw h_a5 dX0_worse_40 ?_
      refine bd hf (fun v6 h_v6 hf => ?_)
      refine gX0_165 FX hw h_v6 dX0_worse_41 ?_
      refine lv_if_eq (tgt := 54) FX.1 FX.2.1 dX0_worse_44 (by decide) (fun c_44 => ?_) (fun c_44 => ?_)
      · have hf := it_pos c_44 hf
        refine lv_aload_n FX.1 FX.2.1 dX0_worse_54 rfl (lv_at hl 0 rfl) ?_
        refine gX0_38 FX hw dX0_worse_55 ?_
        refine bd hf (fun a7 h_a7 hf => ?_)
        rw [show va_rf (C.2.2.1 103) = .ref a7 from congrArg va_rf h_a7]
        refine lv_astore_n (lv' := [(3, .ref a7), (0, .ref (G.2.2.2 131)), (1, .int p1), (2, .int p2)]) FX.1 FX.2.1 dX0_worse_58 rfl hl (by decide) rfl (fun ls hl => ?_)
        refine lv_aload_n FX.1 FX.2.1 dX0_worse_59 rfl (lv_at hl 1 rfl) ?_
        refine lv_iload_n FX.1 FX.2.1 dX0_worse_60 rfl (lv_at hl 3 rfl) ?_
        refine bd hf (fun t8 h_t8 hf => ?_)
        refine clV_i0 (As := [.int p2]) (rest := []) FX hw (wX0_stateMany h_t8) (cwV 1 FX.2.2.2.2 (lw_V q1331 q1333 qs29 q134 q1334) rfl rfl rfl (by decide +kernel) ⟨Nat.le_of_ble_eq_true rfl, Nat.le_of_ble_eq_true rfl⟩) (fx_obj hw (o := (131, 0, 100, 31)) (by decide)) rfl rfl hl.1 rfl (lv_room (Nat.le_of_ble_eq_true rfl)) dX0_worse_61 ⟨rfl, rfl⟩ hm.le (fun H locs hw => ?_)
        refine lv_istore (lv' := [(4, .int t8), (3, .ref a7), (0, .ref (G.2.2.2 131)), (1, .int p1), (2, .int p2)]) FX.1 FX.2.1 dX0_worse_64 hl (by decide) rfl (fun ls hl => ?_)
        refine lv_aload_n FX.1 FX.2.1 dX0_worse_66 rfl (lv_at hl 2 rfl) ?_
        refine lv_aload_n FX.1 FX.2.1 dX0_worse_67 rfl (lv_at hl 1 rfl) ?_
        refine bd hf (fun g9 h_g9 hf => ?_)
        refine bd hf (fun t10 h_t10 hf => ?_)
        refine bd hf (fun g11 h_g11 hf => ?_)
        obtain ⟨fs_g9, he_g9⟩ := dC_some (gC_some h_g9)
        refine xlV_q (As := []) (rest := [.ref (G.2.2.2 131)]) FX hw (wX4_twin h_t10) (cwV 0 FX.2.2.2.2 (lw_V q1339 q1340 q1341 q141 q1342) rfl rfl rfl (by decide +kernel) ⟨Nat.le_of_ble_eq_true rfl, Nat.le_of_ble_eq_true rfl⟩) (dyn_he hw he_g9) rfl rfl hl.1 rfl (lv_room (Nat.le_of_ble_eq_true rfl)) dX0_worse_68 hm.roomC (fun H locs hw => ?_)
        have hm := hm.sM h_g11
        refine bd hf (fun C12 h_C12 hf => ?_)
        refine sX0_38 (v := (some t10.1)) FX hw dX0_worse_71 (fun H locs hw => ?_)
        rw [Option.some.inj h_C12] at hw
        refine lv_aload_n FX.1 FX.2.1 dX0_worse_74 rfl (lv_at hl 2 rfl) ?_
        refine gX0_38 FX hw dX0_worse_75 ?_
        refine bd hf (fun a13 h_a13 hf => ?_)
        rw [show va_rf (C12.2.2.1 103) = .ref a13 from congrArg va_rf h_a13]
        refine lv_iload_n FX.1 FX.2.1 dX0_worse_78 rfl (lv_at hl 3 rfl) ?_
        refine bd hf (fun g14 h_g14 hf => ?_)
        refine bd hf (fun t15 h_t15 hf => ?_)
        refine bd hf (fun g16 h_g16 hf => ?_)
        obtain ⟨fs_g14, he_g14⟩ := dC_some (gC_some h_g14)
        refine xlV_i (As := [.int p1]) (rest := []) FX hw (wX4_pulls h_t15) (cwV 1 FX.2.2.2.2 (lw_V q1197 q1198 q1199 q141 q1200) rfl rfl rfl (by decide +kernel) ⟨Nat.le_of_ble_eq_true rfl, Nat.le_of_ble_eq_true rfl⟩) (dyn_he hw he_g14) rfl rfl hl.1 rfl (lv_room (Nat.le_of_ble_eq_true rfl)) dX0_worse_79 hm.roomC (fun H locs hw => ?_)
        have hm := hm.sM h_g16
        refine lv_pop FX.1 FX.2.1 dX0_worse_82 rfl ?_
        refine lv_aload_n FX.1 FX.2.1 dX0_worse_83 rfl (lv_at hl 2 rfl) ?_
        refine lv_iload_n FX.1 FX.2.1 dX0_worse_84 rfl (lv_at hl 4 rfl) ?_
        refine bd hf (fun t17 h_t17 hf => ?_)
        refine clV_i0 (As := [.int p2]) (rest := []) FX hw (wX0_stateMany h_t17) (cwV 1 FX.2.2.2.2 (lw_V q1331 q1333 qs29 q134 q1334) rfl rfl rfl (by decide +kernel) ⟨Nat.le_of_ble_eq_true rfl, Nat.le_of_ble_eq_true rfl⟩) (fx_obj hw (o := (131, 0, 100, 31)) (by decide)) rfl rfl hl.1 rfl (lv_room (Nat.le_of_ble_eq_true rfl)) dX0_worse_85 ⟨rfl, rfl⟩ hm.le (fun H locs hw => ?_)
        refine lv_istore (lv' := [(5, .int t17), (4, .int t8), (3, .ref a7), (0, .ref (G.2.2.2 131)), (1, .int p1), (2, .int p2)]) FX.1 FX.2.1 dX0_worse_88 hl (by decide) rfl (fun ls hl => ?_)
        refine lv_aload_n FX.1 FX.2.1 dX0_worse_90 rfl (lv_at hl 3 rfl) ?_
        refine lv_aload_n FX.1 FX.2.1 dX0_worse_91 rfl (lv_at hl 2 rfl) ?_
        refine bd hf (fun C18 h_C18 hf => ?_)
        refine sX0_38 (v := (some a7)) FX hw dX0_worse_92 (fun H locs hw => ?_)
        rw [Option.some.inj h_C18] at hw
        refine lv_aload_n FX.1 FX.2.1 dX0_worse_95 rfl (lv_at hl 3 rfl) ?_
        refine lv_iload FX.1 FX.2.1 dX0_worse_96 (lv_at hl 0 rfl) ?_
        refine lv_iload FX.1 FX.2.1 dX0_worse_98 (lv_at hl 1 rfl) ?_
        refine lv_isub FX.1 FX.2.1 dX0_worse_100 ?_
        refine bd hf (fun t19 h_t19 hf => ?_)
        refine clV_i0 (As := [.int (t17 - t8)]) (rest := []) FX hw (wX0_gives h_t19) (cwV 1 FX.2.2.2.2 (lw_V q962 q964 qs16 q134 q965) rfl rfl rfl (by decide +kernel) ⟨Nat.le_of_ble_eq_true rfl, Nat.le_of_ble_eq_true rfl⟩) (fx_obj hw (o := (131, 0, 100, 31)) (by decide)) rfl rfl hl.1 rfl (lv_room (Nat.le_of_ble_eq_true rfl)) dX0_worse_101 ⟨rfl, rfl⟩ hm.le (fun H locs hw => ?_)
        have hk : t15.2 = t.2.2 := congrArg (fun z => z.2.2) (Option.some.inj hf)
        have hm : Cn K t.2.2 ((0 + (K.2.2.1 - t10.2.2.2.1)) + (t10.2.2.2.1 - t15.2.2.2.1)) ((0 + (K.2.2.2 - t10.2.2.2.2)) + (t10.2.2.2.2 - t15.2.2.2.2)) := hk ▸ hm
        refine w_cast hm.end_.1 hm.end_.2 ?_
        exact hret _ _ rfl (congrArg (fun z => z.1) (Option.some.inj hf)) (congrArg (fun z => (M, z.2.1, z.2.2.1, z.2.2.2.1)) (Option.some.inj hf)) hw dX0_worse_104
      · have hf := it_neg c_44 hf
        refine lv_aload_n FX.1 FX.2.1 dX0_worse_47 rfl (lv_at hl 0 rfl) ?_
        refine lv_bipush (v := 9) FX.1 FX.2.1 dX0_worse_48 (by decide) ?_
        refine bd hf (fun t20 h_t20 hf => ?_)
        refine clV_i0 (As := [.int 9]) (rest := []) FX hw (wX0_none h_t20) (cwV 1 FX.2.2.2.2 (lw_V q620 q622 qs3 q134 q623) rfl rfl rfl (by decide +kernel) ⟨Nat.le_of_ble_eq_true rfl, Nat.le_of_ble_eq_true rfl⟩) (fx_obj hw (o := (131, 0, 100, 31)) (by decide)) rfl rfl hl.1 rfl (lv_room (Nat.le_of_ble_eq_true rfl)) dX0_worse_50 ⟨rfl, rfl⟩ hm.le (fun H locs hw => ?_)
        have hk : K = t.2.2 := congrArg (fun z => z.2.2) (Option.some.inj hf)
        have hm : Cn K t.2.2 0 0 := hk ▸ hm
        refine w_cast hm.end_.1 hm.end_.2 ?_
        exact hret _ _ rfl (congrArg (fun z => z.1) (Option.some.inj hf)) (congrArg (fun z => (M, z.2.1, z.2.2.1, z.2.2.2.1)) (Option.some.inj hf)) hw dX0_worse_53
    · have hf := it_pos c_23 hf
      refine lv_aload_n FX.1 FX.2.1 dX0_worse_26 rfl (lv_at hl 0 rfl) ?_
      refine lv_iconst (v := 5) FX.1 FX.2.1 dX0_worse_27 (by decide) ?_
      refine bd hf (fun t21 h_t21 hf => ?_)
      refine clV_i0 (As := [.int 5]) (rest := []) FX hw (wX0_none h_t21) (cwV 1 FX.2.2.2.2 (lw_V q620 q622 qs3 q134 q623) rfl rfl rfl (by decide +kernel) ⟨Nat.le_of_ble_eq_true rfl, Nat.le_of_ble_eq_true rfl⟩) (fx_obj hw (o := (131, 0, 100, 31)) (by decide)) rfl rfl hl.1 rfl (lv_room (Nat.le_of_ble_eq_true rfl)) dX0_worse_28 ⟨rfl, rfl⟩ hm.le (fun H locs hw => ?_)
      have hk : K = t.2.2 := congrArg (fun z => z.2.2) (Option.some.inj hf)
      have hm : Cn K t.2.2 0 0 := hk ▸ hm
      refine w_cast hm.end_.1 hm.end_.2 ?_
      exact hret _ _ rfl (congrArg (fun z => z.1) (Option.some.inj hf)) (congrArg (fun z => (M, z.2.1, z.2.2.1, z.2.2.2.1)) (Option.some.inj hf)) hw dX0_worse_31
  · have hf := it_pos c_5 hf
    refine lv_aload_n FX.1 FX.2.1 dX0_worse_8 rfl (lv_at hl 0 rfl) ?_
    refine lv_iconst (v := 2) FX.1 FX.2.1 dX0_worse_9 (by decide) ?_
    refine bd hf (fun t22 h_t22 hf => ?_)
    refine clV_i0 (As := [.int 2]) (rest := []) FX hw (wX0_none h_t22) (cwV 1 FX.2.2.2.2 (lw_V q620 q622 qs3 q134 q623) rfl rfl rfl (by decide +kernel) ⟨Nat.le_of_ble_eq_true rfl, Nat.le_of_ble_eq_true rfl⟩) (fx_obj hw (o := (131, 0, 100, 31)) (by decide)) rfl rfl hl.1 rfl (lv_room (Nat.le_of_ble_eq_true rfl)) dX0_worse_10 ⟨rfl, rfl⟩ hm.le (fun H locs hw => ?_)
    have hk : K = t.2.2 := congrArg (fun z => z.2.2) (Option.some.inj hf)
    have hm : Cn K t.2.2 0 0 := hk ▸ hm
    refine w_cast hm.end_.1 hm.end_.2 ?_
    exact hret _ _ rfl (congrArg (fun z => z.1) (Option.some.inj hf)) (congrArg (fun z => (M, z.2.1, z.2.2.1, z.2.2.2.1)) (Option.some.inj hf)) hw dX0_worse_13
abbrev rmX0_worst : Room := { frames := 7, cells := 0, slots := 0, locals := 423 }
set_option maxHeartbeats 4000000 in
theorem wX0_worst {l : Launch} {G : GT} {M C : FS} {K : KT} {t : (Int32 × FS)} (hf : fX0_worst C K = some t) : CtI l yX0_worst (ws_ yX0_worst cX0_worst 3 (some .int)) rmX0_worst G [.ref (G.2.2.2 131)] (M, C, K.1, K.2.1) t.1 (M, t.2, K.1, K.2.1) := by
  refine mkI (ty := .int) (by decide) (Nat.le_of_ble_eq_true rfl) (fun p e s m a0 below meth c Q FX hw hname hret ls hl => ?_)
  have hl : lv_has ls 3 [(0, .ref (G.2.2.2 131))] := hl
  unfold fX0_worst at hf
  refine lv_iconst (v := (-1)) FX.1 FX.2.1 dX0_worst_0 (by decide) ?_
  refine lv_istore_n (lv' := [(1, .int (-1)), (0, .ref (G.2.2.2 131))]) FX.1 FX.2.1 dX0_worst_1 rfl hl (by decide) rfl (fun ls hl => ?_)
  refine lv_iconst (v := 0) FX.1 FX.2.1 dX0_worst_2 (by decide) ?_
  refine lv_istore_n (lv' := [(2, .int 0), (1, .int (-1)), (0, .ref (G.2.2.2 131))]) FX.1 FX.2.1 dX0_worst_3 rfl hl (by decide) rfl (fun ls hl => ?_)
  refine bd hf (fun u4 ht hf => ?_)
  obtain ⟨n, hn⟩ := lp_iff.mp ht
  have hX4 : ∀ (t4_1 : Int32) (H : Heap) (locs : List Loc) (ls : Array Slot) , t4_1 = u4 → WS G (M, C, K.1, K.2.1) s H locs → lv_has ls 3 [(0, .ref (G.2.2.2 131)), (1, .int t4_1)] → W p l e rmX0_worst s m a0 below meth c H locs 0 0 Q (F0 m 62 ls []) := by
    intro t4_1 H locs ls he hw hl
    subst he
    refine lv_aload_n FX.1 FX.2.1 dX0_worst_62 rfl (lv_at hl 0 rfl) ?_
    refine lv_iload_n FX.1 FX.2.1 dX0_worst_63 rfl (lv_at hl 1 rfl) ?_
    refine bd hf (fun t13 h_t13 hf => ?_)
    refine clV_i0 (As := [.int t4_1]) (rest := []) FX hw (wX0_orNothing h_t13) (cwV 1 FX.2.2.2.2 (lw_V q1090 q1092 qs21 q134 q1093) rfl rfl rfl (by decide +kernel) ⟨Nat.le_of_ble_eq_true rfl, Nat.le_of_ble_eq_true rfl⟩) (fx_obj hw (o := (131, 0, 100, 31)) (by decide)) rfl rfl hl.1 rfl (lv_room (Nat.le_of_ble_eq_true rfl)) dX0_worst_64 ⟨rfl, rfl⟩ ⟨Nat.zero_le _, Nat.zero_le _⟩ (fun H locs hw => ?_)
    exact hret _ _ rfl (congrArg (fun z => z.1) (Option.some.inj hf)) (congrArg (fun z => (M, z.2, K.1, K.2.1)) (Option.some.inj hf)) hw dX0_worst_67
  have hL4 : ∀ (n : Nat) (z4_1 : Int32) (z4_2 : Int32) (H : Heap) (locs : List Loc) (ls : Array Slot) , lpN (fun z => fX0_worst_L4 C K z.1 z.2) n (z4_1, z4_2) = some u4 → WS G (M, C, K.1, K.2.1) s H locs → lv_has ls 3 [(0, .ref (G.2.2.2 131)), (1, .int z4_1), (2, .int z4_2)] → W p l e rmX0_worst s m a0 below meth c H locs 0 0 Q (F0 m 4 ls []) := by
    intro n
    induction n with
    | zero => intro z4_1 z4_2 H locs ls hz; cases hz
    | succ n ih =>
      intro z4_1 z4_2 H locs ls hz hw hl
      refine bd (show (fX0_worst_L4 C K z4_1 z4_2).bind _ = some u4 from hz) (fun x4 hf hk4 => ?_)
      unfold fX0_worst_L4 at hf
      refine lv_iload_n FX.1 FX.2.1 dX0_worst_4 rfl (lv_at hl 2 rfl) ?_
      refine lv_aload_n FX.1 FX.2.1 dX0_worst_5 rfl (lv_at hl 0 rfl) ?_
      refine gX0_38 FX hw dX0_worst_6 ?_
      refine bd hf (fun a1 h_a1 hf => ?_)
      rw [show va_rf (C.2.2.1 103) = .ref a1 from congrArg va_rf h_a1]
      refine bd hf (fun v2 h_v2 hf => ?_)
      refine gX0_152 FX hw h_v2 dX0_worst_9 ?_
      refine lv_icmp_ge (tgt := 62) FX.1 FX.2.1 dX0_worst_12 (by decide) (fun c_12 => ?_) (fun c_12 => ?_)
      · have hf := it_pos c_12 hf
        exact hX4 _ _ _ _ (lpe hf hk4) hw (lv_sub hl [0, 1] rfl)
      · have hf := it_neg c_12 hf
        refine lv_aload_n FX.1 FX.2.1 dX0_worst_15 rfl (lv_at hl 0 rfl) ?_
        refine gX0_38 FX hw dX0_worst_16 ?_
        refine bd hf (fun a3 h_a3 hf => ?_)
        rw [show va_rf (C.2.2.1 103) = .ref a3 from congrArg va_rf h_a3]
        refine bd hf (fun a4 h_a4 hf => ?_)
        refine gX0_161 FX hw h_a4 dX0_worst_19 ?_
        refine lv_iload_n FX.1 FX.2.1 dX0_worst_22 rfl (lv_at hl 2 rfl) ?_
        refine bd hf (fun a5 h_a5 hf => ?_)
        refine ei_aald 5 rfl FX hw h_a5 dX0_worst_23 ?_
        refine bd hf (fun v6 h_v6 hf => ?_)
        refine gX0_165 FX hw h_v6 dX0_worst_24 ?_
        refine lv_if_ne (tgt := 56) FX.1 FX.2.1 dX0_worst_27 (by decide) (fun c_27 => ?_) (fun c_27 => ?_)
        · have hf := it_neg c_27 hf
          refine lv_iinc (v := (z4_2 + 1)) (lv' := [(2, .int (z4_2 + 1)), (0, .ref (G.2.2.2 131)), (1, .int z4_1)]) FX.1 FX.2.1 dX0_worst_56 hl (k := 2) rfl (congrArg (fun q : Int32 => z4_2 + q) (by decide : Int32.ofInt 1 = 1)) (by decide) rfl (fun ls hl => ?_)
          refine lv_goto (tgt := 4) FX.1 FX.2.1 dX0_worst_59 (by decide) ?_
          exact ih _ _ _ _ _ (lpc hf hk4) hw (lv_sub hl [1, 2, 0] rfl)
        · have hf := it_pos c_27 hf
          refine lv_iload_n FX.1 FX.2.1 dX0_worst_30 rfl (lv_at hl 1 rfl) ?_
          refine lv_iconst (v := (-1)) FX.1 FX.2.1 dX0_worst_31 (by decide) ?_
          refine lv_icmp_eq (tgt := 54) FX.1 FX.2.1 dX0_worst_32 (by decide) (fun c_32 => ?_) (fun c_32 => ?_)
          · have hf := it_pos c_32 hf
            refine lv_iload_n FX.1 FX.2.1 dX0_worst_54 rfl (lv_at hl 2 rfl) ?_
            refine lv_istore_n (lv' := [(1, .int z4_2), (0, .ref (G.2.2.2 131)), (2, .int z4_2)]) FX.1 FX.2.1 dX0_worst_55 rfl hl (by decide) rfl (fun ls hl => ?_)
            refine lv_iinc (v := (z4_2 + 1)) (lv' := [(2, .int (z4_2 + 1)), (1, .int z4_2), (0, .ref (G.2.2.2 131))]) FX.1 FX.2.1 dX0_worst_56 hl (k := 2) rfl (congrArg (fun q : Int32 => z4_2 + q) (by decide : Int32.ofInt 1 = 1)) (by decide) rfl (fun ls hl => ?_)
            refine lv_goto (tgt := 4) FX.1 FX.2.1 dX0_worst_59 (by decide) ?_
            exact ih _ _ _ _ _ (lpc hf hk4) hw (lv_sub hl [2, 1, 0] rfl)
          · have hf := it_neg c_32 hf
            refine lv_aload_n FX.1 FX.2.1 dX0_worst_35 rfl (lv_at hl 0 rfl) ?_
            refine gX0_38 FX hw dX0_worst_36 ?_
            refine bd hf (fun a7 h_a7 hf => ?_)
            rw [show va_rf (C.2.2.1 103) = .ref a7 from congrArg va_rf h_a7]
            refine lv_iload_n FX.1 FX.2.1 dX0_worst_39 rfl (lv_at hl 2 rfl) ?_
            refine bd hf (fun g8 h_g8 hf => ?_)
            refine bd hf (fun t9 h_t9 hf => ?_)
            obtain ⟨fs_g8, he_g8⟩ := dC_some (gC_some h_g8)
            refine clV_i0 (As := [.int z4_2]) (rest := []) FX hw (wX4_crossings h_t9) (cwV 1 FX.2.2.2.2 (lw_V q1041 q1042 q1043 q141 q1044) rfl rfl rfl (by decide +kernel) ⟨Nat.le_of_ble_eq_true rfl, Nat.le_of_ble_eq_true rfl⟩) (dyn_he hw he_g8) rfl rfl hl.1 rfl (lv_room (Nat.le_of_ble_eq_true rfl)) dX0_worst_40 ⟨rfl, rfl⟩ ⟨Nat.zero_le _, Nat.zero_le _⟩ (fun H locs hw => ?_)
            refine lv_aload_n FX.1 FX.2.1 dX0_worst_43 rfl (lv_at hl 0 rfl) ?_
            refine gX0_38 FX hw dX0_worst_44 ?_
            refine bd hf (fun a10 h_a10 hf => ?_)
            rw [show va_rf (C.2.2.1 103) = .ref a10 from congrArg va_rf h_a10]
            refine lv_iload_n FX.1 FX.2.1 dX0_worst_47 rfl (lv_at hl 1 rfl) ?_
            refine bd hf (fun g11 h_g11 hf => ?_)
            refine bd hf (fun t12 h_t12 hf => ?_)
            obtain ⟨fs_g11, he_g11⟩ := dC_some (gC_some h_g11)
            refine clV_i0 (As := [.int z4_1]) (rest := [.int t9]) FX hw (wX4_crossings h_t12) (cwV 1 FX.2.2.2.2 (lw_V q1041 q1042 q1043 q141 q1044) rfl rfl rfl (by decide +kernel) ⟨Nat.le_of_ble_eq_true rfl, Nat.le_of_ble_eq_true rfl⟩) (dyn_he hw he_g11) rfl rfl hl.1 rfl (lv_room (Nat.le_of_ble_eq_true rfl)) dX0_worst_48 ⟨rfl, rfl⟩ ⟨Nat.zero_le _, Nat.zero_le _⟩ (fun H locs hw => ?_)
            refine lv_icmp_le (tgt := 56) FX.1 FX.2.1 dX0_worst_51 (by decide) (fun c_51 => ?_) (fun c_51 => ?_)
            · have hf := it_pos c_51 hf
              refine lv_iinc (v := (z4_2 + 1)) (lv' := [(2, .int (z4_2 + 1)), (0, .ref (G.2.2.2 131)), (1, .int z4_1)]) FX.1 FX.2.1 dX0_worst_56 hl (k := 2) rfl (congrArg (fun q : Int32 => z4_2 + q) (by decide : Int32.ofInt 1 = 1)) (by decide) rfl (fun ls hl => ?_)
              refine lv_goto (tgt := 4) FX.1 FX.2.1 dX0_worst_59 (by decide) ?_
              exact ih _ _ _ _ _ (lpc hf hk4) hw (lv_sub hl [1, 2, 0] rfl)
            · have hf := it_neg c_51 hf
              refine lv_iload_n FX.1 FX.2.1 dX0_worst_54 rfl (lv_at hl 2 rfl) ?_
              refine lv_istore_n (lv' := [(1, .int z4_2), (0, .ref (G.2.2.2 131)), (2, .int z4_2)]) FX.1 FX.2.1 dX0_worst_55 rfl hl (by decide) rfl (fun ls hl => ?_)
              refine lv_iinc (v := (z4_2 + 1)) (lv' := [(2, .int (z4_2 + 1)), (1, .int z4_2), (0, .ref (G.2.2.2 131))]) FX.1 FX.2.1 dX0_worst_56 hl (k := 2) rfl (congrArg (fun q : Int32 => z4_2 + q) (by decide : Int32.ofInt 1 = 1)) (by decide) rfl (fun ls hl => ?_)
              refine lv_goto (tgt := 4) FX.1 FX.2.1 dX0_worst_59 (by decide) ?_
              exact ih _ _ _ _ _ (lpc hf hk4) hw (lv_sub hl [2, 1, 0] rfl)
  exact hL4 n _ _ _ _ _ hn hw (lv_sub hl [2, 1, 0] rfl)
abbrev rmX0_key (K : KT) : Room := { frames := 8, cells := K.2.2.1, slots := K.2.2.2, locals := 446 }
set_option maxHeartbeats 4000000 in
theorem wX0_key {l : Launch} {G : GT} {M C : FS} {K : KT} {t : (Int32 × FS × KT)} (hf : fX0_key C K = some t) : EtI l yX0_key (ws_ yX0_key cX0_key 5 (some .int)) (rmX0_key K) G [.ref (G.2.2.2 131)] (M, C, K.1, K.2.1) t.1 (M, t.2.1, t.2.2.1, t.2.2.2.1) (K.2.2.1 - t.2.2.2.2.1) (K.2.2.2 - t.2.2.2.2.2) := by
  refine ekI (ty := .int) (by decide) (Nat.le_of_ble_eq_true rfl) (fun p e s m a0 below meth c Q FX hw hname hret ls hl => ?_)
  have hl : lv_has ls 5 [(0, .ref (G.2.2.2 131))] := hl
  unfold fX0_key at hf
  have hm : Cn K K 0 0 := Cn.rf
  refine lv_aload_n FX.1 FX.2.1 dX0_key_0 rfl (lv_at hl 0 rfl) ?_
  refine gX0_38 FX hw dX0_key_1 ?_
  refine bd hf (fun a1 h_a1 hf => ?_)
  rw [show va_rf (C.2.2.1 103) = .ref a1 from congrArg va_rf h_a1]
  refine lv_astore_n (lv' := [(1, .ref a1), (0, .ref (G.2.2.2 131))]) FX.1 FX.2.1 dX0_key_4 rfl hl (by decide) rfl (fun ls hl => ?_)
  refine lv_iconst (v := (-1)) FX.1 FX.2.1 dX0_key_5 (by decide) ?_
  refine lv_istore_n (lv' := [(2, .int (-1)), (1, .ref a1), (0, .ref (G.2.2.2 131))]) FX.1 FX.2.1 dX0_key_6 rfl hl (by decide) rfl (fun ls hl => ?_)
  refine lv_iconst (v := 0) FX.1 FX.2.1 dX0_key_7 (by decide) ?_
  refine lv_istore_n (lv' := [(3, .int 0), (2, .int (-1)), (1, .ref a1), (0, .ref (G.2.2.2 131))]) FX.1 FX.2.1 dX0_key_8 rfl hl (by decide) rfl (fun ls hl => ?_)
  refine lv_iconst (v := 0) FX.1 FX.2.1 dX0_key_9 (by decide) ?_
  refine lv_istore (lv' := [(4, .int 0), (3, .int 0), (2, .int (-1)), (1, .ref a1), (0, .ref (G.2.2.2 131))]) FX.1 FX.2.1 dX0_key_10 hl (by decide) rfl (fun ls hl => ?_)
  refine bd hf (fun u12 ht hf => ?_)
  obtain ⟨n, hn⟩ := lp_iff.mp ht
  have hX12 : ∀ (t12_2 : Int32) (Ct12 : FS) (Kt12 : KT) (H : Heap) (locs : List Loc) (ls : Array Slot) (nc ns : Nat) , (t12_2, Ct12, Kt12) = u12 → Cn K Kt12 nc ns → WS G (M, Ct12, Kt12.1, Kt12.2.1) s H locs → lv_has ls 5 [(0, .ref (G.2.2.2 131)), (1, .ref a1), (2, .int t12_2)] → W p l e (rmX0_key K) s m a0 below meth c H locs nc ns Q (F0 m 91 ls []) := by
    intro t12_2 Ct12 Kt12 H locs ls nc ns he hm hw hl
    subst he
    have hf : fX0_key_X12 a1 t12_2 Ct12 Kt12 = some t := hf
    unfold fX0_key_X12 at hf
    refine lv_aload_n FX.1 FX.2.1 dX0_key_91 rfl (lv_at hl 0 rfl) ?_
    refine lv_aload_n FX.1 FX.2.1 dX0_key_92 rfl (lv_at hl 1 rfl) ?_
    refine bd hf (fun C20 h_C20 hf => ?_)
    refine sX0_38 (v := (some a1)) FX hw dX0_key_93 (fun H locs hw => ?_)
    rw [Option.some.inj h_C20] at hw
    refine lv_aload_n FX.1 FX.2.1 dX0_key_96 rfl (lv_at hl 0 rfl) ?_
    refine lv_iload_n FX.1 FX.2.1 dX0_key_97 rfl (lv_at hl 2 rfl) ?_
    refine bd hf (fun t21 h_t21 hf => ?_)
    refine clV_i0 (As := [.int t12_2]) (rest := []) FX hw (wX0_orNothing h_t21) (cwV 1 FX.2.2.2.2 (lw_V q1090 q1092 qs21 q134 q1093) rfl rfl rfl (by decide +kernel) ⟨Nat.le_of_ble_eq_true rfl, Nat.le_of_ble_eq_true rfl⟩) (fx_obj hw (o := (131, 0, 100, 31)) (by decide)) rfl rfl hl.1 rfl (lv_room (Nat.le_of_ble_eq_true rfl)) dX0_key_98 ⟨rfl, rfl⟩ hm.le (fun H locs hw => ?_)
    have hk : Kt12 = t.2.2 := congrArg (fun z => z.2.2) (Option.some.inj hf)
    have hm : Cn K t.2.2 nc ns := hk ▸ hm
    refine w_cast hm.end_.1 hm.end_.2 ?_
    exact hret _ _ rfl (congrArg (fun z => z.1) (Option.some.inj hf)) (congrArg (fun z => (M, z.2.1, z.2.2.1, z.2.2.2.1)) (Option.some.inj hf)) hw dX0_key_101
  have hL12 : ∀ (n : Nat) (z12_2 : Int32) (z12_3 : Int32) (z12_4 : Int32) (Cz12 : FS) (Kz12 : KT) (H : Heap) (locs : List Loc) (ls : Array Slot) (nc ns : Nat) , lpN (fun z => fX0_key_L12 a1 z.1 z.2.1 z.2.2.1 z.2.2.2.1 z.2.2.2.2) n (z12_2, z12_3, z12_4, Cz12, Kz12) = some u12 → Cn K Kz12 nc ns → WS G (M, Cz12, Kz12.1, Kz12.2.1) s H locs → lv_has ls 5 [(0, .ref (G.2.2.2 131)), (1, .ref a1), (2, .int z12_2), (3, .int z12_3), (4, .int z12_4)] → W p l e (rmX0_key K) s m a0 below meth c H locs nc ns Q (F0 m 12 ls []) := by
    intro n
    induction n with
    | zero => intro z12_2 z12_3 z12_4 Cz12 Kz12 H locs ls nc ns hz; cases hz
    | succ n ih =>
      intro z12_2 z12_3 z12_4 Cz12 Kz12 H locs ls nc ns hz hm hw hl
      refine bd (show (fX0_key_L12 a1 z12_2 z12_3 z12_4 Cz12 Kz12).bind _ = some u12 from hz) (fun x12 hf hk12 => ?_)
      unfold fX0_key_L12 at hf
      refine lv_iload FX.1 FX.2.1 dX0_key_12 (lv_at hl 4 rfl) ?_
      refine lv_aload_n FX.1 FX.2.1 dX0_key_14 rfl (lv_at hl 1 rfl) ?_
      refine bd hf (fun v2 h_v2 hf => ?_)
      refine gX0_152 FX hw h_v2 dX0_key_15 ?_
      refine lv_icmp_ge (tgt := 91) FX.1 FX.2.1 dX0_key_18 (by decide) (fun c_18 => ?_) (fun c_18 => ?_)
      · have hf := it_pos c_18 hf
        exact hX12 _ _ _ _ _ _ _ _ (lpe hf hk12) hm hw (lv_sub hl [0, 1, 2] rfl)
      · have hf := it_neg c_18 hf
        refine lv_aload_n FX.1 FX.2.1 dX0_key_21 rfl (lv_at hl 1 rfl) ?_
        refine bd hf (fun a3 h_a3 hf => ?_)
        refine gX0_161 FX hw h_a3 dX0_key_22 ?_
        refine lv_iload FX.1 FX.2.1 dX0_key_25 (lv_at hl 4 rfl) ?_
        refine bd hf (fun a4 h_a4 hf => ?_)
        refine ei_aald 5 rfl FX hw h_a4 dX0_key_27 ?_
        refine bd hf (fun v5 h_v5 hf => ?_)
        refine gX0_165 FX hw h_v5 dX0_key_28 ?_
        refine lv_if_eq (tgt := 37) FX.1 FX.2.1 dX0_key_31 (by decide) (fun c_31 => ?_) (fun c_31 => ?_)
        · have hf := it_pos c_31 hf
          refine lv_aload_n FX.1 FX.2.1 dX0_key_37 rfl (lv_at hl 0 rfl) ?_
          refine lv_aload_n FX.1 FX.2.1 dX0_key_38 rfl (lv_at hl 1 rfl) ?_
          refine bd hf (fun g6 h_g6 hf => ?_)
          refine bd hf (fun t7 h_t7 hf => ?_)
          refine bd hf (fun g8 h_g8 hf => ?_)
          obtain ⟨fs_g6, he_g6⟩ := dC_some (gC_some h_g6)
          refine xlV_q (As := []) (rest := [.ref (G.2.2.2 131)]) FX hw (wX4_twin h_t7) (cwV 0 FX.2.2.2.2 (lw_V q1339 q1340 q1341 q141 q1342) rfl rfl rfl (by decide +kernel) ⟨Nat.le_of_ble_eq_true rfl, Nat.le_of_ble_eq_true rfl⟩) (dyn_he hw he_g6) rfl rfl hl.1 rfl (lv_room (Nat.le_of_ble_eq_true rfl)) dX0_key_39 hm.roomC (fun H locs hw => ?_)
          have hm := hm.sM h_g8
          refine bd hf (fun C9 h_C9 hf => ?_)
          refine sX0_38 (v := (some t7.1)) FX hw dX0_key_42 (fun H locs hw => ?_)
          rw [Option.some.inj h_C9] at hw
          refine lv_aload_n FX.1 FX.2.1 dX0_key_45 rfl (lv_at hl 0 rfl) ?_
          refine gX0_38 FX hw dX0_key_46 ?_
          refine bd hf (fun a10 h_a10 hf => ?_)
          rw [show va_rf (C9.2.2.1 103) = .ref a10 from congrArg va_rf h_a10]
          refine lv_iload FX.1 FX.2.1 dX0_key_49 (lv_at hl 4 rfl) ?_
          refine bd hf (fun g11 h_g11 hf => ?_)
          refine bd hf (fun t12 h_t12 hf => ?_)
          refine bd hf (fun g13 h_g13 hf => ?_)
          obtain ⟨fs_g11, he_g11⟩ := dC_some (gC_some h_g11)
          refine clV_i0 (As := [.int z12_4]) (rest := []) FX hw (wX4_cuts h_t12) (cwV 1 FX.2.2.2.2 (lw_V q1239 q1240 q1241 q141 q1242) rfl rfl rfl (by decide +kernel) ⟨Nat.le_of_ble_eq_true rfl, Nat.le_of_ble_eq_true rfl⟩) (dyn_he hw he_g11) rfl rfl hl.1 rfl (lv_room (Nat.le_of_ble_eq_true rfl)) dX0_key_51 ⟨rfl, rfl⟩ hm.le (fun H locs hw => ?_)
          have hm := hm.sG h_g13
          refine lv_pop FX.1 FX.2.1 dX0_key_54 rfl ?_
          refine lv_iload_n FX.1 FX.2.1 dX0_key_55 rfl (lv_at hl 2 rfl) ?_
          refine lv_iconst (v := (-1)) FX.1 FX.2.1 dX0_key_56 (by decide) ?_
          have hK74 : ∀ (H : Heap) (locs : List Loc) (ls : Array Slot) (nc ns : Nat) , fX0_key_J74 z12_4 C9 t12  = some x12 → Cn K t12.2 nc ns → WS G (M, C9, t12.2.1, t12.2.2.1) s H locs → lv_has ls 5 [(0, .ref (G.2.2.2 131)), (1, .ref a1), (4, .int z12_4)] → W p l e (rmX0_key K) s m a0 below meth c H locs nc ns Q (F0 m 74 ls []) := by
            intro  H locs ls nc ns hf hm hw hl
            unfold fX0_key_J74 at hf
            refine lv_iload FX.1 FX.2.1 dX0_key_74 (lv_at hl 2 rfl) ?_
            refine lv_istore_n (lv' := [(2, .int z12_4), (0, .ref (G.2.2.2 131)), (1, .ref a1), (4, .int z12_4)]) FX.1 FX.2.1 dX0_key_76 rfl hl (by decide) rfl (fun ls hl => ?_)
            refine lv_aload_n FX.1 FX.2.1 dX0_key_77 rfl (lv_at hl 1 rfl) ?_
            refine gX0_38 FX hw dX0_key_78 ?_
            refine bd hf (fun a14 h_a14 hf => ?_)
            rw [show va_rf (C9.2.2.1 103) = .ref a14 from congrArg va_rf h_a14]
            refine bd hf (fun g15 h_g15 hf => ?_)
            refine bd hf (fun t16 h_t16 hf => ?_)
            obtain ⟨fs_g15, he_g15⟩ := dC_some (gC_some h_g15)
            refine clV_i0 (As := []) (rest := []) FX hw (wX4_largest h_t16) (cwV 0 FX.2.2.2.2 (lw_V q1302 q1303 q1304 q141 q1305) rfl rfl rfl (by decide +kernel) ⟨Nat.le_of_ble_eq_true rfl, Nat.le_of_ble_eq_true rfl⟩) (dyn_he hw he_g15) rfl rfl hl.1 rfl (lv_room (Nat.le_of_ble_eq_true rfl)) dX0_key_81 ⟨rfl, rfl⟩ hm.le (fun H locs hw => ?_)
            refine lv_istore_n (lv' := [(3, .int t16), (2, .int z12_4), (0, .ref (G.2.2.2 131)), (1, .ref a1), (4, .int z12_4)]) FX.1 FX.2.1 dX0_key_84 rfl hl (by decide) rfl (fun ls hl => ?_)
            refine lv_iinc (v := (z12_4 + 1)) (lv' := [(4, .int (z12_4 + 1)), (3, .int t16), (2, .int z12_4), (0, .ref (G.2.2.2 131)), (1, .ref a1)]) FX.1 FX.2.1 dX0_key_85 hl (k := 4) rfl (congrArg (fun q : Int32 => z12_4 + q) (by decide : Int32.ofInt 1 = 1)) (by decide) rfl (fun ls hl => ?_)
            refine lv_goto (tgt := 12) FX.1 FX.2.1 dX0_key_88 (by decide) ?_
            exact ih _ _ _ _ _ _ _ _ _ _ (lpc hf hk12) hm hw (lv_sub hl [3, 4, 2, 1, 0] rfl)
          refine lv_icmp_eq (tgt := 74) FX.1 FX.2.1 dX0_key_57 (by decide) (fun c_57 => ?_) (fun c_57 => ?_)
          · have hf := it_pos c_57 hf
            exact hK74  _ _ _ _ _ hf hm hw (lv_sub hl [0, 1, 4] rfl)
          · have hf := it_neg c_57 hf
            refine lv_aload_n FX.1 FX.2.1 dX0_key_60 rfl (lv_at hl 0 rfl) ?_
            refine gX0_38 FX hw dX0_key_61 ?_
            refine bd hf (fun a17 h_a17 hf => ?_)
            rw [show va_rf (C9.2.2.1 103) = .ref a17 from congrArg va_rf h_a17]
            refine bd hf (fun g18 h_g18 hf => ?_)
            refine bd hf (fun t19 h_t19 hf => ?_)
            obtain ⟨fs_g18, he_g18⟩ := dC_some (gC_some h_g18)
            refine clV_i0 (As := []) (rest := []) FX hw (wX4_largest h_t19) (cwV 0 FX.2.2.2.2 (lw_V q1302 q1303 q1304 q141 q1305) rfl rfl rfl (by decide +kernel) ⟨Nat.le_of_ble_eq_true rfl, Nat.le_of_ble_eq_true rfl⟩) (dyn_he hw he_g18) rfl rfl hl.1 rfl (lv_room (Nat.le_of_ble_eq_true rfl)) dX0_key_64 ⟨rfl, rfl⟩ hm.le (fun H locs hw => ?_)
            refine lv_iload_n FX.1 FX.2.1 dX0_key_67 rfl (lv_at hl 3 rfl) ?_
            refine lv_icmp_lt (tgt := 74) FX.1 FX.2.1 dX0_key_68 (by decide) (fun c_68 => ?_) (fun c_68 => ?_)
            · have hf := it_pos c_68 hf
              exact hK74  _ _ _ _ _ hf hm hw (lv_sub hl [0, 1, 4] rfl)
            · have hf := it_neg c_68 hf
              refine lv_goto (tgt := 85) FX.1 FX.2.1 dX0_key_71 (by decide) ?_
              refine lv_iinc (v := (z12_4 + 1)) (lv' := [(4, .int (z12_4 + 1)), (0, .ref (G.2.2.2 131)), (1, .ref a1), (2, .int z12_2), (3, .int z12_3)]) FX.1 FX.2.1 dX0_key_85 hl (k := 4) rfl (congrArg (fun q : Int32 => z12_4 + q) (by decide : Int32.ofInt 1 = 1)) (by decide) rfl (fun ls hl => ?_)
              refine lv_goto (tgt := 12) FX.1 FX.2.1 dX0_key_88 (by decide) ?_
              exact ih _ _ _ _ _ _ _ _ _ _ (lpc hf hk12) hm hw (lv_sub hl [1, 2, 3, 4, 0] rfl)
        · have hf := it_neg c_31 hf
          refine lv_goto (tgt := 85) FX.1 FX.2.1 dX0_key_34 (by decide) ?_
          refine lv_iinc (v := (z12_4 + 1)) (lv' := [(4, .int (z12_4 + 1)), (0, .ref (G.2.2.2 131)), (1, .ref a1), (2, .int z12_2), (3, .int z12_3)]) FX.1 FX.2.1 dX0_key_85 hl (k := 4) rfl (congrArg (fun q : Int32 => z12_4 + q) (by decide : Int32.ofInt 1 = 1)) (by decide) rfl (fun ls hl => ?_)
          refine lv_goto (tgt := 12) FX.1 FX.2.1 dX0_key_88 (by decide) ?_
          exact ih _ _ _ _ _ _ _ _ _ _ (lpc hf hk12) hm hw (lv_sub hl [1, 2, 3, 4, 0] rfl)
  exact hL12 n _ _ _ _ _ _ _ _ _ _ hn hm hw (lv_sub hl [4, 3, 2, 1, 0] rfl)
abbrev rmX0_loosened : Room := { frames := 1, cells := 0, slots := 0, locals := 60 }
set_option maxHeartbeats 4000000 in
theorem wX0_loosened {l : Launch} {G : GT} {M C : FS} {K : KT} {p1 : Int32} {p2 : Int32} {t : Int32} (hf : fX0_loosened p1 p2 = some t) : CtI l yX0_loosened (ws_ yX0_loosened cX0_loosened 2 (some .int)) rmX0_loosened G [.int p1, .int p2] (M, C, K.1, K.2.1) t (M, C, K.1, K.2.1) := by
  refine mkI (ty := .int) (by decide) (Nat.le_of_ble_eq_true rfl) (fun p e s m a0 below meth c Q FX hw hname hret ls hl => ?_)
  have hl : lv_has ls 2 [(0, .int p1), (1, .int p2)] := hl
  unfold fX0_loosened at hf
  refine lv_iload_n FX.1 FX.2.1 dX0_loosened_0 rfl (lv_at hl 0 rfl) ?_
  refine lv_iconst (v := 3) FX.1 FX.2.1 dX0_loosened_1 (by decide) ?_
  refine lv_icmp_ne (tgt := 9) FX.1 FX.2.1 dX0_loosened_2 (by decide) (fun c_2 => ?_) (fun c_2 => ?_)
  · have hf := it_neg c_2 hf
    refine lv_iconst (v := (-1)) FX.1 FX.2.1 dX0_loosened_9 (by decide) ?_
    refine lv_iload_n FX.1 FX.2.1 dX0_loosened_10 rfl (lv_at hl 0 rfl) ?_
    refine lv_iload_n FX.1 FX.2.1 dX0_loosened_11 rfl (lv_at hl 1 rfl) ?_
    refine lv_isub FX.1 FX.2.1 dX0_loosened_12 ?_
    refine va_mmax FX.1 FX.2.1 (FX.2.2.1.trans hl.1.symm) FX.2.2.2.1 (FX.2.2.2.2 _ q1380) (FX.2.2.2.2 _ q1059) (FX.2.2.2.2 _ q150) (FX.2.2.2.2 _ q1060) (Nat.le_of_ble_eq_true rfl) (Nat.le_of_ble_eq_true rfl) (Nat.le_of_ble_eq_true rfl) (Nat.le_of_ble_eq_true rfl) dX0_loosened_13 ?_
    exact hret _ _ rfl (congrArg (fun z => z) (Option.some.inj hf)) rfl hw dX0_loosened_16
  · have hf := it_pos c_2 hf
    refine lv_iload_n FX.1 FX.2.1 dX0_loosened_5 rfl (lv_at hl 0 rfl) ?_
    refine lv_goto (tgt := 16) FX.1 FX.2.1 dX0_loosened_6 (by decide) ?_
    exact hret _ _ rfl (congrArg (fun z => z) (Option.some.inj hf)) rfl hw dX0_loosened_16
abbrev rmX0_lays : Room := { frames := 6, cells := 0, slots := 0, locals := 400 }
set_option maxHeartbeats 4000000 in
theorem wX0_lays {l : Launch} {G : GT} {M C : FS} {K : KT} {p1 : Int32} {p2 : Int32} {p3 : Int32} {t : FS} (hf : fX0_lays C K p1 p2 p3 = some t) : CtV l yX0_lays (ws_ yX0_lays cX0_lays 7 none) rmX0_lays G [.ref (G.2.2.2 131), .int p1, .int p2, .int p3] (M, C, K.1, K.2.1) (M, t, K.1, K.2.1) := by
  refine mkV (by decide) (Nat.le_of_ble_eq_true rfl) (fun p e s m a0 below meth c Q FX hw hname hret ls hl => ?_)
  have hl : lv_has ls 7 [(0, .ref (G.2.2.2 131)), (1, .int p1), (2, .int p2), (3, .int p3)] := hl
  unfold fX0_lays at hf
  refine lv_aload_n FX.1 FX.2.1 dX0_lays_0 rfl (lv_at hl 0 rfl) ?_
  refine lv_iconst (v := 0) FX.1 FX.2.1 dX0_lays_1 (by decide) ?_
  refine bd hf (fun C1 h_C1 hf => ?_)
  refine sX0_364 FX hw dX0_lays_2 (fun H locs hw => ?_)
  rw [Option.some.inj h_C1] at hw
  refine lv_iconst (v := 0) FX.1 FX.2.1 dX0_lays_5 (by decide) ?_
  refine lv_istore (lv' := [(4, .int 0), (0, .ref (G.2.2.2 131)), (1, .int p1), (2, .int p2), (3, .int p3)]) FX.1 FX.2.1 dX0_lays_6 hl (by decide) rfl (fun ls hl => ?_)
  refine bd hf (fun u8 ht hf => ?_)
  obtain ⟨n, hn⟩ := lp_iff.mp ht
  have hX8 : ∀ (Ct8 : FS) (H : Heap) (locs : List Loc) (ls : Array Slot) , Ct8 = u8 → WS G (M, Ct8, K.1, K.2.1) s H locs → lv_has ls 7 [] → W p l e rmX0_lays s m a0 below meth c H locs 0 0 Q (F0 m 117 ls []) := by
    intro Ct8 H locs ls he hw hl
    subst he
    exact hret _ (congrArg (fun z => (M, z, K.1, K.2.1)) (Option.some.inj hf)) hw dX0_lays_117
  have hL8 : ∀ (n : Nat) (z8_4 : Int32) (Cz8 : FS) (H : Heap) (locs : List Loc) (ls : Array Slot) , lpN (fun z => fX0_lays_L8 K p1 p2 p3 z.1 z.2) n (z8_4, Cz8) = some u8 → WS G (M, Cz8, K.1, K.2.1) s H locs → lv_has ls 7 [(0, .ref (G.2.2.2 131)), (1, .int p1), (2, .int p2), (3, .int p3), (4, .int z8_4)] → W p l e rmX0_lays s m a0 below meth c H locs 0 0 Q (F0 m 8 ls []) := by
    intro n
    induction n with
    | zero => intro z8_4 Cz8 H locs ls hz; cases hz
    | succ n ih =>
      intro z8_4 Cz8 H locs ls hz hw hl
      refine bd (show (fX0_lays_L8 K p1 p2 p3 z8_4 Cz8).bind _ = some u8 from hz) (fun x8 hf hk8 => ?_)
      unfold fX0_lays_L8 at hf
      refine lv_iload FX.1 FX.2.1 dX0_lays_8 (lv_at hl 4 rfl) ?_
      refine lv_aload_n FX.1 FX.2.1 dX0_lays_10 rfl (lv_at hl 0 rfl) ?_
      refine gX0_38 FX hw dX0_lays_11 ?_
      refine bd hf (fun a2 h_a2 hf => ?_)
      rw [show va_rf (Cz8.2.2.1 103) = .ref a2 from congrArg va_rf h_a2]
      refine bd hf (fun v3 h_v3 hf => ?_)
      refine gX0_217 FX hw h_v3 dX0_lays_14 ?_
      refine lv_icmp_ge (tgt := 117) FX.1 FX.2.1 dX0_lays_17 (by decide) (fun c_17 => ?_) (fun c_17 => ?_)
      · have hf := it_pos c_17 hf
        exact hX8 _ _ _ _ (lpe hf hk8) hw (lv_sub hl [] rfl)
      · have hf := it_neg c_17 hf
        refine lv_aload_n FX.1 FX.2.1 dX0_lays_20 rfl (lv_at hl 0 rfl) ?_
        refine gX0_38 FX hw dX0_lays_21 ?_
        refine bd hf (fun a4 h_a4 hf => ?_)
        rw [show va_rf (Cz8.2.2.1 103) = .ref a4 from congrArg va_rf h_a4]
        refine bd hf (fun a5 h_a5 hf => ?_)
        refine gX0_260 FX hw h_a5 dX0_lays_24 ?_
        refine lv_iload FX.1 FX.2.1 dX0_lays_27 (lv_at hl 4 rfl) ?_
        refine bd hf (fun a6 h_a6 hf => ?_)
        refine ei_aald 4 rfl FX hw h_a6 dX0_lays_29 ?_
        refine lv_astore (lv' := [(5, .ref a6), (0, .ref (G.2.2.2 131)), (1, .int p1), (2, .int p2), (3, .int p3), (4, .int z8_4)]) FX.1 FX.2.1 dX0_lays_30 hl (by decide) rfl (fun ls hl => ?_)
        refine lv_aload FX.1 FX.2.1 dX0_lays_32 (lv_at hl 0 rfl) ?_
        refine bd hf (fun t7 h_t7 hf => ?_)
        refine vc_state (rest := []) FX hw h_t7 q1065 hl.1 rfl (lv_room (Nat.le_of_ble_eq_true rfl)) dX0_lays_34 ⟨Nat.le_of_ble_eq_true rfl, Nat.le_of_ble_eq_true rfl⟩ ⟨Nat.zero_le _, Nat.zero_le _⟩ (fun H locs hw => ?_)
        refine lv_iload_n FX.1 FX.2.1 dX0_lays_37 rfl (lv_at hl 4 rfl) ?_
        refine bd hf (fun t8 h_t8 hf => ?_)
        refine clS_i0 (As := [.int t7, .int p3]) (rest := []) FX hw (wX0_loosened h_t8) (va_cwS 2 FX.2.2.2.2 (lw_S q1377 q1378 q134 q1379) rfl rfl rfl (by decide +kernel) ⟨Nat.le_of_ble_eq_true rfl, Nat.le_of_ble_eq_true rfl⟩) rfl hl.1 rfl (lv_room (Nat.le_of_ble_eq_true rfl)) dX0_lays_38 ⟨rfl, rfl⟩ ⟨Nat.zero_le _, Nat.zero_le _⟩ (fun H locs hw => ?_)
        refine lv_istore (lv' := [(6, .int t8), (5, .ref a6), (0, .ref (G.2.2.2 131)), (1, .int p1), (2, .int p2), (3, .int p3), (4, .int z8_4)]) FX.1 FX.2.1 dX0_lays_41 hl (by decide) rfl (fun ls hl => ?_)
        refine lv_iload FX.1 FX.2.1 dX0_lays_43 (lv_at hl 0 rfl) ?_
        refine lv_iconst (v := (-1)) FX.1 FX.2.1 dX0_lays_45 (by decide) ?_
        refine lv_icmp_eq (tgt := 111) FX.1 FX.2.1 dX0_lays_46 (by decide) (fun c_46 => ?_) (fun c_46 => ?_)
        · have hf := it_pos c_46 hf
          refine lv_iinc (v := (z8_4 + 1)) (lv' := [(4, .int (z8_4 + 1)), (6, .int t8), (5, .ref a6), (0, .ref (G.2.2.2 131)), (1, .int p1), (2, .int p2), (3, .int p3)]) FX.1 FX.2.1 dX0_lays_111 hl (k := 6) rfl (congrArg (fun q : Int32 => z8_4 + q) (by decide : Int32.ofInt 1 = 1)) (by decide) rfl (fun ls hl => ?_)
          refine lv_goto (tgt := 8) FX.1 FX.2.1 dX0_lays_114 (by decide) ?_
          exact ih _ _ _ _ _ (lpc hf hk8) hw (lv_sub hl [3, 4, 5, 6, 0] rfl)
        · have hf := it_neg c_46 hf
          refine lv_aload FX.1 FX.2.1 dX0_lays_49 (lv_at hl 1 rfl) ?_
          refine lv_iload_n FX.1 FX.2.1 dX0_lays_51 rfl (lv_at hl 3 rfl) ?_
          refine bd hf (fun t9 h_t9 hf => ?_)
          refine vc_isOf (rest := []) FX hw h_t9 q1106 hl.1 rfl (lv_room (Nat.le_of_ble_eq_true rfl)) dX0_lays_52 ⟨Nat.le_of_ble_eq_true rfl, Nat.le_of_ble_eq_true rfl⟩ ⟨Nat.zero_le _, Nat.zero_le _⟩ (fun H locs hw => ?_)
          refine lv_if_eq (tgt := 111) FX.1 FX.2.1 dX0_lays_55 (by decide) (fun c_55 => ?_) (fun c_55 => ?_)
          · have hf := it_pos c_55 hf
            refine lv_iinc (v := (z8_4 + 1)) (lv' := [(4, .int (z8_4 + 1)), (6, .int t8), (5, .ref a6), (0, .ref (G.2.2.2 131)), (1, .int p1), (2, .int p2), (3, .int p3)]) FX.1 FX.2.1 dX0_lays_111 hl (k := 6) rfl (congrArg (fun q : Int32 => z8_4 + q) (by decide : Int32.ofInt 1 = 1)) (by decide) rfl (fun ls hl => ?_)
            refine lv_goto (tgt := 8) FX.1 FX.2.1 dX0_lays_114 (by decide) ?_
            exact ih _ _ _ _ _ (lpc hf hk8) hw (lv_sub hl [3, 4, 5, 6, 0] rfl)
          · have hf := it_neg c_55 hf
            refine lv_iload_n FX.1 FX.2.1 dX0_lays_58 rfl (lv_at hl 4 rfl) ?_
            refine lv_aload FX.1 FX.2.1 dX0_lays_59 (lv_at hl 1 rfl) ?_
            refine lv_iload_n FX.1 FX.2.1 dX0_lays_61 rfl (lv_at hl 3 rfl) ?_
            refine bd hf (fun t10 h_t10 hf => ?_)
            refine vc_other (rest := [.int p2]) FX hw h_t10 q1381 hl.1 rfl (lv_room (Nat.le_of_ble_eq_true rfl)) dX0_lays_62 ⟨Nat.le_of_ble_eq_true rfl, Nat.le_of_ble_eq_true rfl⟩ ⟨Nat.zero_le _, Nat.zero_le _⟩ (fun H locs hw => ?_)
            refine lv_ishr FX.1 FX.2.1 dX0_lays_65 ?_
            refine lv_iconst (v := 1) FX.1 FX.2.1 dX0_lays_66 (by decide) ?_
            refine lv_iand FX.1 FX.2.1 dX0_lays_67 ?_
            refine lv_iconst (v := 1) FX.1 FX.2.1 dX0_lays_68 (by decide) ?_
            refine lv_icmp_ne (tgt := 75) FX.1 FX.2.1 dX0_lays_69 (by decide) (fun c_69 => ?_) (fun c_69 => ?_)
            · have hf := it_neg c_69 hf
              refine lv_aload_n FX.1 FX.2.1 dX0_lays_75 rfl (lv_at hl 2 rfl) ?_
              refine gX0_53 FX hw dX0_lays_76 ?_
              refine lv_aload_n FX.1 FX.2.1 dX0_lays_79 rfl (lv_at hl 2 rfl) ?_
              refine gX0_364 FX hw dX0_lays_80 ?_
              refine lv_iload FX.1 FX.2.1 dX0_lays_83 (lv_at hl 0 rfl) ?_
              refine bd hf (fun C11 h_C11 hf => ?_)
              refine as112 FX hw h_C11 dX0_lays_85 (fun H locs hw => ?_)
              refine lv_aload_n FX.1 FX.2.1 dX0_lays_86 rfl (lv_at hl 2 rfl) ?_
              refine gX0_57 FX hw dX0_lays_87 ?_
              refine lv_aload_n FX.1 FX.2.1 dX0_lays_90 rfl (lv_at hl 2 rfl) ?_
              refine gX0_364 FX hw dX0_lays_91 ?_
              refine lv_aload FX.1 FX.2.1 dX0_lays_94 (lv_at hl 1 rfl) ?_
              refine lv_iload_n FX.1 FX.2.1 dX0_lays_96 rfl (lv_at hl 3 rfl) ?_
              refine bd hf (fun t12 h_t12 hf => ?_)
              refine vc_other (rest := [.int (C11.1 114), .ref (G.2.2.2 113)]) FX hw h_t12 q1381 hl.1 rfl (lv_room (Nat.le_of_ble_eq_true rfl)) dX0_lays_97 ⟨Nat.le_of_ble_eq_true rfl, Nat.le_of_ble_eq_true rfl⟩ ⟨Nat.zero_le _, Nat.zero_le _⟩ (fun H locs hw => ?_)
              refine bd hf (fun C13 h_C13 hf => ?_)
              refine as113 FX hw h_C13 dX0_lays_100 (fun H locs hw => ?_)
              refine lv_aload_n FX.1 FX.2.1 dX0_lays_101 rfl (lv_at hl 2 rfl) ?_
              refine lv_dup FX.1 FX.2.1 dX0_lays_102 rfl ?_
              refine gX0_364 FX hw dX0_lays_103 ?_
              refine lv_iconst (v := 1) FX.1 FX.2.1 dX0_lays_106 (by decide) ?_
              refine lv_iadd FX.1 FX.2.1 dX0_lays_107 ?_
              refine bd hf (fun C14 h_C14 hf => ?_)
              refine sX0_364 FX hw dX0_lays_108 (fun H locs hw => ?_)
              rw [Option.some.inj h_C14] at hw
              refine lv_iinc (v := (z8_4 + 1)) (lv' := [(4, .int (z8_4 + 1)), (6, .int t8), (5, .ref a6), (0, .ref (G.2.2.2 131)), (1, .int p1), (2, .int p2), (3, .int p3)]) FX.1 FX.2.1 dX0_lays_111 hl (k := 6) rfl (congrArg (fun q : Int32 => z8_4 + q) (by decide : Int32.ofInt 1 = 1)) (by decide) rfl (fun ls hl => ?_)
              refine lv_goto (tgt := 8) FX.1 FX.2.1 dX0_lays_114 (by decide) ?_
              exact ih _ _ _ _ _ (lpc hf hk8) hw (lv_sub hl [3, 4, 5, 6, 0] rfl)
            · have hf := it_pos c_69 hf
              refine lv_goto (tgt := 111) FX.1 FX.2.1 dX0_lays_72 (by decide) ?_
              refine lv_iinc (v := (z8_4 + 1)) (lv' := [(4, .int (z8_4 + 1)), (6, .int t8), (5, .ref a6), (0, .ref (G.2.2.2 131)), (1, .int p1), (2, .int p2), (3, .int p3)]) FX.1 FX.2.1 dX0_lays_111 hl (k := 6) rfl (congrArg (fun q : Int32 => z8_4 + q) (by decide : Int32.ofInt 1 = 1)) (by decide) rfl (fun ls hl => ?_)
              refine lv_goto (tgt := 8) FX.1 FX.2.1 dX0_lays_114 (by decide) ?_
              exact ih _ _ _ _ _ (lpc hf hk8) hw (lv_sub hl [3, 4, 5, 6, 0] rfl)
  exact hL8 n _ _ _ _ _ hn hw (lv_sub hl [1, 2, 3, 4, 0] rfl)
abbrev rmX0_secondsAt : Room := { frames := 0, cells := 0, slots := 0, locals := 0 }
set_option maxHeartbeats 4000000 in
theorem wX0_secondsAt {l : Launch} {G : GT} {M C : FS} {K : KT} {p1 : Int32} {t : Int32} (hf : fX0_secondsAt C K p1 = some t) : CtI l yX0_secondsAt (ws_ yX0_secondsAt cX0_secondsAt 2 (some .int)) rmX0_secondsAt G [.ref (G.2.2.2 131), .int p1] (M, C, K.1, K.2.1) t (M, C, K.1, K.2.1) := by
  refine mkI (ty := .int) (by decide) (Nat.le_of_ble_eq_true rfl) (fun p e s m a0 below meth c Q FX hw hname hret ls hl => ?_)
  have hl : lv_has ls 2 [(0, .ref (G.2.2.2 131)), (1, .int p1)] := hl
  unfold fX0_secondsAt at hf
  refine lv_aload_n FX.1 FX.2.1 dX0_secondsAt_0 rfl (lv_at hl 0 rfl) ?_
  refine gX0_53 FX hw dX0_secondsAt_1 ?_
  refine lv_iload_n FX.1 FX.2.1 dX0_secondsAt_4 rfl (lv_at hl 1 rfl) ?_
  refine bd hf (fun v1 h_v1 hf => ?_)
  refine al112 FX hw h_v1 dX0_secondsAt_5 ?_
  have hK44 : ∀ (y0_44 : Int32) (H : Heap) (locs : List Loc) (ls : Array Slot) , fX0_secondsAt_J44 C K p1 y0_44 = some t → WS G (M, C, K.1, K.2.1) s H locs → lv_has ls 2 [(0, .ref (G.2.2.2 131)), (1, .int p1)] → W p l e rmX0_secondsAt s m a0 below meth c H locs 0 0 Q (F0 m 44 ls [.int y0_44]) := by
    intro y0_44 H locs ls hf hw hl
    unfold fX0_secondsAt_J44 at hf
    refine lv_aload_n FX.1 FX.2.1 dX0_secondsAt_44 rfl (lv_at hl 0 rfl) ?_
    refine gX0_38 FX hw dX0_secondsAt_45 ?_
    refine bd hf (fun a2 h_a2 hf => ?_)
    rw [show va_rf (C.2.2.1 103) = .ref a2 from congrArg va_rf h_a2]
    refine bd hf (fun a3 h_a3 hf => ?_)
    refine gX0_161 FX hw h_a3 dX0_secondsAt_48 ?_
    refine lv_aload_n FX.1 FX.2.1 dX0_secondsAt_51 rfl (lv_at hl 0 rfl) ?_
    refine gX0_57 FX hw dX0_secondsAt_52 ?_
    refine lv_iload_n FX.1 FX.2.1 dX0_secondsAt_55 rfl (lv_at hl 1 rfl) ?_
    refine bd hf (fun v4 h_v4 hf => ?_)
    refine al113 FX hw h_v4 dX0_secondsAt_56 ?_
    refine bd hf (fun a5 h_a5 hf => ?_)
    refine ei_aald 5 rfl FX hw h_a5 dX0_secondsAt_57 ?_
    refine bd hf (fun v6 h_v6 hf => ?_)
    refine gX0_239 FX hw h_v6 dX0_secondsAt_58 ?_
    refine lv_iadd FX.1 FX.2.1 dX0_secondsAt_61 ?_
    exact hret _ _ rfl (congrArg (fun z => z) (Option.some.inj hf)) rfl hw dX0_secondsAt_62
  refine lv_if_ne (tgt := 13) FX.1 FX.2.1 dX0_secondsAt_6 (by decide) (fun c_6 => ?_) (fun c_6 => ?_)
  · have hf := it_neg c_6 hf
    refine lv_aload_n FX.1 FX.2.1 dX0_secondsAt_13 rfl (lv_at hl 0 rfl) ?_
    refine gX0_53 FX hw dX0_secondsAt_14 ?_
    refine lv_iload_n FX.1 FX.2.1 dX0_secondsAt_17 rfl (lv_at hl 1 rfl) ?_
    refine bd hf (fun v7 h_v7 hf => ?_)
    refine al112 FX hw h_v7 dX0_secondsAt_18 ?_
    refine lv_iconst (v := 1) FX.1 FX.2.1 dX0_secondsAt_19 (by decide) ?_
    refine lv_icmp_ne (tgt := 27) FX.1 FX.2.1 dX0_secondsAt_20 (by decide) (fun c_20 => ?_) (fun c_20 => ?_)
    · have hf := it_neg c_20 hf
      refine lv_aload_n FX.1 FX.2.1 dX0_secondsAt_27 rfl (lv_at hl 0 rfl) ?_
      refine gX0_53 FX hw dX0_secondsAt_28 ?_
      refine lv_iload_n FX.1 FX.2.1 dX0_secondsAt_31 rfl (lv_at hl 1 rfl) ?_
      refine bd hf (fun v8 h_v8 hf => ?_)
      refine al112 FX hw h_v8 dX0_secondsAt_32 ?_
      refine lv_iconst (v := 2) FX.1 FX.2.1 dX0_secondsAt_33 (by decide) ?_
      refine lv_icmp_ne (tgt := 42) FX.1 FX.2.1 dX0_secondsAt_34 (by decide) (fun c_34 => ?_) (fun c_34 => ?_)
      · have hf := it_neg c_34 hf
        refine lv_bipush (v := 15) FX.1 FX.2.1 dX0_secondsAt_42 (by decide) ?_
        exact hK44 _ _ _ _ hf hw (lv_sub hl [0, 1] rfl)
      · have hf := it_pos c_34 hf
        refine lv_bipush (v := 6) FX.1 FX.2.1 dX0_secondsAt_37 (by decide) ?_
        refine lv_goto (tgt := 44) FX.1 FX.2.1 dX0_secondsAt_39 (by decide) ?_
        exact hK44 _ _ _ _ hf hw (lv_sub hl [0, 1] rfl)
    · have hf := it_pos c_20 hf
      refine lv_iconst (v := 3) FX.1 FX.2.1 dX0_secondsAt_23 (by decide) ?_
      refine lv_goto (tgt := 44) FX.1 FX.2.1 dX0_secondsAt_24 (by decide) ?_
      exact hK44 _ _ _ _ hf hw (lv_sub hl [0, 1] rfl)
  · have hf := it_pos c_6 hf
    refine lv_iconst (v := 1) FX.1 FX.2.1 dX0_secondsAt_9 (by decide) ?_
    refine lv_goto (tgt := 44) FX.1 FX.2.1 dX0_secondsAt_10 (by decide) ?_
    exact hK44 _ _ _ _ hf hw (lv_sub hl [0, 1] rfl)
abbrev rmX0_secondsBy : Room := { frames := 1, cells := 0, slots := 0, locals := 21 }
set_option maxHeartbeats 4000000 in
theorem wX0_secondsBy {l : Launch} {G : GT} {M C : FS} {K : KT} {p1 : Int32} {p2 : Int32} {t : Int32} (hf : fX0_secondsBy C K p1 p2 = some t) : CtI l yX0_secondsBy (ws_ yX0_secondsBy cX0_secondsBy 5 (some .int)) rmX0_secondsBy G [.ref (G.2.2.2 131), .int p1, .int p2] (M, C, K.1, K.2.1) t (M, C, K.1, K.2.1) := by
  refine mkI (ty := .int) (by decide) (Nat.le_of_ble_eq_true rfl) (fun p e s m a0 below meth c Q FX hw hname hret ls hl => ?_)
  have hl : lv_has ls 5 [(0, .ref (G.2.2.2 131)), (1, .int p1), (2, .int p2)] := hl
  unfold fX0_secondsBy at hf
  refine lv_iload_n FX.1 FX.2.1 dX0_secondsBy_0 rfl (lv_at hl 1 rfl) ?_
  refine lv_iload_n FX.1 FX.2.1 dX0_secondsBy_1 rfl (lv_at hl 2 rfl) ?_
  refine lv_iadd FX.1 FX.2.1 dX0_secondsBy_2 ?_
  refine lv_aload_n FX.1 FX.2.1 dX0_secondsBy_3 rfl (lv_at hl 0 rfl) ?_
  refine gX0_364 FX hw dX0_secondsBy_4 ?_
  have hK15 : ∀ (y0_15 : Int32) (H : Heap) (locs : List Loc) (ls : Array Slot) , fX0_secondsBy_J15 C K p1 p2 y0_15 = some t → WS G (M, C, K.1, K.2.1) s H locs → lv_has ls 5 [(0, .ref (G.2.2.2 131)), (1, .int p1), (2, .int p2)] → W p l e rmX0_secondsBy s m a0 below meth c H locs 0 0 Q (F0 m 15 ls [.int y0_15]) := by
    intro y0_15 H locs ls hf hw hl
    unfold fX0_secondsBy_J15 at hf
    refine lv_istore_n (lv' := [(3, .int y0_15), (0, .ref (G.2.2.2 131)), (1, .int p1), (2, .int p2)]) FX.1 FX.2.1 dX0_secondsBy_15 rfl hl (by decide) rfl (fun ls hl => ?_)
    refine lv_iconst (v := 0) FX.1 FX.2.1 dX0_secondsBy_16 (by decide) ?_
    refine lv_istore (lv' := [(4, .int 0), (3, .int y0_15), (0, .ref (G.2.2.2 131)), (1, .int p1), (2, .int p2)]) FX.1 FX.2.1 dX0_secondsBy_17 hl (by decide) rfl (fun ls hl => ?_)
    refine bd hf (fun u19 ht hf => ?_)
    obtain ⟨n, hn⟩ := lp_iff.mp ht
    have hR19 : ∀ v, Sum.inl v = u19 → _ := fun v he => ell hf he
    have hX19 : ∀ (t19_3 : Int32) (H : Heap) (locs : List Loc) (ls : Array Slot) , Sum.inr t19_3 = u19 → WS G (M, C, K.1, K.2.1) s H locs → lv_has ls 5 [(3, .int t19_3)] → W p l e rmX0_secondsBy s m a0 below meth c H locs 0 0 Q (F0 m 77 ls []) := by
      intro t19_3 H locs ls he hw hl
      have hf := elr hf he
      refine lv_iload_n FX.1 FX.2.1 dX0_secondsBy_77 rfl (lv_at hl 0 rfl) ?_
      exact hret _ _ rfl (congrArg (fun z => z) (Option.some.inj hf)) rfl hw dX0_secondsBy_78
    have hL19 : ∀ (n : Nat) (z19_3 : Int32) (z19_4 : Int32) (H : Heap) (locs : List Loc) (ls : Array Slot) , lpN (fun z => fX0_secondsBy_L19 C K p1 p2 z.1 z.2) n (z19_3, z19_4) = some u19 → WS G (M, C, K.1, K.2.1) s H locs → lv_has ls 5 [(0, .ref (G.2.2.2 131)), (1, .int p1), (2, .int p2), (3, .int z19_3), (4, .int z19_4)] → W p l e rmX0_secondsBy s m a0 below meth c H locs 0 0 Q (F0 m 19 ls []) := by
      intro n
      induction n with
      | zero => intro z19_3 z19_4 H locs ls hz; cases hz
      | succ n ih =>
        intro z19_3 z19_4 H locs ls hz hw hl
        refine bd (show (fX0_secondsBy_L19 C K p1 p2 z19_3 z19_4).bind _ = some u19 from hz) (fun x19 hf hk19 => ?_)
        unfold fX0_secondsBy_L19 at hf
        refine lv_iload FX.1 FX.2.1 dX0_secondsBy_19 (lv_at hl 4 rfl) ?_
        refine lv_aload_n FX.1 FX.2.1 dX0_secondsBy_21 rfl (lv_at hl 0 rfl) ?_
        refine gX0_364 FX hw dX0_secondsBy_22 ?_
        refine lv_icmp_ge (tgt := 77) FX.1 FX.2.1 dX0_secondsBy_25 (by decide) (fun c_25 => ?_) (fun c_25 => ?_)
        · have hf := it_pos c_25 hf
          exact hX19 _ _ _ _ (lpe hf hk19) hw (lv_sub hl [3] rfl)
        · have hf := it_neg c_25 hf
          refine lv_iload FX.1 FX.2.1 dX0_secondsBy_28 (lv_at hl 4 rfl) ?_
          refine lv_iload_n FX.1 FX.2.1 dX0_secondsBy_30 rfl (lv_at hl 1 rfl) ?_
          have hK45 : ∀ (H : Heap) (locs : List Loc) (ls : Array Slot) , fX0_secondsBy_J45 C K z19_3 z19_4  = some x19 → WS G (M, C, K.1, K.2.1) s H locs → lv_has ls 5 [(0, .ref (G.2.2.2 131)), (1, .int p1), (2, .int p2), (3, .int z19_3), (4, .int z19_4)] → W p l e rmX0_secondsBy s m a0 below meth c H locs 0 0 Q (F0 m 45 ls []) := by
            intro  H locs ls hf hw hl
            unfold fX0_secondsBy_J45 at hf
            refine lv_iload_n FX.1 FX.2.1 dX0_secondsBy_45 rfl (lv_at hl 3 rfl) ?_
            refine lv_aload_n FX.1 FX.2.1 dX0_secondsBy_46 rfl (lv_at hl 0 rfl) ?_
            refine lv_iload FX.1 FX.2.1 dX0_secondsBy_47 (lv_at hl 4 rfl) ?_
            refine bd hf (fun t1 h_t1 hf => ?_)
            refine clV_i0 (As := [.int z19_4]) (rest := [.int z19_3]) FX hw (wX0_secondsAt h_t1) (cwV 1 FX.2.2.2.2 (lw_V q1386 q1388 qs34 q134 q1389) rfl rfl rfl (by decide +kernel) ⟨Nat.le_of_ble_eq_true rfl, Nat.le_of_ble_eq_true rfl⟩) (fx_obj hw (o := (131, 0, 100, 31)) (by decide)) rfl rfl hl.1 rfl (lv_room (Nat.le_of_ble_eq_true rfl)) dX0_secondsBy_49 ⟨rfl, rfl⟩ ⟨Nat.zero_le _, Nat.zero_le _⟩ (fun H locs hw => ?_)
            refine lv_iadd FX.1 FX.2.1 dX0_secondsBy_52 ?_
            refine lv_istore_n (lv' := [(3, .int (z19_3 + t1)), (0, .ref (G.2.2.2 131)), (1, .int p1), (2, .int p2), (4, .int z19_4)]) FX.1 FX.2.1 dX0_secondsBy_53 rfl hl (by decide) rfl (fun ls hl => ?_)
            refine lv_goto (tgt := 71) FX.1 FX.2.1 dX0_secondsBy_54 (by decide) ?_
            refine lv_iinc (v := (z19_4 + 1)) (lv' := [(4, .int (z19_4 + 1)), (3, .int (z19_3 + t1)), (0, .ref (G.2.2.2 131)), (1, .int p1), (2, .int p2)]) FX.1 FX.2.1 dX0_secondsBy_71 hl (k := 4) rfl (congrArg (fun q : Int32 => z19_4 + q) (by decide : Int32.ofInt 1 = 1)) (by decide) rfl (fun ls hl => ?_)
            refine lv_goto (tgt := 19) FX.1 FX.2.1 dX0_secondsBy_74 (by decide) ?_
            exact ih _ _ _ _ _ (lpc hf hk19) hw (lv_sub hl [2, 3, 4, 1, 0] rfl)
          refine lv_icmp_lt (tgt := 45) FX.1 FX.2.1 dX0_secondsBy_31 (by decide) (fun c_31 => ?_) (fun c_31 => ?_)
          · have hf := it_pos c_31 hf
            exact hK45  _ _ _ hf hw (lv_sub hl [0, 1, 2, 3, 4] rfl)
          · have hf := it_neg c_31 hf
            refine lv_iload FX.1 FX.2.1 dX0_secondsBy_34 (lv_at hl 4 rfl) ?_
            refine lv_aload_n FX.1 FX.2.1 dX0_secondsBy_36 rfl (lv_at hl 0 rfl) ?_
            refine gX0_364 FX hw dX0_secondsBy_37 ?_
            refine lv_iload_n FX.1 FX.2.1 dX0_secondsBy_40 rfl (lv_at hl 2 rfl) ?_
            refine lv_isub FX.1 FX.2.1 dX0_secondsBy_41 ?_
            refine lv_icmp_lt (tgt := 57) FX.1 FX.2.1 dX0_secondsBy_42 (by decide) (fun c_42 => ?_) (fun c_42 => ?_)
            · have hf := it_pos c_42 hf
              refine lv_aload_n FX.1 FX.2.1 dX0_secondsBy_57 rfl (lv_at hl 0 rfl) ?_
              refine gX0_53 FX hw dX0_secondsBy_58 ?_
              refine lv_iload FX.1 FX.2.1 dX0_secondsBy_61 (lv_at hl 4 rfl) ?_
              refine bd hf (fun v2 h_v2 hf => ?_)
              refine al112 FX hw h_v2 dX0_secondsBy_63 ?_
              refine lv_if_le (tgt := 71) FX.1 FX.2.1 dX0_secondsBy_64 (by decide) (fun c_64 => ?_) (fun c_64 => ?_)
              · have hf := it_pos c_64 hf
                refine lv_iinc (v := (z19_4 + 1)) (lv' := [(4, .int (z19_4 + 1)), (0, .ref (G.2.2.2 131)), (1, .int p1), (2, .int p2), (3, .int z19_3)]) FX.1 FX.2.1 dX0_secondsBy_71 hl (k := 4) rfl (congrArg (fun q : Int32 => z19_4 + q) (by decide : Int32.ofInt 1 = 1)) (by decide) rfl (fun ls hl => ?_)
                refine lv_goto (tgt := 19) FX.1 FX.2.1 dX0_secondsBy_74 (by decide) ?_
                exact ih _ _ _ _ _ (lpc hf hk19) hw (lv_sub hl [1, 2, 3, 4, 0] rfl)
              · have hf := it_neg c_64 hf
                refine lv_ldcw FX.1 FX.2.1 FX.2.2.2.1 (FX.2.2.2.2 _ q1368) dX0_secondsBy_67 ?_
                have hf := hR19 _ (lpe hf hk19)
                exact hret _ _ rfl (congrArg (fun z => z) (Option.some.inj hf)) rfl hw dX0_secondsBy_70
            · have hf := it_neg c_42 hf
              exact hK45  _ _ _ hf hw (lv_sub hl [0, 1, 2, 3, 4] rfl)
    exact hL19 n _ _ _ _ _ hn hw (lv_sub hl [2, 3, 4, 1, 0] rfl)
  refine lv_icmp_ge (tgt := 14) FX.1 FX.2.1 dX0_secondsBy_7 (by decide) (fun c_7 => ?_) (fun c_7 => ?_)
  · have hf := it_pos c_7 hf
    refine lv_iconst (v := 0) FX.1 FX.2.1 dX0_secondsBy_14 (by decide) ?_
    exact hK15 _ _ _ _ hf hw (lv_sub hl [0, 1, 2] rfl)
  · have hf := it_neg c_7 hf
    refine lv_iconst (v := 2) FX.1 FX.2.1 dX0_secondsBy_10 (by decide) ?_
    refine lv_goto (tgt := 15) FX.1 FX.2.1 dX0_secondsBy_11 (by decide) ?_
    exact hK15 _ _ _ _ hf hw (lv_sub hl [0, 1, 2] rfl)
abbrev rmX0_least : Room := { frames := 7, cells := 0, slots := 0, locals := 426 }
set_option maxHeartbeats 4000000 in
theorem wX0_least {l : Launch} {G : GT} {M C : FS} {K : KT} {p1 : Int32} {p2 : Int32} {p3 : Int32} {t : (Int32 × FS)} (hf : fX0_least C K p1 p2 p3 = some t) : CtI l yX0_least (ws_ yX0_least cX0_least 8 (some .int)) rmX0_least G [.ref (G.2.2.2 131), .int p1, .int p2, .int p3] (M, C, K.1, K.2.1) t.1 (M, t.2, K.1, K.2.1) := by
  refine mkI (ty := .int) (by decide) (Nat.le_of_ble_eq_true rfl) (fun p e s m a0 below meth c Q FX hw hname hret ls hl => ?_)
  have hl : lv_has ls 8 [(0, .ref (G.2.2.2 131)), (1, .int p1), (2, .int p2), (3, .int p3)] := hl
  unfold fX0_least at hf
  refine lv_aload_n FX.1 FX.2.1 dX0_least_0 rfl (lv_at hl 0 rfl) ?_
  refine lv_iload_n FX.1 FX.2.1 dX0_least_1 rfl (lv_at hl 1 rfl) ?_
  refine lv_iload_n FX.1 FX.2.1 dX0_least_2 rfl (lv_at hl 2 rfl) ?_
  refine lv_iload_n FX.1 FX.2.1 dX0_least_3 rfl (lv_at hl 3 rfl) ?_
  refine bd hf (fun t1 h_t1 hf => ?_)
  refine clV_v0 (As := [.int p1, .int p2, .int p3]) (rest := []) FX hw (wX0_lays h_t1) (cwV 3 FX.2.2.2.2 (lw_V q1373 q1375 qs32 q134 q1376) rfl rfl rfl (by decide +kernel) ⟨Nat.le_of_ble_eq_true rfl, Nat.le_of_ble_eq_true rfl⟩) (fx_obj hw (o := (131, 0, 100, 31)) (by decide)) rfl rfl hl.1 rfl (lv_room (Nat.le_of_ble_eq_true rfl)) dX0_least_4 ⟨rfl, rfl⟩ ⟨Nat.zero_le _, Nat.zero_le _⟩ (fun H locs hw => ?_)
  refine lv_ldcw FX.1 FX.2.1 FX.2.2.2.1 (FX.2.2.2.2 _ q1368) dX0_least_7 ?_
  refine lv_istore (lv' := [(4, .int 1000000), (0, .ref (G.2.2.2 131)), (1, .int p1), (2, .int p2), (3, .int p3)]) FX.1 FX.2.1 dX0_least_10 hl (by decide) rfl (fun ls hl => ?_)
  refine lv_iconst (v := 0) FX.1 FX.2.1 dX0_least_12 (by decide) ?_
  refine lv_istore (lv' := [(5, .int 0), (4, .int 1000000), (0, .ref (G.2.2.2 131)), (1, .int p1), (2, .int p2), (3, .int p3)]) FX.1 FX.2.1 dX0_least_13 hl (by decide) rfl (fun ls hl => ?_)
  refine bd hf (fun u15 ht hf => ?_)
  obtain ⟨n, hn⟩ := lp_iff.mp ht
  have hX15 : ∀ (t15_4 : Int32) (Ct15 : FS) (H : Heap) (locs : List Loc) (ls : Array Slot) , (t15_4, Ct15) = u15 → WS G (M, Ct15, K.1, K.2.1) s H locs → lv_has ls 8 [(4, .int t15_4)] → W p l e rmX0_least s m a0 below meth c H locs 0 0 Q (F0 m 87 ls []) := by
    intro t15_4 Ct15 H locs ls he hw hl
    subst he
    have hf : fX0_least_X15 t15_4 Ct15 = some t := hf
    unfold fX0_least_X15 at hf
    refine lv_iload FX.1 FX.2.1 dX0_least_87 (lv_at hl 0 rfl) ?_
    exact hret _ _ rfl (congrArg (fun z => z.1) (Option.some.inj hf)) (congrArg (fun z => (M, z.2, K.1, K.2.1)) (Option.some.inj hf)) hw dX0_least_89
  have hL15 : ∀ (n : Nat) (z15_4 : Int32) (z15_5 : Int32) (Cz15 : FS) (H : Heap) (locs : List Loc) (ls : Array Slot) , lpN (fun z => fX0_least_L15 K z.1 z.2.1 z.2.2) n (z15_4, z15_5, Cz15) = some u15 → WS G (M, Cz15, K.1, K.2.1) s H locs → lv_has ls 8 [(0, .ref (G.2.2.2 131)), (4, .int z15_4), (5, .int z15_5)] → W p l e rmX0_least s m a0 below meth c H locs 0 0 Q (F0 m 15 ls []) := by
    intro n
    induction n with
    | zero => intro z15_4 z15_5 Cz15 H locs ls hz; cases hz
    | succ n ih =>
      intro z15_4 z15_5 Cz15 H locs ls hz hw hl
      refine bd (show (fX0_least_L15 K z15_4 z15_5 Cz15).bind _ = some u15 from hz) (fun x15 hf hk15 => ?_)
      unfold fX0_least_L15 at hf
      refine lv_iload FX.1 FX.2.1 dX0_least_15 (lv_at hl 2 rfl) ?_
      refine lv_aload_n FX.1 FX.2.1 dX0_least_17 rfl (lv_at hl 0 rfl) ?_
      refine gX0_364 FX hw dX0_least_18 ?_
      refine lv_icmp_gt (tgt := 87) FX.1 FX.2.1 dX0_least_21 (by decide) (fun c_21 => ?_) (fun c_21 => ?_)
      · have hf := it_pos c_21 hf
        exact hX15 _ _ _ _ _ (lpe hf hk15) hw (lv_sub hl [1] rfl)
      · have hf := it_neg c_21 hf
        refine lv_iconst (v := 0) FX.1 FX.2.1 dX0_least_24 (by decide) ?_
        refine lv_istore (lv' := [(6, .int 0), (0, .ref (G.2.2.2 131)), (4, .int z15_4), (5, .int z15_5)]) FX.1 FX.2.1 dX0_least_25 hl (by decide) rfl (fun ls hl => ?_)
        refine bd hf (fun u27 ht hf => ?_)
        obtain ⟨n, hn⟩ := lp_iff.mp ht
        have hX27 : ∀ (t27_4 : Int32) (Ct27 : FS) (H : Heap) (locs : List Loc) (ls : Array Slot) , (t27_4, Ct27) = u27 → WS G (M, Ct27, K.1, K.2.1) s H locs → lv_has ls 8 [(0, .ref (G.2.2.2 131)), (4, .int t27_4), (5, .int z15_5)] → W p l e rmX0_least s m a0 below meth c H locs 0 0 Q (F0 m 81 ls []) := by
          intro t27_4 Ct27 H locs ls he hw hl
          subst he
          have hf : fX0_least_X27 z15_5 t27_4 Ct27 = some x15 := hf
          unfold fX0_least_X27 at hf
          refine lv_iinc (v := (z15_5 + 1)) (lv' := [(5, .int (z15_5 + 1)), (0, .ref (G.2.2.2 131)), (4, .int t27_4)]) FX.1 FX.2.1 dX0_least_81 hl (k := 2) rfl (congrArg (fun q : Int32 => z15_5 + q) (by decide : Int32.ofInt 1 = 1)) (by decide) rfl (fun ls hl => ?_)
          refine lv_goto (tgt := 15) FX.1 FX.2.1 dX0_least_84 (by decide) ?_
          exact ih _ _ _ _ _ _ (lpc hf hk15) hw (lv_sub hl [1, 2, 0] rfl)
        have hL27 : ∀ (n : Nat) (z27_4 : Int32) (z27_6 : Int32) (Cz27 : FS) (H : Heap) (locs : List Loc) (ls : Array Slot) , lpN (fun z => fX0_least_L27 K z15_5 z.1 z.2.1 z.2.2) n (z27_4, z27_6, Cz27) = some u27 → WS G (M, Cz27, K.1, K.2.1) s H locs → lv_has ls 8 [(0, .ref (G.2.2.2 131)), (4, .int z27_4), (5, .int z15_5), (6, .int z27_6)] → W p l e rmX0_least s m a0 below meth c H locs 0 0 Q (F0 m 27 ls []) := by
          intro n
          induction n with
          | zero => intro z27_4 z27_6 Cz27 H locs ls hz; cases hz
          | succ n ih =>
            intro z27_4 z27_6 Cz27 H locs ls hz hw hl
            refine bd (show (fX0_least_L27 K z15_5 z27_4 z27_6 Cz27).bind _ = some u27 from hz) (fun x27 hf hk27 => ?_)
            unfold fX0_least_L27 at hf
            refine lv_iload FX.1 FX.2.1 dX0_least_27 (lv_at hl 2 rfl) ?_
            refine lv_iload FX.1 FX.2.1 dX0_least_29 (lv_at hl 3 rfl) ?_
            refine lv_iadd FX.1 FX.2.1 dX0_least_31 ?_
            refine lv_aload_n FX.1 FX.2.1 dX0_least_32 rfl (lv_at hl 0 rfl) ?_
            refine gX0_364 FX hw dX0_least_33 ?_
            refine lv_icmp_gt (tgt := 81) FX.1 FX.2.1 dX0_least_36 (by decide) (fun c_36 => ?_) (fun c_36 => ?_)
            · have hf := it_pos c_36 hf
              exact hX27 _ _ _ _ _ (lpe hf hk27) hw (lv_sub hl [0, 1, 2] rfl)
            · have hf := it_neg c_36 hf
              refine lv_aload_n FX.1 FX.2.1 dX0_least_39 rfl (lv_at hl 0 rfl) ?_
              refine lv_iload FX.1 FX.2.1 dX0_least_40 (lv_at hl 2 rfl) ?_
              refine lv_iload FX.1 FX.2.1 dX0_least_42 (lv_at hl 3 rfl) ?_
              refine bd hf (fun t2 h_t2 hf => ?_)
              refine clV_i0 (As := [.int z15_5, .int z27_6]) (rest := []) FX hw (wX0_secondsBy h_t2) (cwV 2 FX.2.2.2.2 (lw_V q1382 q1384 qs33 q134 q1385) rfl rfl rfl (by decide +kernel) ⟨Nat.le_of_ble_eq_true rfl, Nat.le_of_ble_eq_true rfl⟩) (fx_obj hw (o := (131, 0, 100, 31)) (by decide)) rfl rfl hl.1 rfl (lv_room (Nat.le_of_ble_eq_true rfl)) dX0_least_44 ⟨rfl, rfl⟩ ⟨Nat.zero_le _, Nat.zero_le _⟩ (fun H locs hw => ?_)
              refine lv_istore (lv' := [(7, .int t2), (0, .ref (G.2.2.2 131)), (4, .int z27_4), (5, .int z15_5), (6, .int z27_6)]) FX.1 FX.2.1 dX0_least_47 hl (by decide) rfl (fun ls hl => ?_)
              refine lv_iload FX.1 FX.2.1 dX0_least_49 (lv_at hl 0 rfl) ?_
              refine lv_iload FX.1 FX.2.1 dX0_least_51 (lv_at hl 2 rfl) ?_
              refine lv_icmp_lt (tgt := 59) FX.1 FX.2.1 dX0_least_53 (by decide) (fun c_53 => ?_) (fun c_53 => ?_)
              · have hf := it_pos c_53 hf
                refine lv_iload FX.1 FX.2.1 dX0_least_59 (lv_at hl 0 rfl) ?_
                refine lv_istore (lv' := [(4, .int t2), (7, .int t2), (0, .ref (G.2.2.2 131)), (5, .int z15_5), (6, .int z27_6)]) FX.1 FX.2.1 dX0_least_61 hl (by decide) rfl (fun ls hl => ?_)
                refine lv_aload_n FX.1 FX.2.1 dX0_least_63 rfl (lv_at hl 2 rfl) ?_
                refine lv_iload FX.1 FX.2.1 dX0_least_64 (lv_at hl 3 rfl) ?_
                refine bd hf (fun C3 h_C3 hf => ?_)
                refine sX0_382 FX hw dX0_least_66 (fun H locs hw => ?_)
                rw [Option.some.inj h_C3] at hw
                refine lv_aload_n FX.1 FX.2.1 dX0_least_69 rfl (lv_at hl 2 rfl) ?_
                refine lv_iload FX.1 FX.2.1 dX0_least_70 (lv_at hl 4 rfl) ?_
                refine bd hf (fun C4 h_C4 hf => ?_)
                refine sX0_385 FX hw dX0_least_72 (fun H locs hw => ?_)
                rw [Option.some.inj h_C4] at hw
                refine lv_iinc (v := (z27_6 + 1)) (lv' := [(6, .int (z27_6 + 1)), (4, .int t2), (7, .int t2), (0, .ref (G.2.2.2 131)), (5, .int z15_5)]) FX.1 FX.2.1 dX0_least_75 hl (k := 4) rfl (congrArg (fun q : Int32 => z27_6 + q) (by decide : Int32.ofInt 1 = 1)) (by decide) rfl (fun ls hl => ?_)
                refine lv_goto (tgt := 27) FX.1 FX.2.1 dX0_least_78 (by decide) ?_
                exact ih _ _ _ _ _ _ (lpc hf hk27) hw (lv_sub hl [3, 1, 4, 0] rfl)
              · have hf := it_neg c_53 hf
                refine lv_goto (tgt := 75) FX.1 FX.2.1 dX0_least_56 (by decide) ?_
                refine lv_iinc (v := (z27_6 + 1)) (lv' := [(6, .int (z27_6 + 1)), (7, .int t2), (0, .ref (G.2.2.2 131)), (4, .int z27_4), (5, .int z15_5)]) FX.1 FX.2.1 dX0_least_75 hl (k := 4) rfl (congrArg (fun q : Int32 => z27_6 + q) (by decide : Int32.ofInt 1 = 1)) (by decide) rfl (fun ls hl => ?_)
                refine lv_goto (tgt := 27) FX.1 FX.2.1 dX0_least_78 (by decide) ?_
                exact ih _ _ _ _ _ _ (lpc hf hk27) hw (lv_sub hl [2, 3, 4, 0] rfl)
        exact hL27 n _ _ _ _ _ _ hn hw (lv_sub hl [1, 2, 3, 0] rfl)
  exact hL15 n _ _ _ _ _ _ hn hw (lv_sub hl [2, 1, 0] rfl)
abbrev rmX0_leftBy : Room := { frames := 6, cells := 0, slots := 0, locals := 400 }
set_option maxHeartbeats 4000000 in
theorem wX0_leftBy {l : Launch} {G : GT} {M C : FS} {K : KT} {p1 : Int32} {t : Int32} (hf : fX0_leftBy C K p1 = some t) : CtI l yX0_leftBy (ws_ yX0_leftBy cX0_leftBy 4 (some .int)) rmX0_leftBy G [.ref (G.2.2.2 131), .int p1] (M, C, K.1, K.2.1) t (M, C, K.1, K.2.1) := by
  refine mkI (ty := .int) (by decide) (Nat.le_of_ble_eq_true rfl) (fun p e s m a0 below meth c Q FX hw hname hret ls hl => ?_)
  have hl : lv_has ls 4 [(0, .ref (G.2.2.2 131)), (1, .int p1)] := hl
  unfold fX0_leftBy at hf
  refine lv_iconst (v := 0) FX.1 FX.2.1 dX0_leftBy_0 (by decide) ?_
  refine lv_istore_n (lv' := [(2, .int 0), (0, .ref (G.2.2.2 131)), (1, .int p1)]) FX.1 FX.2.1 dX0_leftBy_1 rfl hl (by decide) rfl (fun ls hl => ?_)
  refine lv_iconst (v := 0) FX.1 FX.2.1 dX0_leftBy_2 (by decide) ?_
  refine lv_istore_n (lv' := [(3, .int 0), (2, .int 0), (0, .ref (G.2.2.2 131)), (1, .int p1)]) FX.1 FX.2.1 dX0_leftBy_3 rfl hl (by decide) rfl (fun ls hl => ?_)
  refine bd hf (fun u4 ht hf => ?_)
  obtain ⟨n, hn⟩ := lp_iff.mp ht
  have hX4 : ∀ (t4_2 : Int32) (H : Heap) (locs : List Loc) (ls : Array Slot) , t4_2 = u4 → WS G (M, C, K.1, K.2.1) s H locs → lv_has ls 4 [(2, .int t4_2)] → W p l e rmX0_leftBy s m a0 below meth c H locs 0 0 Q (F0 m 49 ls []) := by
    intro t4_2 H locs ls he hw hl
    subst he
    refine lv_iload_n FX.1 FX.2.1 dX0_leftBy_49 rfl (lv_at hl 0 rfl) ?_
    exact hret _ _ rfl (congrArg (fun z => z) (Option.some.inj hf)) rfl hw dX0_leftBy_50
  have hL4 : ∀ (n : Nat) (z4_2 : Int32) (z4_3 : Int32) (H : Heap) (locs : List Loc) (ls : Array Slot) , lpN (fun z => fX0_leftBy_L4 C K p1 z.1 z.2) n (z4_2, z4_3) = some u4 → WS G (M, C, K.1, K.2.1) s H locs → lv_has ls 4 [(0, .ref (G.2.2.2 131)), (1, .int p1), (2, .int z4_2), (3, .int z4_3)] → W p l e rmX0_leftBy s m a0 below meth c H locs 0 0 Q (F0 m 4 ls []) := by
    intro n
    induction n with
    | zero => intro z4_2 z4_3 H locs ls hz; cases hz
    | succ n ih =>
      intro z4_2 z4_3 H locs ls hz hw hl
      refine bd (show (fX0_leftBy_L4 C K p1 z4_2 z4_3).bind _ = some u4 from hz) (fun x4 hf hk4 => ?_)
      unfold fX0_leftBy_L4 at hf
      refine lv_iload_n FX.1 FX.2.1 dX0_leftBy_4 rfl (lv_at hl 3 rfl) ?_
      refine lv_aload_n FX.1 FX.2.1 dX0_leftBy_5 rfl (lv_at hl 0 rfl) ?_
      refine gX0_38 FX hw dX0_leftBy_6 ?_
      refine bd hf (fun a1 h_a1 hf => ?_)
      rw [show va_rf (C.2.2.1 103) = .ref a1 from congrArg va_rf h_a1]
      refine bd hf (fun v2 h_v2 hf => ?_)
      refine gX0_217 FX hw h_v2 dX0_leftBy_9 ?_
      refine lv_icmp_ge (tgt := 49) FX.1 FX.2.1 dX0_leftBy_12 (by decide) (fun c_12 => ?_) (fun c_12 => ?_)
      · have hf := it_pos c_12 hf
        exact hX4 _ _ _ _ (lpe hf hk4) hw (lv_sub hl [2] rfl)
      · have hf := it_neg c_12 hf
        refine lv_iload_n FX.1 FX.2.1 dX0_leftBy_15 rfl (lv_at hl 2 rfl) ?_
        refine lv_aload_n FX.1 FX.2.1 dX0_leftBy_16 rfl (lv_at hl 0 rfl) ?_
        refine gX0_38 FX hw dX0_leftBy_17 ?_
        refine bd hf (fun a3 h_a3 hf => ?_)
        rw [show va_rf (C.2.2.1 103) = .ref a3 from congrArg va_rf h_a3]
        refine bd hf (fun a4 h_a4 hf => ?_)
        refine gX0_260 FX hw h_a4 dX0_leftBy_20 ?_
        refine lv_iload_n FX.1 FX.2.1 dX0_leftBy_23 rfl (lv_at hl 3 rfl) ?_
        refine bd hf (fun a5 h_a5 hf => ?_)
        refine ei_aald 4 rfl FX hw h_a5 dX0_leftBy_24 ?_
        refine bd hf (fun t6 h_t6 hf => ?_)
        refine vc_state (rest := [.int z4_2]) FX hw h_t6 q1065 hl.1 rfl (lv_room (Nat.le_of_ble_eq_true rfl)) dX0_leftBy_25 ⟨Nat.le_of_ble_eq_true rfl, Nat.le_of_ble_eq_true rfl⟩ ⟨Nat.zero_le _, Nat.zero_le _⟩ (fun H locs hw => ?_)
        refine lv_iload_n FX.1 FX.2.1 dX0_leftBy_28 rfl (lv_at hl 1 rfl) ?_
        refine bd hf (fun t7 h_t7 hf => ?_)
        refine clS_i0 (As := [.int t6, .int p1]) (rest := [.int z4_2]) FX hw (wX0_loosened h_t7) (va_cwS 2 FX.2.2.2.2 (lw_S q1377 q1378 q134 q1379) rfl rfl rfl (by decide +kernel) ⟨Nat.le_of_ble_eq_true rfl, Nat.le_of_ble_eq_true rfl⟩) rfl hl.1 rfl (lv_room (Nat.le_of_ble_eq_true rfl)) dX0_leftBy_29 ⟨rfl, rfl⟩ ⟨Nat.zero_le _, Nat.zero_le _⟩ (fun H locs hw => ?_)
        refine lv_iconst (v := (-1)) FX.1 FX.2.1 dX0_leftBy_32 (by decide) ?_
        refine lv_icmp_ne (tgt := 40) FX.1 FX.2.1 dX0_leftBy_33 (by decide) (fun c_33 => ?_) (fun c_33 => ?_)
        · have hf := it_neg c_33 hf
          refine lv_iconst (v := 1) FX.1 FX.2.1 dX0_leftBy_40 (by decide) ?_
          refine lv_iadd FX.1 FX.2.1 dX0_leftBy_41 ?_
          refine lv_istore_n (lv' := [(2, .int (z4_2 + 1)), (0, .ref (G.2.2.2 131)), (1, .int p1), (3, .int z4_3)]) FX.1 FX.2.1 dX0_leftBy_42 rfl hl (by decide) rfl (fun ls hl => ?_)
          refine lv_iinc (v := (z4_3 + 1)) (lv' := [(3, .int (z4_3 + 1)), (2, .int (z4_2 + 1)), (0, .ref (G.2.2.2 131)), (1, .int p1)]) FX.1 FX.2.1 dX0_leftBy_43 hl (k := 3) rfl (congrArg (fun q : Int32 => z4_3 + q) (by decide : Int32.ofInt 1 = 1)) (by decide) rfl (fun ls hl => ?_)
          refine lv_goto (tgt := 4) FX.1 FX.2.1 dX0_leftBy_46 (by decide) ?_
          exact ih _ _ _ _ _ (lpc hf hk4) hw (lv_sub hl [2, 3, 1, 0] rfl)
        · have hf := it_pos c_33 hf
          refine lv_iconst (v := 0) FX.1 FX.2.1 dX0_leftBy_36 (by decide) ?_
          refine lv_goto (tgt := 41) FX.1 FX.2.1 dX0_leftBy_37 (by decide) ?_
          refine lv_iadd FX.1 FX.2.1 dX0_leftBy_41 ?_
          refine lv_istore_n (lv' := [(2, .int (z4_2 + 0)), (0, .ref (G.2.2.2 131)), (1, .int p1), (3, .int z4_3)]) FX.1 FX.2.1 dX0_leftBy_42 rfl hl (by decide) rfl (fun ls hl => ?_)
          refine lv_iinc (v := (z4_3 + 1)) (lv' := [(3, .int (z4_3 + 1)), (2, .int (z4_2 + 0)), (0, .ref (G.2.2.2 131)), (1, .int p1)]) FX.1 FX.2.1 dX0_leftBy_43 hl (k := 3) rfl (congrArg (fun q : Int32 => z4_3 + q) (by decide : Int32.ofInt 1 = 1)) (by decide) rfl (fun ls hl => ?_)
          refine lv_goto (tgt := 4) FX.1 FX.2.1 dX0_leftBy_46 (by decide) ?_
          exact ih _ _ _ _ _ (lpc hf hk4) hw (lv_sub hl [2, 3, 1, 0] rfl)
  exact hL4 n _ _ _ _ _ hn hw (lv_sub hl [2, 3, 1, 0] rfl)
abbrev rmX0_aloneOf : Room := { frames := 8, cells := 0, slots := 0, locals := 453 }
set_option maxHeartbeats 4000000 in
theorem wX0_aloneOf {l : Launch} {G : GT} {M C : FS} {K : KT} {p1 : Int32} {t : (Int32 × FS)} (hf : fX0_aloneOf C K p1 = some t) : CtI l yX0_aloneOf (ws_ yX0_aloneOf cX0_aloneOf 6 (some .int)) rmX0_aloneOf G [.ref (G.2.2.2 131), .int p1] (M, C, K.1, K.2.1) t.1 (M, t.2, K.1, K.2.1) := by
  refine mkI (ty := .int) (by decide) (Nat.le_of_ble_eq_true rfl) (fun p e s m a0 below meth c Q FX hw hname hret ls hl => ?_)
  have hl : lv_has ls 6 [(0, .ref (G.2.2.2 131)), (1, .int p1)] := hl
  unfold fX0_aloneOf at hf
  refine lv_ldcw FX.1 FX.2.1 FX.2.2.2.1 (FX.2.2.2.2 _ q1368) dX0_aloneOf_0 ?_
  refine lv_istore_n (lv' := [(2, .int 1000000), (0, .ref (G.2.2.2 131)), (1, .int p1)]) FX.1 FX.2.1 dX0_aloneOf_3 rfl hl (by decide) rfl (fun ls hl => ?_)
  refine lv_iconst (v := 0) FX.1 FX.2.1 dX0_aloneOf_4 (by decide) ?_
  refine lv_istore_n (lv' := [(3, .int 0), (2, .int 1000000), (0, .ref (G.2.2.2 131)), (1, .int p1)]) FX.1 FX.2.1 dX0_aloneOf_5 rfl hl (by decide) rfl (fun ls hl => ?_)
  refine lv_iconst (v := 0) FX.1 FX.2.1 dX0_aloneOf_6 (by decide) ?_
  refine lv_istore (lv' := [(4, .int 0), (3, .int 0), (2, .int 1000000), (0, .ref (G.2.2.2 131)), (1, .int p1)]) FX.1 FX.2.1 dX0_aloneOf_7 hl (by decide) rfl (fun ls hl => ?_)
  refine bd hf (fun u9 ht hf => ?_)
  obtain ⟨n, hn⟩ := lp_iff.mp ht
  have hX9 : ∀ (t9_2 : Int32) (Ct9 : FS) (H : Heap) (locs : List Loc) (ls : Array Slot) , (t9_2, Ct9) = u9 → WS G (M, Ct9, K.1, K.2.1) s H locs → lv_has ls 6 [(2, .int t9_2)] → W p l e rmX0_aloneOf s m a0 below meth c H locs 0 0 Q (F0 m 109 ls []) := by
    intro t9_2 Ct9 H locs ls he hw hl
    subst he
    have hf : fX0_aloneOf_X9 t9_2 Ct9 = some t := hf
    unfold fX0_aloneOf_X9 at hf
    refine lv_iload_n FX.1 FX.2.1 dX0_aloneOf_109 rfl (lv_at hl 0 rfl) ?_
    exact hret _ _ rfl (congrArg (fun z => z.1) (Option.some.inj hf)) (congrArg (fun z => (M, z.2, K.1, K.2.1)) (Option.some.inj hf)) hw dX0_aloneOf_110
  have hL9 : ∀ (n : Nat) (z9_2 : Int32) (z9_3 : Int32) (z9_4 : Int32) (Cz9 : FS) (H : Heap) (locs : List Loc) (ls : Array Slot) , lpN (fun z => fX0_aloneOf_L9 K p1 z.1 z.2.1 z.2.2.1 z.2.2.2) n (z9_2, z9_3, z9_4, Cz9) = some u9 → WS G (M, Cz9, K.1, K.2.1) s H locs → lv_has ls 6 [(0, .ref (G.2.2.2 131)), (1, .int p1), (2, .int z9_2), (3, .int z9_3), (4, .int z9_4)] → W p l e rmX0_aloneOf s m a0 below meth c H locs 0 0 Q (F0 m 9 ls []) := by
    intro n
    induction n with
    | zero => intro z9_2 z9_3 z9_4 Cz9 H locs ls hz; cases hz
    | succ n ih =>
      intro z9_2 z9_3 z9_4 Cz9 H locs ls hz hw hl
      refine bd (show (fX0_aloneOf_L9 K p1 z9_2 z9_3 z9_4 Cz9).bind _ = some u9 from hz) (fun x9 hf hk9 => ?_)
      unfold fX0_aloneOf_L9 at hf
      refine lv_iload FX.1 FX.2.1 dX0_aloneOf_9 (lv_at hl 4 rfl) ?_
      refine lv_iconst (v := 4) FX.1 FX.2.1 dX0_aloneOf_11 (by decide) ?_
      refine lv_icmp_ge (tgt := 109) FX.1 FX.2.1 dX0_aloneOf_12 (by decide) (fun c_12 => ?_) (fun c_12 => ?_)
      · have hf := it_pos c_12 hf
        exact hX9 _ _ _ _ _ (lpe hf hk9) hw (lv_sub hl [2] rfl)
      · have hf := it_neg c_12 hf
        refine lv_iload_n FX.1 FX.2.1 dX0_aloneOf_15 rfl (lv_at hl 3 rfl) ?_
        refine lv_aload_n FX.1 FX.2.1 dX0_aloneOf_16 rfl (lv_at hl 0 rfl) ?_
        refine lv_iload_n FX.1 FX.2.1 dX0_aloneOf_17 rfl (lv_at hl 1 rfl) ?_
        refine lv_iconst (v := 0) FX.1 FX.2.1 dX0_aloneOf_18 (by decide) ?_
        refine lv_iload FX.1 FX.2.1 dX0_aloneOf_19 (lv_at hl 4 rfl) ?_
        refine bd hf (fun t1 h_t1 hf => ?_)
        refine clV_i0 (As := [.int p1, .int 0, .int z9_4]) (rest := [.int z9_3]) FX hw (wX0_least h_t1) (cwV 3 FX.2.2.2.2 (lw_V q1369 q1371 qs31 q134 q1372) rfl rfl rfl (by decide +kernel) ⟨Nat.le_of_ble_eq_true rfl, Nat.le_of_ble_eq_true rfl⟩) (fx_obj hw (o := (131, 0, 100, 31)) (by decide)) rfl rfl hl.1 rfl (lv_room (Nat.le_of_ble_eq_true rfl)) dX0_aloneOf_21 ⟨rfl, rfl⟩ ⟨Nat.zero_le _, Nat.zero_le _⟩ (fun H locs hw => ?_)
        refine lv_iadd FX.1 FX.2.1 dX0_aloneOf_24 ?_
        refine lv_istore (lv' := [(5, .int (z9_3 + t1.1)), (0, .ref (G.2.2.2 131)), (1, .int p1), (2, .int z9_2), (3, .int z9_3), (4, .int z9_4)]) FX.1 FX.2.1 dX0_aloneOf_25 hl (by decide) rfl (fun ls hl => ?_)
        refine lv_iload_n FX.1 FX.2.1 dX0_aloneOf_27 rfl (lv_at hl 4 rfl) ?_
        refine lv_aload_n FX.1 FX.2.1 dX0_aloneOf_28 rfl (lv_at hl 1 rfl) ?_
        refine lv_iload FX.1 FX.2.1 dX0_aloneOf_29 (lv_at hl 5 rfl) ?_
        refine bd hf (fun t2 h_t2 hf => ?_)
        refine clV_i0 (As := [.int z9_4]) (rest := [.int z9_3]) FX hw (wX0_leftBy h_t2) (cwV 1 FX.2.2.2.2 (lw_V q1390 q1392 qs35 q134 q1393) rfl rfl rfl (by decide +kernel) ⟨Nat.le_of_ble_eq_true rfl, Nat.le_of_ble_eq_true rfl⟩) (fx_obj hw (o := (131, 0, 100, 31)) (by decide)) rfl rfl hl.1 rfl (lv_room (Nat.le_of_ble_eq_true rfl)) dX0_aloneOf_31 ⟨rfl, rfl⟩ ⟨Nat.zero_le _, Nat.zero_le _⟩ (fun H locs hw => ?_)
        refine lv_iadd FX.1 FX.2.1 dX0_aloneOf_34 ?_
        refine lv_istore_n (lv' := [(3, .int (z9_3 + t2)), (5, .int (z9_3 + t1.1)), (0, .ref (G.2.2.2 131)), (1, .int p1), (2, .int z9_2), (4, .int z9_4)]) FX.1 FX.2.1 dX0_aloneOf_35 rfl hl (by decide) rfl (fun ls hl => ?_)
        refine lv_iload FX.1 FX.2.1 dX0_aloneOf_36 (lv_at hl 1 rfl) ?_
        refine lv_iload_n FX.1 FX.2.1 dX0_aloneOf_38 rfl (lv_at hl 4 rfl) ?_
        refine lv_icmp_lt (tgt := 45) FX.1 FX.2.1 dX0_aloneOf_39 (by decide) (fun c_39 => ?_) (fun c_39 => ?_)
        · have hf := it_pos c_39 hf
          refine lv_iload FX.1 FX.2.1 dX0_aloneOf_45 (lv_at hl 1 rfl) ?_
          refine lv_istore_n (lv' := [(2, .int (z9_3 + t1.1)), (3, .int (z9_3 + t2)), (5, .int (z9_3 + t1.1)), (0, .ref (G.2.2.2 131)), (1, .int p1), (4, .int z9_4)]) FX.1 FX.2.1 dX0_aloneOf_47 rfl hl (by decide) rfl (fun ls hl => ?_)
          refine lv_aload_n FX.1 FX.2.1 dX0_aloneOf_48 rfl (lv_at hl 3 rfl) ?_
          refine gX0_60 FX hw dX0_aloneOf_49 ?_
          refine lv_iconst (v := 0) FX.1 FX.2.1 dX0_aloneOf_52 (by decide) ?_
          refine lv_iload FX.1 FX.2.1 dX0_aloneOf_53 (lv_at hl 5 rfl) ?_
          refine bd hf (fun C3 h_C3 hf => ?_)
          refine as117 FX hw h_C3 dX0_aloneOf_55 (fun H locs hw => ?_)
          refine lv_aload_n FX.1 FX.2.1 dX0_aloneOf_56 rfl (lv_at hl 3 rfl) ?_
          refine gX0_60 FX hw dX0_aloneOf_57 ?_
          refine lv_iconst (v := 1) FX.1 FX.2.1 dX0_aloneOf_60 (by decide) ?_
          refine lv_aload_n FX.1 FX.2.1 dX0_aloneOf_61 rfl (lv_at hl 3 rfl) ?_
          refine gX0_382 FX hw dX0_aloneOf_62 ?_
          refine bd hf (fun C4 h_C4 hf => ?_)
          refine as117 FX hw h_C4 dX0_aloneOf_65 (fun H locs hw => ?_)
          refine lv_aload_n FX.1 FX.2.1 dX0_aloneOf_66 rfl (lv_at hl 3 rfl) ?_
          refine gX0_60 FX hw dX0_aloneOf_67 ?_
          refine lv_iconst (v := 2) FX.1 FX.2.1 dX0_aloneOf_70 (by decide) ?_
          refine lv_aload_n FX.1 FX.2.1 dX0_aloneOf_71 rfl (lv_at hl 3 rfl) ?_
          refine gX0_385 FX hw dX0_aloneOf_72 ?_
          refine bd hf (fun C5 h_C5 hf => ?_)
          refine as117 FX hw h_C5 dX0_aloneOf_75 (fun H locs hw => ?_)
          refine lv_aload_n FX.1 FX.2.1 dX0_aloneOf_76 rfl (lv_at hl 3 rfl) ?_
          refine gX0_60 FX hw dX0_aloneOf_77 ?_
          refine lv_iconst (v := 3) FX.1 FX.2.1 dX0_aloneOf_80 (by decide) ?_
          refine lv_aload_n FX.1 FX.2.1 dX0_aloneOf_81 rfl (lv_at hl 3 rfl) ?_
          refine gX0_382 FX hw dX0_aloneOf_82 ?_
          refine lv_aload_n FX.1 FX.2.1 dX0_aloneOf_85 rfl (lv_at hl 3 rfl) ?_
          refine gX0_385 FX hw dX0_aloneOf_86 ?_
          refine lv_iadd FX.1 FX.2.1 dX0_aloneOf_89 ?_
          refine lv_aload_n FX.1 FX.2.1 dX0_aloneOf_90 rfl (lv_at hl 3 rfl) ?_
          refine gX0_364 FX hw dX0_aloneOf_91 ?_
          refine lv_icmp_ge (tgt := 101) FX.1 FX.2.1 dX0_aloneOf_94 (by decide) (fun c_94 => ?_) (fun c_94 => ?_)
          · have hf := it_pos c_94 hf
            refine lv_iconst (v := 0) FX.1 FX.2.1 dX0_aloneOf_101 (by decide) ?_
            refine bd hf (fun C6 h_C6 hf => ?_)
            refine as117 FX hw h_C6 dX0_aloneOf_102 (fun H locs hw => ?_)
            refine lv_iinc (v := (z9_4 + 1)) (lv' := [(4, .int (z9_4 + 1)), (2, .int (z9_3 + t1.1)), (3, .int (z9_3 + t2)), (5, .int (z9_3 + t1.1)), (0, .ref (G.2.2.2 131)), (1, .int p1)]) FX.1 FX.2.1 dX0_aloneOf_103 hl (k := 5) rfl (congrArg (fun q : Int32 => z9_4 + q) (by decide : Int32.ofInt 1 = 1)) (by decide) rfl (fun ls hl => ?_)
            refine lv_goto (tgt := 9) FX.1 FX.2.1 dX0_aloneOf_106 (by decide) ?_
            exact ih _ _ _ _ _ _ _ (lpc hf hk9) hw (lv_sub hl [4, 5, 1, 2, 0] rfl)
          · have hf := it_neg c_94 hf
            refine lv_iconst (v := 1) FX.1 FX.2.1 dX0_aloneOf_97 (by decide) ?_
            refine lv_goto (tgt := 102) FX.1 FX.2.1 dX0_aloneOf_98 (by decide) ?_
            refine bd hf (fun C7 h_C7 hf => ?_)
            refine as117 FX hw h_C7 dX0_aloneOf_102 (fun H locs hw => ?_)
            refine lv_iinc (v := (z9_4 + 1)) (lv' := [(4, .int (z9_4 + 1)), (2, .int (z9_3 + t1.1)), (3, .int (z9_3 + t2)), (5, .int (z9_3 + t1.1)), (0, .ref (G.2.2.2 131)), (1, .int p1)]) FX.1 FX.2.1 dX0_aloneOf_103 hl (k := 5) rfl (congrArg (fun q : Int32 => z9_4 + q) (by decide : Int32.ofInt 1 = 1)) (by decide) rfl (fun ls hl => ?_)
            refine lv_goto (tgt := 9) FX.1 FX.2.1 dX0_aloneOf_106 (by decide) ?_
            exact ih _ _ _ _ _ _ _ (lpc hf hk9) hw (lv_sub hl [4, 5, 1, 2, 0] rfl)
        · have hf := it_neg c_39 hf
          refine lv_goto (tgt := 103) FX.1 FX.2.1 dX0_aloneOf_42 (by decide) ?_
          refine lv_iinc (v := (z9_4 + 1)) (lv' := [(4, .int (z9_4 + 1)), (3, .int (z9_3 + t2)), (5, .int (z9_3 + t1.1)), (0, .ref (G.2.2.2 131)), (1, .int p1), (2, .int z9_2)]) FX.1 FX.2.1 dX0_aloneOf_103 hl (k := 5) rfl (congrArg (fun q : Int32 => z9_4 + q) (by decide : Int32.ofInt 1 = 1)) (by decide) rfl (fun ls hl => ?_)
          refine lv_goto (tgt := 9) FX.1 FX.2.1 dX0_aloneOf_106 (by decide) ?_
          exact ih _ _ _ _ _ _ _ (lpc hf hk9) hw (lv_sub hl [3, 4, 5, 1, 0] rfl)
  exact hL9 n _ _ _ _ _ _ _ hn hw (lv_sub hl [3, 4, 2, 1, 0] rfl)
abbrev rmX0_alone : Room := { frames := 9, cells := 0, slots := 0, locals := 478 }
set_option maxHeartbeats 4000000 in
theorem wX0_alone {l : Launch} {G : GT} {M C : FS} {K : KT} {p1 : Int32} {t : (Int32 × FS)} (hf : fX0_alone C K p1 = some t) : CtI l yX0_alone (ws_ yX0_alone cX0_alone 4 (some .int)) rmX0_alone G [.ref (G.2.2.2 131), .int p1] (M, C, K.1, K.2.1) t.1 (M, t.2, K.1, K.2.1) := by
  refine mkI (ty := .int) (by decide) (Nat.le_of_ble_eq_true rfl) (fun p e s m a0 below meth c Q FX hw hname hret ls hl => ?_)
  have hl : lv_has ls 4 [(0, .ref (G.2.2.2 131)), (1, .int p1)] := hl
  unfold fX0_alone at hf
  refine lv_aload_n FX.1 FX.2.1 dX0_alone_0 rfl (lv_at hl 0 rfl) ?_
  refine lv_iload_n FX.1 FX.2.1 dX0_alone_1 rfl (lv_at hl 1 rfl) ?_
  refine bd hf (fun t1 h_t1 hf => ?_)
  refine clV_i0 (As := [.int p1]) (rest := []) FX hw (wX0_wrongLead h_t1) (cwV 1 FX.2.2.2.2 (lw_V q1193 q1195 qs24 q134 q1196) rfl rfl rfl (by decide +kernel) ⟨Nat.le_of_ble_eq_true rfl, Nat.le_of_ble_eq_true rfl⟩) (fx_obj hw (o := (131, 0, 100, 31)) (by decide)) rfl rfl hl.1 rfl (lv_room (Nat.le_of_ble_eq_true rfl)) dX0_alone_2 ⟨rfl, rfl⟩ ⟨Nat.zero_le _, Nat.zero_le _⟩ (fun H locs hw => ?_)
  refine lv_istore_n (lv' := [(2, .int t1), (0, .ref (G.2.2.2 131)), (1, .int p1)]) FX.1 FX.2.1 dX0_alone_5 rfl hl (by decide) rfl (fun ls hl => ?_)
  refine lv_iload_n FX.1 FX.2.1 dX0_alone_6 rfl (lv_at hl 0 rfl) ?_
  refine lv_if_le (tgt := 16) FX.1 FX.2.1 dX0_alone_7 (by decide) (fun c_7 => ?_) (fun c_7 => ?_)
  · have hf := it_pos c_7 hf
    refine lv_aload_n FX.1 FX.2.1 dX0_alone_16 rfl (lv_at hl 1 rfl) ?_
    refine lv_iload_n FX.1 FX.2.1 dX0_alone_17 rfl (lv_at hl 2 rfl) ?_
    refine bd hf (fun t2 h_t2 hf => ?_)
    refine clV_i0 (As := [.int p1]) (rest := []) FX hw (wX0_aloneOf h_t2) (cwV 1 FX.2.2.2.2 (lw_V q1364 q1366 qs30 q134 q1367) rfl rfl rfl (by decide +kernel) ⟨Nat.le_of_ble_eq_true rfl, Nat.le_of_ble_eq_true rfl⟩) (fx_obj hw (o := (131, 0, 100, 31)) (by decide)) rfl rfl hl.1 rfl (lv_room (Nat.le_of_ble_eq_true rfl)) dX0_alone_18 ⟨rfl, rfl⟩ ⟨Nat.zero_le _, Nat.zero_le _⟩ (fun H locs hw => ?_)
    refine lv_istore_n (lv' := [(3, .int t2.1), (2, .int t1), (0, .ref (G.2.2.2 131)), (1, .int p1)]) FX.1 FX.2.1 dX0_alone_21 rfl hl (by decide) rfl (fun ls hl => ?_)
    refine lv_aload_n FX.1 FX.2.1 dX0_alone_22 rfl (lv_at hl 2 rfl) ?_
    refine gX0_60 FX hw dX0_alone_23 ?_
    refine lv_iconst (v := 0) FX.1 FX.2.1 dX0_alone_26 (by decide) ?_
    refine lv_aload_n FX.1 FX.2.1 dX0_alone_27 rfl (lv_at hl 2 rfl) ?_
    refine gX0_63 FX hw dX0_alone_28 ?_
    refine lv_iconst (v := 0) FX.1 FX.2.1 dX0_alone_31 (by decide) ?_
    refine lv_iconst (v := 4) FX.1 FX.2.1 dX0_alone_32 (by decide) ?_
    refine bd hf (fun C3 h_C3 hf => ?_)
    refine fx_cpF FX hl.1 hw q634 (by decide) (by decide) (by decide) (by decide) h_C3 (Nat.le_of_ble_eq_true rfl) (Nat.le_of_ble_eq_true rfl) dX0_alone_33 (fun H locs hw => ?_)
    refine lv_aload_n FX.1 FX.2.1 dX0_alone_36 rfl (lv_at hl 2 rfl) ?_
    refine lv_iconst (v := 1) FX.1 FX.2.1 dX0_alone_37 (by decide) ?_
    refine bd hf (fun C4 h_C4 hf => ?_)
    refine sX0_398 FX hw dX0_alone_38 (Or.inr rfl) (fun H locs hw => ?_)
    rw [Option.some.inj h_C4] at hw
    refine lv_aload_n FX.1 FX.2.1 dX0_alone_41 rfl (lv_at hl 2 rfl) ?_
    refine lv_iload_n FX.1 FX.2.1 dX0_alone_42 rfl (lv_at hl 0 rfl) ?_
    refine bd hf (fun t5 h_t5 hf => ?_)
    refine clV_i0 (As := [.int t2.1]) (rest := []) FX hw (wX0_gives h_t5) (cwV 1 FX.2.2.2.2 (lw_V q962 q964 qs16 q134 q965) rfl rfl rfl (by decide +kernel) ⟨Nat.le_of_ble_eq_true rfl, Nat.le_of_ble_eq_true rfl⟩) (fx_obj hw (o := (131, 0, 100, 31)) (by decide)) rfl rfl hl.1 rfl (lv_room (Nat.le_of_ble_eq_true rfl)) dX0_alone_43 ⟨rfl, rfl⟩ ⟨Nat.zero_le _, Nat.zero_le _⟩ (fun H locs hw => ?_)
    exact hret _ _ rfl (congrArg (fun z => z.1) (Option.some.inj hf)) (congrArg (fun z => (M, z.2, K.1, K.2.1)) (Option.some.inj hf)) hw dX0_alone_46
  · have hf := it_neg c_7 hf
    refine lv_aload_n FX.1 FX.2.1 dX0_alone_10 rfl (lv_at hl 1 rfl) ?_
    refine lv_iload_n FX.1 FX.2.1 dX0_alone_11 rfl (lv_at hl 0 rfl) ?_
    refine bd hf (fun t6 h_t6 hf => ?_)
    refine clV_i0 (As := [.int t1]) (rest := []) FX hw (wX0_none h_t6) (cwV 1 FX.2.2.2.2 (lw_V q620 q622 qs3 q134 q623) rfl rfl rfl (by decide +kernel) ⟨Nat.le_of_ble_eq_true rfl, Nat.le_of_ble_eq_true rfl⟩) (fx_obj hw (o := (131, 0, 100, 31)) (by decide)) rfl rfl hl.1 rfl (lv_room (Nat.le_of_ble_eq_true rfl)) dX0_alone_12 ⟨rfl, rfl⟩ ⟨Nat.zero_le _, Nat.zero_le _⟩ (fun H locs hw => ?_)
    exact hret _ _ rfl (congrArg (fun z => z.1) (Option.some.inj hf)) (congrArg (fun z => (M, z.2, K.1, K.2.1)) (Option.some.inj hf)) hw dX0_alone_15
abbrev rmX0_way : Room := { frames := 1, cells := 0, slots := 0, locals := 25 }
set_option maxHeartbeats 4000000 in
theorem wX0_way {l : Launch} {G : GT} {M C : FS} {K : KT} {p1 : Int32} {t : (Int32 × FS)} (hf : fX0_way C p1 = some t) : CtI l yX0_way (ws_ yX0_way cX0_way 2 (some .int)) rmX0_way G [.ref (G.2.2.2 131), .int p1] (M, C, K.1, K.2.1) t.1 (M, t.2, K.1, K.2.1) := by
  refine mkI (ty := .int) (by decide) (Nat.le_of_ble_eq_true rfl) (fun p e s m a0 below meth c Q FX hw hname hret ls hl => ?_)
  have hl : lv_has ls 2 [(0, .ref (G.2.2.2 131)), (1, .int p1)] := hl
  unfold fX0_way at hf
  refine lv_iload_n FX.1 FX.2.1 dX0_way_0 rfl (lv_at hl 1 rfl) ?_
  refine lv_i2l (v := p1.toInt64) FX.1 FX.2.1 dX0_way_1 rfl ?_
  refine lv_lconst (v := 0) FX.1 FX.2.1 dX0_way_2 (by decide) ?_
  refine lv_ldc2 FX.1 FX.2.1 FX.2.2.2.1 (FX.2.2.2.2 _ q1267) dX0_way_3 ?_
  refine bd hf (fun t1 h_t1 hf => ?_)
  refine clS_i0 (As := [.long p1.toInt64, .long 0, .long 3]) (rest := []) FX hw (wX0_isFrom h_t1) (va_cwS 3 FX.2.2.2.2 (lw_S q1119 q1120 q134 q1121) rfl rfl rfl (by decide +kernel) ⟨Nat.le_of_ble_eq_true rfl, Nat.le_of_ble_eq_true rfl⟩) rfl hl.1 rfl (lv_room (Nat.le_of_ble_eq_true rfl)) dX0_way_6 ⟨rfl, rfl⟩ ⟨Nat.zero_le _, Nat.zero_le _⟩ (fun H locs hw => ?_)
  refine lv_if_ne (tgt := 18) FX.1 FX.2.1 dX0_way_9 (by decide) (fun c_9 => ?_) (fun c_9 => ?_)
  · have hf := it_neg c_9 hf
    refine lv_aload_n FX.1 FX.2.1 dX0_way_18 rfl (lv_at hl 0 rfl) ?_
    refine gX0_398 FX hw dX0_way_19 ?_
    refine lv_if_eq (tgt := 38) FX.1 FX.2.1 dX0_way_22 (by decide) (fun c_22 => ?_) (fun c_22 => ?_)
    · have hf := it_pos c_22 hf
      refine lv_aload_n FX.1 FX.2.1 dX0_way_38 rfl (lv_at hl 0 rfl) ?_
      refine lv_bipush (v := 8) FX.1 FX.2.1 dX0_way_39 (by decide) ?_
      refine bd hf (fun t2 h_t2 hf => ?_)
      refine clV_i0 (As := [.int 8]) (rest := []) FX hw (wX0_none h_t2) (cwV 1 FX.2.2.2.2 (lw_V q620 q622 qs3 q134 q623) rfl rfl rfl (by decide +kernel) ⟨Nat.le_of_ble_eq_true rfl, Nat.le_of_ble_eq_true rfl⟩) (fx_obj hw (o := (131, 0, 100, 31)) (by decide)) rfl rfl hl.1 rfl (lv_room (Nat.le_of_ble_eq_true rfl)) dX0_way_41 ⟨rfl, rfl⟩ ⟨Nat.zero_le _, Nat.zero_le _⟩ (fun H locs hw => ?_)
      exact hret _ _ rfl (congrArg (fun z => z.1) (Option.some.inj hf)) (congrArg (fun z => (M, z.2, K.1, K.2.1)) (Option.some.inj hf)) hw dX0_way_44
    · have hf := it_neg c_22 hf
      refine lv_aload_n FX.1 FX.2.1 dX0_way_25 rfl (lv_at hl 0 rfl) ?_
      refine lv_aload_n FX.1 FX.2.1 dX0_way_26 rfl (lv_at hl 0 rfl) ?_
      refine gX0_63 FX hw dX0_way_27 ?_
      refine lv_iload_n FX.1 FX.2.1 dX0_way_30 rfl (lv_at hl 1 rfl) ?_
      refine bd hf (fun v3 h_v3 hf => ?_)
      refine al119 FX hw h_v3 dX0_way_31 ?_
      refine bd hf (fun t4 h_t4 hf => ?_)
      refine clV_i0 (As := [.int v3]) (rest := []) FX hw (wX0_gives h_t4) (cwV 1 FX.2.2.2.2 (lw_V q962 q964 qs16 q134 q965) rfl rfl rfl (by decide +kernel) ⟨Nat.le_of_ble_eq_true rfl, Nat.le_of_ble_eq_true rfl⟩) (fx_obj hw (o := (131, 0, 100, 31)) (by decide)) rfl rfl hl.1 rfl (lv_room (Nat.le_of_ble_eq_true rfl)) dX0_way_32 ⟨rfl, rfl⟩ ⟨Nat.zero_le _, Nat.zero_le _⟩ (fun H locs hw => ?_)
      refine lv_goto (tgt := 44) FX.1 FX.2.1 dX0_way_35 (by decide) ?_
      exact hret _ _ rfl (congrArg (fun z => z.1) (Option.some.inj hf)) (congrArg (fun z => (M, z.2, K.1, K.2.1)) (Option.some.inj hf)) hw dX0_way_44
  · have hf := it_pos c_9 hf
    refine lv_aload_n FX.1 FX.2.1 dX0_way_12 rfl (lv_at hl 0 rfl) ?_
    refine lv_iconst (v := 5) FX.1 FX.2.1 dX0_way_13 (by decide) ?_
    refine bd hf (fun t5 h_t5 hf => ?_)
    refine clV_i0 (As := [.int 5]) (rest := []) FX hw (wX0_none h_t5) (cwV 1 FX.2.2.2.2 (lw_V q620 q622 qs3 q134 q623) rfl rfl rfl (by decide +kernel) ⟨Nat.le_of_ble_eq_true rfl, Nat.le_of_ble_eq_true rfl⟩) (fx_obj hw (o := (131, 0, 100, 31)) (by decide)) rfl rfl hl.1 rfl (lv_room (Nat.le_of_ble_eq_true rfl)) dX0_way_14 ⟨rfl, rfl⟩ ⟨Nat.zero_le _, Nat.zero_le _⟩ (fun H locs hw => ?_)
    exact hret _ _ rfl (congrArg (fun z => z.1) (Option.some.inj hf)) (congrArg (fun z => (M, z.2, K.1, K.2.1)) (Option.some.inj hf)) hw dX0_way_17
abbrev rmX0_follows : Room := { frames := 7, cells := 0, slots := 0, locals := 426 }
set_option maxHeartbeats 4000000 in
theorem wX0_follows {l : Launch} {G : GT} {M C : FS} {K : KT} {p1 : Int32} {p2 : Int32} {p3 : Int32} {t : (Int32 × FS)} (hf : fX0_follows C K p1 p2 p3 = some t) : CtI l yX0_follows (ws_ yX0_follows cX0_follows 7 (some .int)) rmX0_follows G [.ref (G.2.2.2 131), .int p1, .int p2, .int p3] (M, C, K.1, K.2.1) t.1 (M, t.2, K.1, K.2.1) := by
  refine mkI (ty := .int) (by decide) (Nat.le_of_ble_eq_true rfl) (fun p e s m a0 below meth c Q FX hw hname hret ls hl => ?_)
  have hl : lv_has ls 7 [(0, .ref (G.2.2.2 131)), (1, .int p1), (2, .int p2), (3, .int p3)] := hl
  unfold fX0_follows at hf
  refine lv_aload_n FX.1 FX.2.1 dX0_follows_0 rfl (lv_at hl 0 rfl) ?_
  refine lv_iload_n FX.1 FX.2.1 dX0_follows_1 rfl (lv_at hl 1 rfl) ?_
  refine bd hf (fun t1 h_t1 hf => ?_)
  refine clV_i0 (As := [.int p1]) (rest := []) FX hw (wX0_wrongLead h_t1) (cwV 1 FX.2.2.2.2 (lw_V q1193 q1195 qs24 q134 q1196) rfl rfl rfl (by decide +kernel) ⟨Nat.le_of_ble_eq_true rfl, Nat.le_of_ble_eq_true rfl⟩) (fx_obj hw (o := (131, 0, 100, 31)) (by decide)) rfl rfl hl.1 rfl (lv_room (Nat.le_of_ble_eq_true rfl)) dX0_follows_2 ⟨rfl, rfl⟩ ⟨Nat.zero_le _, Nat.zero_le _⟩ (fun H locs hw => ?_)
  refine lv_istore (lv' := [(4, .int t1), (0, .ref (G.2.2.2 131)), (1, .int p1), (2, .int p2), (3, .int p3)]) FX.1 FX.2.1 dX0_follows_5 hl (by decide) rfl (fun ls hl => ?_)
  refine lv_iload FX.1 FX.2.1 dX0_follows_7 (lv_at hl 0 rfl) ?_
  refine lv_if_le (tgt := 19) FX.1 FX.2.1 dX0_follows_9 (by decide) (fun c_9 => ?_) (fun c_9 => ?_)
  · have hf := it_pos c_9 hf
    refine lv_aload_n FX.1 FX.2.1 dX0_follows_19 rfl (lv_at hl 1 rfl) ?_
    refine lv_iload_n FX.1 FX.2.1 dX0_follows_20 rfl (lv_at hl 2 rfl) ?_
    refine lv_iconst (v := 0) FX.1 FX.2.1 dX0_follows_21 (by decide) ?_
    refine lv_iconst (v := 0) FX.1 FX.2.1 dX0_follows_22 (by decide) ?_
    refine bd hf (fun t2 h_t2 hf => ?_)
    refine clV_v0 (As := [.int p1, .int 0, .int 0]) (rest := []) FX hw (wX0_lays h_t2) (cwV 3 FX.2.2.2.2 (lw_V q1373 q1375 qs32 q134 q1376) rfl rfl rfl (by decide +kernel) ⟨Nat.le_of_ble_eq_true rfl, Nat.le_of_ble_eq_true rfl⟩) (fx_obj hw (o := (131, 0, 100, 31)) (by decide)) rfl rfl hl.1 rfl (lv_room (Nat.le_of_ble_eq_true rfl)) dX0_follows_23 ⟨rfl, rfl⟩ ⟨Nat.zero_le _, Nat.zero_le _⟩ (fun H locs hw => ?_)
    refine lv_iload_n FX.1 FX.2.1 dX0_follows_26 rfl (lv_at hl 3 rfl) ?_
    refine lv_i2l (v := p2.toInt64) FX.1 FX.2.1 dX0_follows_27 rfl ?_
    refine lv_lconst (v := 0) FX.1 FX.2.1 dX0_follows_28 (by decide) ?_
    refine lv_aload_n FX.1 FX.2.1 dX0_follows_29 rfl (lv_at hl 1 rfl) ?_
    refine gX0_364 FX hw dX0_follows_30 ?_
    refine lv_i2l (v := (t2.1 114).toInt64) FX.1 FX.2.1 dX0_follows_33 rfl ?_
    refine bd hf (fun t3 h_t3 hf => ?_)
    refine clS_i0 (As := [.long p2.toInt64, .long 0, .long ((t2.1 114).toInt64)]) (rest := []) FX hw (wX0_isFrom h_t3) (va_cwS 3 FX.2.2.2.2 (lw_S q1119 q1120 q134 q1121) rfl rfl rfl (by decide +kernel) ⟨Nat.le_of_ble_eq_true rfl, Nat.le_of_ble_eq_true rfl⟩) rfl hl.1 rfl (lv_room (Nat.le_of_ble_eq_true rfl)) dX0_follows_34 ⟨rfl, rfl⟩ ⟨Nat.zero_le _, Nat.zero_le _⟩ (fun H locs hw => ?_)
    refine lv_if_eq (tgt := 56) FX.1 FX.2.1 dX0_follows_37 (by decide) (fun c_37 => ?_) (fun c_37 => ?_)
    · have hf := it_pos c_37 hf
      refine lv_aload_n FX.1 FX.2.1 dX0_follows_56 rfl (lv_at hl 1 rfl) ?_
      refine lv_iconst (v := 5) FX.1 FX.2.1 dX0_follows_57 (by decide) ?_
      refine bd hf (fun t4 h_t4 hf => ?_)
      refine clV_i0 (As := [.int 5]) (rest := []) FX hw (wX0_none h_t4) (cwV 1 FX.2.2.2.2 (lw_V q620 q622 qs3 q134 q623) rfl rfl rfl (by decide +kernel) ⟨Nat.le_of_ble_eq_true rfl, Nat.le_of_ble_eq_true rfl⟩) (fx_obj hw (o := (131, 0, 100, 31)) (by decide)) rfl rfl hl.1 rfl (lv_room (Nat.le_of_ble_eq_true rfl)) dX0_follows_58 ⟨rfl, rfl⟩ ⟨Nat.zero_le _, Nat.zero_le _⟩ (fun H locs hw => ?_)
      exact hret _ _ rfl (congrArg (fun z => z.1) (Option.some.inj hf)) (congrArg (fun z => (M, z.2, K.1, K.2.1)) (Option.some.inj hf)) hw dX0_follows_61
    · have hf := it_neg c_37 hf
      refine lv_iload_n FX.1 FX.2.1 dX0_follows_40 rfl (lv_at hl 4 rfl) ?_
      refine lv_i2l (v := p3.toInt64) FX.1 FX.2.1 dX0_follows_41 rfl ?_
      refine lv_lconst (v := 0) FX.1 FX.2.1 dX0_follows_42 (by decide) ?_
      refine lv_aload_n FX.1 FX.2.1 dX0_follows_43 rfl (lv_at hl 1 rfl) ?_
      refine gX0_364 FX hw dX0_follows_44 ?_
      refine lv_iload_n FX.1 FX.2.1 dX0_follows_47 rfl (lv_at hl 3 rfl) ?_
      refine lv_isub FX.1 FX.2.1 dX0_follows_48 ?_
      refine lv_i2l (v := ((t2.1 114) - p2).toInt64) FX.1 FX.2.1 dX0_follows_49 rfl ?_
      refine bd hf (fun t5 h_t5 hf => ?_)
      refine clS_i0 (As := [.long p3.toInt64, .long 0, .long (((t2.1 114) - p2).toInt64)]) (rest := []) FX hw (wX0_isFrom h_t5) (va_cwS 3 FX.2.2.2.2 (lw_S q1119 q1120 q134 q1121) rfl rfl rfl (by decide +kernel) ⟨Nat.le_of_ble_eq_true rfl, Nat.le_of_ble_eq_true rfl⟩) rfl hl.1 rfl (lv_room (Nat.le_of_ble_eq_true rfl)) dX0_follows_50 ⟨rfl, rfl⟩ ⟨Nat.zero_le _, Nat.zero_le _⟩ (fun H locs hw => ?_)
      refine lv_if_ne (tgt := 62) FX.1 FX.2.1 dX0_follows_53 (by decide) (fun c_53 => ?_) (fun c_53 => ?_)
      · have hf := it_neg c_53 hf
        refine lv_iconst (v := 0) FX.1 FX.2.1 dX0_follows_62 (by decide) ?_
        refine lv_istore (lv' := [(5, .int 0), (4, .int t1), (0, .ref (G.2.2.2 131)), (1, .int p1), (2, .int p2), (3, .int p3)]) FX.1 FX.2.1 dX0_follows_63 hl (by decide) rfl (fun ls hl => ?_)
        refine lv_iconst (v := 0) FX.1 FX.2.1 dX0_follows_65 (by decide) ?_
        refine lv_istore (lv' := [(6, .int 0), (5, .int 0), (4, .int t1), (0, .ref (G.2.2.2 131)), (1, .int p1), (2, .int p2), (3, .int p3)]) FX.1 FX.2.1 dX0_follows_66 hl (by decide) rfl (fun ls hl => ?_)
        refine bd hf (fun u68 ht hf => ?_)
        obtain ⟨n, hn⟩ := lp_iff.mp ht
        have hX68 : ∀ (t68_5 : Int32) (H : Heap) (locs : List Loc) (ls : Array Slot) , t68_5 = u68 → WS G (M, t2, K.1, K.2.1) s H locs → lv_has ls 7 [(0, .ref (G.2.2.2 131)), (5, .int t68_5)] → W p l e rmX0_follows s m a0 below meth c H locs 0 0 Q (F0 m 115 ls []) := by
          intro t68_5 H locs ls he hw hl
          subst he
          refine lv_aload_n FX.1 FX.2.1 dX0_follows_115 rfl (lv_at hl 0 rfl) ?_
          refine lv_iload FX.1 FX.2.1 dX0_follows_116 (lv_at hl 1 rfl) ?_
          refine bd hf (fun t7 h_t7 hf => ?_)
          refine clV_i0 (As := [.int t68_5]) (rest := []) FX hw (wX0_gives h_t7) (cwV 1 FX.2.2.2.2 (lw_V q962 q964 qs16 q134 q965) rfl rfl rfl (by decide +kernel) ⟨Nat.le_of_ble_eq_true rfl, Nat.le_of_ble_eq_true rfl⟩) (fx_obj hw (o := (131, 0, 100, 31)) (by decide)) rfl rfl hl.1 rfl (lv_room (Nat.le_of_ble_eq_true rfl)) dX0_follows_118 ⟨rfl, rfl⟩ ⟨Nat.zero_le _, Nat.zero_le _⟩ (fun H locs hw => ?_)
          exact hret _ _ rfl (congrArg (fun z => z.1) (Option.some.inj hf)) (congrArg (fun z => (M, z.2, K.1, K.2.1)) (Option.some.inj hf)) hw dX0_follows_121
        have hL68 : ∀ (n : Nat) (z68_5 : Int32) (z68_6 : Int32) (H : Heap) (locs : List Loc) (ls : Array Slot) , lpN (fun z => fX0_follows_L68 K p2 p3 t2 z.1 z.2) n (z68_5, z68_6) = some u68 → WS G (M, t2, K.1, K.2.1) s H locs → lv_has ls 7 [(0, .ref (G.2.2.2 131)), (2, .int p2), (3, .int p3), (5, .int z68_5), (6, .int z68_6)] → W p l e rmX0_follows s m a0 below meth c H locs 0 0 Q (F0 m 68 ls []) := by
          intro n
          induction n with
          | zero => intro z68_5 z68_6 H locs ls hz; cases hz
          | succ n ih =>
            intro z68_5 z68_6 H locs ls hz hw hl
            refine bd (show (fX0_follows_L68 K p2 p3 t2 z68_5 z68_6).bind _ = some u68 from hz) (fun x68 hf hk68 => ?_)
            unfold fX0_follows_L68 at hf
            refine lv_iload FX.1 FX.2.1 dX0_follows_68 (lv_at hl 4 rfl) ?_
            refine lv_aload_n FX.1 FX.2.1 dX0_follows_70 rfl (lv_at hl 0 rfl) ?_
            refine gX0_364 FX hw dX0_follows_71 ?_
            refine lv_icmp_ge (tgt := 115) FX.1 FX.2.1 dX0_follows_74 (by decide) (fun c_74 => ?_) (fun c_74 => ?_)
            · have hf := it_pos c_74 hf
              exact hX68 _ _ _ _ (lpe hf hk68) hw (lv_sub hl [0, 3] rfl)
            · have hf := it_neg c_74 hf
              refine lv_iload FX.1 FX.2.1 dX0_follows_77 (lv_at hl 3 rfl) ?_
              refine lv_iload FX.1 FX.2.1 dX0_follows_79 (lv_at hl 4 rfl) ?_
              refine lv_iload_n FX.1 FX.2.1 dX0_follows_81 rfl (lv_at hl 1 rfl) ?_
              have hK96 : ∀ (H : Heap) (locs : List Loc) (ls : Array Slot) , fX0_follows_J96 K t2 z68_5 z68_6  = some x68 → WS G (M, t2, K.1, K.2.1) s H locs → lv_has ls 7 [(0, .ref (G.2.2.2 131)), (2, .int p2), (3, .int p3), (6, .int z68_6)] → W p l e rmX0_follows s m a0 below meth c H locs 0 0 Q (F0 m 96 ls [.int z68_5]) := by
                intro  H locs ls hf hw hl
                unfold fX0_follows_J96 at hf
                refine lv_aload_n FX.1 FX.2.1 dX0_follows_96 rfl (lv_at hl 0 rfl) ?_
                refine lv_iload FX.1 FX.2.1 dX0_follows_97 (lv_at hl 3 rfl) ?_
                refine bd hf (fun t6 h_t6 hf => ?_)
                refine clV_i0 (As := [.int z68_6]) (rest := [.int z68_5]) FX hw (wX0_secondsAt h_t6) (cwV 1 FX.2.2.2.2 (lw_V q1386 q1388 qs34 q134 q1389) rfl rfl rfl (by decide +kernel) ⟨Nat.le_of_ble_eq_true rfl, Nat.le_of_ble_eq_true rfl⟩) (fx_obj hw (o := (131, 0, 100, 31)) (by decide)) rfl rfl hl.1 rfl (lv_room (Nat.le_of_ble_eq_true rfl)) dX0_follows_99 ⟨rfl, rfl⟩ ⟨Nat.zero_le _, Nat.zero_le _⟩ (fun H locs hw => ?_)
                refine lv_goto (tgt := 106) FX.1 FX.2.1 dX0_follows_102 (by decide) ?_
                refine lv_iadd FX.1 FX.2.1 dX0_follows_106 ?_
                refine lv_istore (lv' := [(5, .int (z68_5 + t6)), (0, .ref (G.2.2.2 131)), (2, .int p2), (3, .int p3), (6, .int z68_6)]) FX.1 FX.2.1 dX0_follows_107 hl (by decide) rfl (fun ls hl => ?_)
                refine lv_iinc (v := (z68_6 + 1)) (lv' := [(6, .int (z68_6 + 1)), (5, .int (z68_5 + t6)), (0, .ref (G.2.2.2 131)), (2, .int p2), (3, .int p3)]) FX.1 FX.2.1 dX0_follows_109 hl (k := 4) rfl (congrArg (fun q : Int32 => z68_6 + q) (by decide : Int32.ofInt 1 = 1)) (by decide) rfl (fun ls hl => ?_)
                refine lv_goto (tgt := 68) FX.1 FX.2.1 dX0_follows_112 (by decide) ?_
                exact ih _ _ _ _ _ (lpc hf hk68) hw (lv_sub hl [2, 3, 4, 1, 0] rfl)
              refine lv_icmp_lt (tgt := 96) FX.1 FX.2.1 dX0_follows_82 (by decide) (fun c_82 => ?_) (fun c_82 => ?_)
              · have hf := it_pos c_82 hf
                exact hK96  _ _ _ hf hw (lv_sub hl [0, 1, 2, 4] rfl)
              · have hf := it_neg c_82 hf
                refine lv_iload FX.1 FX.2.1 dX0_follows_85 (lv_at hl 4 rfl) ?_
                refine lv_aload_n FX.1 FX.2.1 dX0_follows_87 rfl (lv_at hl 0 rfl) ?_
                refine gX0_364 FX hw dX0_follows_88 ?_
                refine lv_iload_n FX.1 FX.2.1 dX0_follows_91 rfl (lv_at hl 2 rfl) ?_
                refine lv_isub FX.1 FX.2.1 dX0_follows_92 ?_
                refine lv_icmp_lt (tgt := 105) FX.1 FX.2.1 dX0_follows_93 (by decide) (fun c_93 => ?_) (fun c_93 => ?_)
                · have hf := it_pos c_93 hf
                  refine lv_iconst (v := 0) FX.1 FX.2.1 dX0_follows_105 (by decide) ?_
                  refine lv_iadd FX.1 FX.2.1 dX0_follows_106 ?_
                  refine lv_istore (lv' := [(5, .int (z68_5 + 0)), (0, .ref (G.2.2.2 131)), (2, .int p2), (3, .int p3), (6, .int z68_6)]) FX.1 FX.2.1 dX0_follows_107 hl (by decide) rfl (fun ls hl => ?_)
                  refine lv_iinc (v := (z68_6 + 1)) (lv' := [(6, .int (z68_6 + 1)), (5, .int (z68_5 + 0)), (0, .ref (G.2.2.2 131)), (2, .int p2), (3, .int p3)]) FX.1 FX.2.1 dX0_follows_109 hl (k := 4) rfl (congrArg (fun q : Int32 => z68_6 + q) (by decide : Int32.ofInt 1 = 1)) (by decide) rfl (fun ls hl => ?_)
                  refine lv_goto (tgt := 68) FX.1 FX.2.1 dX0_follows_112 (by decide) ?_
                  exact ih _ _ _ _ _ (lpc hf hk68) hw (lv_sub hl [2, 3, 4, 1, 0] rfl)
                · have hf := it_neg c_93 hf
                  exact hK96  _ _ _ hf hw (lv_sub hl [0, 1, 2, 4] rfl)
        exact hL68 n _ _ _ _ _ hn hw (lv_sub hl [3, 5, 6, 1, 0] rfl)
      · have hf := it_pos c_53 hf
        refine lv_aload_n FX.1 FX.2.1 dX0_follows_56 rfl (lv_at hl 1 rfl) ?_
        refine lv_iconst (v := 5) FX.1 FX.2.1 dX0_follows_57 (by decide) ?_
        refine bd hf (fun t8 h_t8 hf => ?_)
        refine clV_i0 (As := [.int 5]) (rest := []) FX hw (wX0_none h_t8) (cwV 1 FX.2.2.2.2 (lw_V q620 q622 qs3 q134 q623) rfl rfl rfl (by decide +kernel) ⟨Nat.le_of_ble_eq_true rfl, Nat.le_of_ble_eq_true rfl⟩) (fx_obj hw (o := (131, 0, 100, 31)) (by decide)) rfl rfl hl.1 rfl (lv_room (Nat.le_of_ble_eq_true rfl)) dX0_follows_58 ⟨rfl, rfl⟩ ⟨Nat.zero_le _, Nat.zero_le _⟩ (fun H locs hw => ?_)
        exact hret _ _ rfl (congrArg (fun z => z.1) (Option.some.inj hf)) (congrArg (fun z => (M, z.2, K.1, K.2.1)) (Option.some.inj hf)) hw dX0_follows_61
  · have hf := it_neg c_9 hf
    refine lv_aload_n FX.1 FX.2.1 dX0_follows_12 rfl (lv_at hl 1 rfl) ?_
    refine lv_iload FX.1 FX.2.1 dX0_follows_13 (lv_at hl 0 rfl) ?_
    refine bd hf (fun t9 h_t9 hf => ?_)
    refine clV_i0 (As := [.int t1]) (rest := []) FX hw (wX0_none h_t9) (cwV 1 FX.2.2.2.2 (lw_V q620 q622 qs3 q134 q623) rfl rfl rfl (by decide +kernel) ⟨Nat.le_of_ble_eq_true rfl, Nat.le_of_ble_eq_true rfl⟩) (fx_obj hw (o := (131, 0, 100, 31)) (by decide)) rfl rfl hl.1 rfl (lv_room (Nat.le_of_ble_eq_true rfl)) dX0_follows_15 ⟨rfl, rfl⟩ ⟨Nat.zero_le _, Nat.zero_le _⟩ (fun H locs hw => ?_)
    exact hret _ _ rfl (congrArg (fun z => z.1) (Option.some.inj hf)) (congrArg (fun z => (M, z.2, K.1, K.2.1)) (Option.some.inj hf)) hw dX0_follows_18
abbrev rmX0_restOf : Room := { frames := 8, cells := 0, slots := 0, locals := 453 }
set_option maxHeartbeats 4000000 in
theorem wX0_restOf {l : Launch} {G : GT} {M C : FS} {K : KT} {p1 : Int32} {t : (Int32 × FS)} (hf : fX0_restOf C K p1 = some t) : CtI l yX0_restOf (ws_ yX0_restOf cX0_restOf 6 (some .int)) rmX0_restOf G [.ref (G.2.2.2 131), .int p1] (M, C, K.1, K.2.1) t.1 (M, t.2, K.1, K.2.1) := by
  refine mkI (ty := .int) (by decide) (Nat.le_of_ble_eq_true rfl) (fun p e s m a0 below meth c Q FX hw hname hret ls hl => ?_)
  have hl : lv_has ls 6 [(0, .ref (G.2.2.2 131)), (1, .int p1)] := hl
  unfold fX0_restOf at hf
  refine lv_aload_n FX.1 FX.2.1 dX0_restOf_0 rfl (lv_at hl 0 rfl) ?_
  refine gX0_38 FX hw dX0_restOf_1 ?_
  refine bd hf (fun a1 h_a1 hf => ?_)
  rw [show va_rf (C.2.2.1 103) = .ref a1 from congrArg va_rf h_a1]
  refine bd hf (fun g2 h_g2 hf => ?_)
  refine bd hf (fun t3 h_t3 hf => ?_)
  obtain ⟨fs_g2, he_g2⟩ := dC_some (gC_some h_g2)
  refine clV_i0 (As := []) (rest := []) FX hw (wX4_inSet h_t3) (cwV 0 FX.2.2.2.2 (lw_V q1025 q1026 q1027 q141 q1028) rfl rfl rfl (by decide +kernel) ⟨Nat.le_of_ble_eq_true rfl, Nat.le_of_ble_eq_true rfl⟩) (dyn_he hw he_g2) rfl rfl hl.1 rfl (lv_room (Nat.le_of_ble_eq_true rfl)) dX0_restOf_4 ⟨rfl, rfl⟩ ⟨Nat.zero_le _, Nat.zero_le _⟩ (fun H locs hw => ?_)
  refine lv_istore_n (lv' := [(2, .int t3), (0, .ref (G.2.2.2 131)), (1, .int p1)]) FX.1 FX.2.1 dX0_restOf_7 rfl hl (by decide) rfl (fun ls hl => ?_)
  refine lv_iload_n FX.1 FX.2.1 dX0_restOf_8 rfl (lv_at hl 0 rfl) ?_
  refine lv_istore_n (lv' := [(3, .int t3), (2, .int t3), (0, .ref (G.2.2.2 131)), (1, .int p1)]) FX.1 FX.2.1 dX0_restOf_9 rfl hl (by decide) rfl (fun ls hl => ?_)
  refine bd hf (fun u10 ht hf => ?_)
  obtain ⟨n, hn⟩ := lp_iff.mp ht
  have hX10 : ∀ (Ct10 : FS) (H : Heap) (locs : List Loc) (ls : Array Slot) , Ct10 = u10 → WS G (M, Ct10, K.1, K.2.1) s H locs → lv_has ls 6 [(0, .ref (G.2.2.2 131))] → W p l e rmX0_restOf s m a0 below meth c H locs 0 0 Q (F0 m 115 ls []) := by
    intro Ct10 H locs ls he hw hl
    subst he
    refine lv_aload_n FX.1 FX.2.1 dX0_restOf_115 rfl (lv_at hl 0 rfl) ?_
    refine gX0_66 FX hw dX0_restOf_116 ?_
    refine lv_iconst (v := 0) FX.1 FX.2.1 dX0_restOf_119 (by decide) ?_
    refine bd hf (fun v9 h_v9 hf => ?_)
    refine al120 FX hw h_v9 dX0_restOf_120 ?_
    exact hret _ _ rfl (congrArg (fun z => z.1) (Option.some.inj hf)) (congrArg (fun z => (M, z.2, K.1, K.2.1)) (Option.some.inj hf)) hw dX0_restOf_121
  have hL10 : ∀ (n : Nat) (z10_3 : Int32) (Cz10 : FS) (H : Heap) (locs : List Loc) (ls : Array Slot) , lpN (fun z => fX0_restOf_L10 K p1 t3 z.1 z.2) n (z10_3, Cz10) = some u10 → WS G (M, Cz10, K.1, K.2.1) s H locs → lv_has ls 6 [(0, .ref (G.2.2.2 131)), (1, .int p1), (2, .int t3), (3, .int z10_3)] → W p l e rmX0_restOf s m a0 below meth c H locs 0 0 Q (F0 m 10 ls []) := by
    intro n
    induction n with
    | zero => intro z10_3 Cz10 H locs ls hz; cases hz
    | succ n ih =>
      intro z10_3 Cz10 H locs ls hz hw hl
      refine bd (show (fX0_restOf_L10 K p1 t3 z10_3 Cz10).bind _ = some u10 from hz) (fun x10 hf hk10 => ?_)
      unfold fX0_restOf_L10 at hf
      refine lv_iload_n FX.1 FX.2.1 dX0_restOf_10 rfl (lv_at hl 3 rfl) ?_
      refine lv_if_lt (tgt := 115) FX.1 FX.2.1 dX0_restOf_11 (by decide) (fun c_11 => ?_) (fun c_11 => ?_)
      · have hf := it_pos c_11 hf
        exact hX10 _ _ _ _ (lpe hf hk10) hw (lv_sub hl [0] rfl)
      · have hf := it_neg c_11 hf
        refine lv_iload_n FX.1 FX.2.1 dX0_restOf_14 rfl (lv_at hl 3 rfl) ?_
        refine lv_iload_n FX.1 FX.2.1 dX0_restOf_15 rfl (lv_at hl 2 rfl) ?_
        refine lv_iconst (v := (-1)) FX.1 FX.2.1 dX0_restOf_16 (by decide) ?_
        refine lv_ixor FX.1 FX.2.1 dX0_restOf_17 ?_
        refine lv_iand FX.1 FX.2.1 dX0_restOf_18 ?_
        refine lv_if_eq (tgt := 25) FX.1 FX.2.1 dX0_restOf_19 (by decide) (fun c_19 => ?_) (fun c_19 => ?_)
        · have hf := it_pos c_19 hf
          refine lv_iload_n FX.1 FX.2.1 dX0_restOf_25 rfl (lv_at hl 3 rfl) ?_
          refine lv_iload_n FX.1 FX.2.1 dX0_restOf_26 rfl (lv_at hl 2 rfl) ?_
          have hK37 : ∀ (y0_37 : Int32) (H : Heap) (locs : List Loc) (ls : Array Slot) , fX0_restOf_J37 K p1 t3 z10_3 Cz10 y0_37 = some x10 → WS G (M, Cz10, K.1, K.2.1) s H locs → lv_has ls 6 [(0, .ref (G.2.2.2 131)), (1, .int p1), (2, .int t3), (3, .int z10_3)] → W p l e rmX0_restOf s m a0 below meth c H locs 0 0 Q (F0 m 37 ls [.int y0_37]) := by
            intro y0_37 H locs ls hf hw hl
            unfold fX0_restOf_J37 at hf
            refine lv_istore (lv' := [(4, .int y0_37), (0, .ref (G.2.2.2 131)), (1, .int p1), (2, .int t3), (3, .int z10_3)]) FX.1 FX.2.1 dX0_restOf_37 hl (by decide) rfl (fun ls hl => ?_)
            refine lv_iconst (v := 0) FX.1 FX.2.1 dX0_restOf_39 (by decide) ?_
            refine lv_istore (lv' := [(5, .int 0), (4, .int y0_37), (0, .ref (G.2.2.2 131)), (1, .int p1), (2, .int t3), (3, .int z10_3)]) FX.1 FX.2.1 dX0_restOf_40 hl (by decide) rfl (fun ls hl => ?_)
            refine bd hf (fun u42 ht hf => ?_)
            obtain ⟨n, hn⟩ := lp_iff.mp ht
            have hX42 : ∀ (t42_4 : Int32) (Ct42 : FS) (H : Heap) (locs : List Loc) (ls : Array Slot) , (t42_4, Ct42) = u42 → WS G (M, Ct42, K.1, K.2.1) s H locs → lv_has ls 6 [(0, .ref (G.2.2.2 131)), (1, .int p1), (2, .int t3), (3, .int z10_3), (4, .int t42_4)] → W p l e rmX0_restOf s m a0 below meth c H locs 0 0 Q (F0 m 101 ls []) := by
              intro t42_4 Ct42 H locs ls he hw hl
              subst he
              have hf : fX0_restOf_X42 z10_3 t42_4 Ct42 = some x10 := hf
              unfold fX0_restOf_X42 at hf
              refine lv_aload_n FX.1 FX.2.1 dX0_restOf_101 rfl (lv_at hl 0 rfl) ?_
              refine gX0_66 FX hw dX0_restOf_102 ?_
              refine lv_iload_n FX.1 FX.2.1 dX0_restOf_105 rfl (lv_at hl 3 rfl) ?_
              refine lv_iload FX.1 FX.2.1 dX0_restOf_106 (lv_at hl 4 rfl) ?_
              refine bd hf (fun C8 h_C8 hf => ?_)
              refine as120 FX hw h_C8 dX0_restOf_108 (fun H locs hw => ?_)
              refine lv_iinc (v := (z10_3 + (-1))) (lv' := [(3, .int (z10_3 + (-1))), (0, .ref (G.2.2.2 131)), (1, .int p1), (2, .int t3), (4, .int t42_4)]) FX.1 FX.2.1 dX0_restOf_109 hl (k := 3) rfl (congrArg (fun q : Int32 => z10_3 + q) (by decide : Int32.ofInt (-1) = (-1))) (by decide) rfl (fun ls hl => ?_)
              refine lv_goto (tgt := 10) FX.1 FX.2.1 dX0_restOf_112 (by decide) ?_
              exact ih _ _ _ _ _ (lpc hf hk10) hw (lv_sub hl [1, 2, 3, 0] rfl)
            have hL42 : ∀ (n : Nat) (z42_4 : Int32) (z42_5 : Int32) (Cz42 : FS) (H : Heap) (locs : List Loc) (ls : Array Slot) , lpN (fun z => fX0_restOf_L42 K p1 t3 z10_3 z.1 z.2.1 z.2.2) n (z42_4, z42_5, Cz42) = some u42 → WS G (M, Cz42, K.1, K.2.1) s H locs → lv_has ls 6 [(0, .ref (G.2.2.2 131)), (1, .int p1), (2, .int t3), (3, .int z10_3), (4, .int z42_4), (5, .int z42_5)] → W p l e rmX0_restOf s m a0 below meth c H locs 0 0 Q (F0 m 42 ls []) := by
              intro n
              induction n with
              | zero => intro z42_4 z42_5 Cz42 H locs ls hz; cases hz
              | succ n ih =>
                intro z42_4 z42_5 Cz42 H locs ls hz hw hl
                refine bd (show (fX0_restOf_L42 K p1 t3 z10_3 z42_4 z42_5 Cz42).bind _ = some u42 from hz) (fun x42 hf hk42 => ?_)
                unfold fX0_restOf_L42 at hf
                refine lv_iload FX.1 FX.2.1 dX0_restOf_42 (lv_at hl 5 rfl) ?_
                refine lv_aload_n FX.1 FX.2.1 dX0_restOf_44 rfl (lv_at hl 0 rfl) ?_
                refine gX0_38 FX hw dX0_restOf_45 ?_
                refine bd hf (fun a4 h_a4 hf => ?_)
                rw [show va_rf (Cz42.2.2.1 103) = .ref a4 from congrArg va_rf h_a4]
                refine bd hf (fun v5 h_v5 hf => ?_)
                refine gX0_152 FX hw h_v5 dX0_restOf_48 ?_
                refine lv_icmp_ge (tgt := 101) FX.1 FX.2.1 dX0_restOf_51 (by decide) (fun c_51 => ?_) (fun c_51 => ?_)
                · have hf := it_pos c_51 hf
                  exact hX42 _ _ _ _ _ (lpe hf hk42) hw (lv_sub hl [0, 1, 2, 3, 4] rfl)
                · have hf := it_neg c_51 hf
                  refine lv_iload_n FX.1 FX.2.1 dX0_restOf_54 rfl (lv_at hl 2 rfl) ?_
                  refine lv_iload_n FX.1 FX.2.1 dX0_restOf_55 rfl (lv_at hl 3 rfl) ?_
                  refine lv_iconst (v := (-1)) FX.1 FX.2.1 dX0_restOf_56 (by decide) ?_
                  refine lv_ixor FX.1 FX.2.1 dX0_restOf_57 ?_
                  refine lv_iand FX.1 FX.2.1 dX0_restOf_58 ?_
                  refine lv_iload FX.1 FX.2.1 dX0_restOf_59 (lv_at hl 5 rfl) ?_
                  refine lv_ishr FX.1 FX.2.1 dX0_restOf_61 ?_
                  refine lv_iconst (v := 1) FX.1 FX.2.1 dX0_restOf_62 (by decide) ?_
                  refine lv_iand FX.1 FX.2.1 dX0_restOf_63 ?_
                  refine lv_iconst (v := 1) FX.1 FX.2.1 dX0_restOf_64 (by decide) ?_
                  refine lv_icmp_ne (tgt := 95) FX.1 FX.2.1 dX0_restOf_65 (by decide) (fun c_65 => ?_) (fun c_65 => ?_)
                  · have hf := it_neg c_65 hf
                    refine lv_iinc (v := (z42_5 + 1)) (lv' := [(5, .int (z42_5 + 1)), (0, .ref (G.2.2.2 131)), (1, .int p1), (2, .int t3), (3, .int z10_3), (4, .int z42_4)]) FX.1 FX.2.1 dX0_restOf_95 hl (k := 5) rfl (congrArg (fun q : Int32 => z42_5 + q) (by decide : Int32.ofInt 1 = 1)) (by decide) rfl (fun ls hl => ?_)
                    refine lv_goto (tgt := 42) FX.1 FX.2.1 dX0_restOf_98 (by decide) ?_
                    exact ih _ _ _ _ _ _ (lpc hf hk42) hw (lv_sub hl [1, 2, 3, 4, 5, 0] rfl)
                  · have hf := it_pos c_65 hf
                    refine lv_iload FX.1 FX.2.1 dX0_restOf_68 (lv_at hl 4 rfl) ?_
                    refine lv_aload_n FX.1 FX.2.1 dX0_restOf_70 rfl (lv_at hl 0 rfl) ?_
                    refine lv_iload FX.1 FX.2.1 dX0_restOf_71 (lv_at hl 5 rfl) ?_
                    refine lv_iload_n FX.1 FX.2.1 dX0_restOf_73 rfl (lv_at hl 3 rfl) ?_
                    refine lv_iload_n FX.1 FX.2.1 dX0_restOf_74 rfl (lv_at hl 1 rfl) ?_
                    refine bd hf (fun t6 h_t6 hf => ?_)
                    refine clV_i0 (As := [.int z42_5, .int z10_3, .int p1]) (rest := [.int z42_4]) FX hw (wX0_least h_t6) (cwV 3 FX.2.2.2.2 (lw_V q1369 q1371 qs31 q134 q1372) rfl rfl rfl (by decide +kernel) ⟨Nat.le_of_ble_eq_true rfl, Nat.le_of_ble_eq_true rfl⟩) (fx_obj hw (o := (131, 0, 100, 31)) (by decide)) rfl rfl hl.1 rfl (lv_room (Nat.le_of_ble_eq_true rfl)) dX0_restOf_75 ⟨rfl, rfl⟩ ⟨Nat.zero_le _, Nat.zero_le _⟩ (fun H locs hw => ?_)
                    refine lv_aload_n FX.1 FX.2.1 dX0_restOf_78 rfl (lv_at hl 0 rfl) ?_
                    refine gX0_66 FX hw dX0_restOf_79 ?_
                    refine lv_iload_n FX.1 FX.2.1 dX0_restOf_82 rfl (lv_at hl 3 rfl) ?_
                    refine lv_iconst (v := 1) FX.1 FX.2.1 dX0_restOf_83 (by decide) ?_
                    refine lv_iload FX.1 FX.2.1 dX0_restOf_84 (lv_at hl 5 rfl) ?_
                    refine lv_ishl FX.1 FX.2.1 dX0_restOf_86 ?_
                    refine lv_ior FX.1 FX.2.1 dX0_restOf_87 ?_
                    refine bd hf (fun v7 h_v7 hf => ?_)
                    refine al120 FX hw h_v7 dX0_restOf_88 ?_
                    refine lv_iadd FX.1 FX.2.1 dX0_restOf_89 ?_
                    refine va_mmin FX.1 FX.2.1 (FX.2.2.1.trans hl.1.symm) FX.2.2.2.1 (FX.2.2.2.2 _ q1292) (FX.2.2.2.2 _ q682) (FX.2.2.2.2 _ q150) (FX.2.2.2.2 _ q683) (Nat.le_of_ble_eq_true rfl) (Nat.le_of_ble_eq_true rfl) (Nat.le_of_ble_eq_true rfl) (Nat.le_of_ble_eq_true rfl) dX0_restOf_90 ?_
                    refine lv_istore (lv' := [(4, .int (if (t6.1 + v7) < z42_4 then (t6.1 + v7) else z42_4)), (0, .ref (G.2.2.2 131)), (1, .int p1), (2, .int t3), (3, .int z10_3), (5, .int z42_5)]) FX.1 FX.2.1 dX0_restOf_93 hl (by decide) rfl (fun ls hl => ?_)
                    refine lv_iinc (v := (z42_5 + 1)) (lv' := [(5, .int (z42_5 + 1)), (4, .int (if (t6.1 + v7) < z42_4 then (t6.1 + v7) else z42_4)), (0, .ref (G.2.2.2 131)), (1, .int p1), (2, .int t3), (3, .int z10_3)]) FX.1 FX.2.1 dX0_restOf_95 hl (k := 5) rfl (congrArg (fun q : Int32 => z42_5 + q) (by decide : Int32.ofInt 1 = 1)) (by decide) rfl (fun ls hl => ?_)
                    refine lv_goto (tgt := 42) FX.1 FX.2.1 dX0_restOf_98 (by decide) ?_
                    exact ih _ _ _ _ _ _ (lpc hf hk42) hw (lv_sub hl [2, 3, 4, 5, 1, 0] rfl)
            exact hL42 n _ _ _ _ _ _ hn hw (lv_sub hl [2, 3, 4, 5, 1, 0] rfl)
          refine lv_icmp_ne (tgt := 34) FX.1 FX.2.1 dX0_restOf_27 (by decide) (fun c_27 => ?_) (fun c_27 => ?_)
          · have hf := it_neg c_27 hf
            refine lv_ldcw FX.1 FX.2.1 FX.2.2.2.1 (FX.2.2.2.2 _ q1368) dX0_restOf_34 ?_
            exact hK37 _ _ _ _ hf hw (lv_sub hl [0, 1, 2, 3] rfl)
          · have hf := it_pos c_27 hf
            refine lv_iconst (v := 0) FX.1 FX.2.1 dX0_restOf_30 (by decide) ?_
            refine lv_goto (tgt := 37) FX.1 FX.2.1 dX0_restOf_31 (by decide) ?_
            exact hK37 _ _ _ _ hf hw (lv_sub hl [0, 1, 2, 3] rfl)
        · have hf := it_neg c_19 hf
          refine lv_goto (tgt := 109) FX.1 FX.2.1 dX0_restOf_22 (by decide) ?_
          refine lv_iinc (v := (z10_3 + (-1))) (lv' := [(3, .int (z10_3 + (-1))), (0, .ref (G.2.2.2 131)), (1, .int p1), (2, .int t3)]) FX.1 FX.2.1 dX0_restOf_109 hl (k := 3) rfl (congrArg (fun q : Int32 => z10_3 + q) (by decide : Int32.ofInt (-1) = (-1))) (by decide) rfl (fun ls hl => ?_)
          refine lv_goto (tgt := 10) FX.1 FX.2.1 dX0_restOf_112 (by decide) ?_
          exact ih _ _ _ _ _ (lpc hf hk10) hw (lv_sub hl [1, 2, 3, 0] rfl)
  exact hL10 n _ _ _ _ _ hn hw (lv_sub hl [2, 3, 1, 0] rfl)
abbrev rmX0_ordersBy : Room := { frames := 8, cells := 0, slots := 0, locals := 453 }
set_option maxHeartbeats 4000000 in
theorem wX0_ordersBy {l : Launch} {G : GT} {M C : FS} {K : KT} {p1 : Int32} {t : FS} (hf : fX0_ordersBy C K p1 = some t) : CtV l yX0_ordersBy (ws_ yX0_ordersBy cX0_ordersBy 5 none) rmX0_ordersBy G [.ref (G.2.2.2 131), .int p1] (M, C, K.1, K.2.1) (M, t, K.1, K.2.1) := by
  refine mkV (by decide) (Nat.le_of_ble_eq_true rfl) (fun p e s m a0 below meth c Q FX hw hname hret ls hl => ?_)
  have hl : lv_has ls 5 [(0, .ref (G.2.2.2 131)), (1, .int p1)] := hl
  unfold fX0_ordersBy at hf
  refine lv_aload_n FX.1 FX.2.1 dX0_ordersBy_0 rfl (lv_at hl 0 rfl) ?_
  refine gX0_38 FX hw dX0_ordersBy_1 ?_
  refine bd hf (fun a1 h_a1 hf => ?_)
  rw [show va_rf (C.2.2.1 103) = .ref a1 from congrArg va_rf h_a1]
  refine bd hf (fun g2 h_g2 hf => ?_)
  refine bd hf (fun t3 h_t3 hf => ?_)
  obtain ⟨fs_g2, he_g2⟩ := dC_some (gC_some h_g2)
  refine clV_i0 (As := []) (rest := []) FX hw (wX4_inSet h_t3) (cwV 0 FX.2.2.2.2 (lw_V q1025 q1026 q1027 q141 q1028) rfl rfl rfl (by decide +kernel) ⟨Nat.le_of_ble_eq_true rfl, Nat.le_of_ble_eq_true rfl⟩) (dyn_he hw he_g2) rfl rfl hl.1 rfl (lv_room (Nat.le_of_ble_eq_true rfl)) dX0_ordersBy_4 ⟨rfl, rfl⟩ ⟨Nat.zero_le _, Nat.zero_le _⟩ (fun H locs hw => ?_)
  refine lv_istore_n (lv' := [(2, .int t3), (0, .ref (G.2.2.2 131)), (1, .int p1)]) FX.1 FX.2.1 dX0_ordersBy_7 rfl hl (by decide) rfl (fun ls hl => ?_)
  refine lv_iconst (v := 0) FX.1 FX.2.1 dX0_ordersBy_8 (by decide) ?_
  refine lv_istore_n (lv' := [(3, .int 0), (2, .int t3), (0, .ref (G.2.2.2 131)), (1, .int p1)]) FX.1 FX.2.1 dX0_ordersBy_9 rfl hl (by decide) rfl (fun ls hl => ?_)
  refine lv_aload_n FX.1 FX.2.1 dX0_ordersBy_10 rfl (lv_at hl 2 rfl) ?_
  refine lv_iconst (v := 0) FX.1 FX.2.1 dX0_ordersBy_11 (by decide) ?_
  refine bd hf (fun C4 h_C4 hf => ?_)
  refine sX0_407 FX hw dX0_ordersBy_12 (fun H locs hw => ?_)
  rw [Option.some.inj h_C4] at hw
  refine bd hf (fun u15 ht hf => ?_)
  obtain ⟨n, hn⟩ := lp_iff.mp ht
  have hX15 : ∀ (Ct15 : FS) (H : Heap) (locs : List Loc) (ls : Array Slot) , Ct15 = u15 → WS G (M, Ct15, K.1, K.2.1) s H locs → lv_has ls 5 [] → W p l e rmX0_ordersBy s m a0 below meth c H locs 0 0 Q (F0 m 102 ls []) := by
    intro Ct15 H locs ls he hw hl
    subst he
    exact hret _ (congrArg (fun z => (M, z, K.1, K.2.1)) (Option.some.inj hf)) hw dX0_ordersBy_102
  have hL15 : ∀ (n : Nat) (z15_3 : Int32) (Cz15 : FS) (H : Heap) (locs : List Loc) (ls : Array Slot) , lpN (fun z => fX0_ordersBy_L15 K p1 t3 z.1 z.2) n (z15_3, Cz15) = some u15 → WS G (M, Cz15, K.1, K.2.1) s H locs → lv_has ls 5 [(0, .ref (G.2.2.2 131)), (1, .int p1), (2, .int t3), (3, .int z15_3)] → W p l e rmX0_ordersBy s m a0 below meth c H locs 0 0 Q (F0 m 15 ls []) := by
    intro n
    induction n with
    | zero => intro z15_3 Cz15 H locs ls hz; cases hz
    | succ n ih =>
      intro z15_3 Cz15 H locs ls hz hw hl
      refine bd (show (fX0_ordersBy_L15 K p1 t3 z15_3 Cz15).bind _ = some u15 from hz) (fun x15 hf hk15 => ?_)
      unfold fX0_ordersBy_L15 at hf
      refine lv_iload_n FX.1 FX.2.1 dX0_ordersBy_15 rfl (lv_at hl 3 rfl) ?_
      refine lv_iload_n FX.1 FX.2.1 dX0_ordersBy_16 rfl (lv_at hl 2 rfl) ?_
      refine lv_icmp_eq (tgt := 102) FX.1 FX.2.1 dX0_ordersBy_17 (by decide) (fun c_17 => ?_) (fun c_17 => ?_)
      · have hf := it_pos c_17 hf
        exact hX15 _ _ _ _ (lpe hf hk15) hw (lv_sub hl [] rfl)
      · have hf := it_neg c_17 hf
        refine lv_iconst (v := 0) FX.1 FX.2.1 dX0_ordersBy_20 (by decide) ?_
        refine lv_istore (lv' := [(4, .int 0), (0, .ref (G.2.2.2 131)), (1, .int p1), (2, .int t3), (3, .int z15_3)]) FX.1 FX.2.1 dX0_ordersBy_21 hl (by decide) rfl (fun ls hl => ?_)
        refine bd hf (fun u23 ht hf => ?_)
        obtain ⟨n, hn⟩ := lp_iff.mp ht
        have hX23 : ∀ (t23_4 : Int32) (Ct23 : FS) (H : Heap) (locs : List Loc) (ls : Array Slot) , (t23_4, Ct23) = u23 → WS G (M, Ct23, K.1, K.2.1) s H locs → lv_has ls 5 [(0, .ref (G.2.2.2 131)), (1, .int p1), (2, .int t3), (3, .int z15_3), (4, .int t23_4)] → W p l e rmX0_ordersBy s m a0 below meth c H locs 0 0 Q (F0 m 71 ls []) := by
          intro t23_4 Ct23 H locs ls he hw hl
          subst he
          have hf : fX0_ordersBy_X23 z15_3 t23_4 Ct23 = some x15 := hf
          unfold fX0_ordersBy_X23 at hf
          refine lv_aload_n FX.1 FX.2.1 dX0_ordersBy_71 rfl (lv_at hl 0 rfl) ?_
          refine gX0_69 FX hw dX0_ordersBy_72 ?_
          refine lv_aload_n FX.1 FX.2.1 dX0_ordersBy_75 rfl (lv_at hl 0 rfl) ?_
          refine gX0_407 FX hw dX0_ordersBy_76 ?_
          refine lv_iload FX.1 FX.2.1 dX0_ordersBy_79 (lv_at hl 4 rfl) ?_
          refine bd hf (fun C8 h_C8 hf => ?_)
          refine as121 FX hw h_C8 dX0_ordersBy_81 (fun H locs hw => ?_)
          refine lv_aload_n FX.1 FX.2.1 dX0_ordersBy_82 rfl (lv_at hl 0 rfl) ?_
          refine lv_dup FX.1 FX.2.1 dX0_ordersBy_83 rfl ?_
          refine gX0_407 FX hw dX0_ordersBy_84 ?_
          refine lv_iconst (v := 1) FX.1 FX.2.1 dX0_ordersBy_87 (by decide) ?_
          refine lv_iadd FX.1 FX.2.1 dX0_ordersBy_88 ?_
          refine bd hf (fun C9 h_C9 hf => ?_)
          refine sX0_407 FX hw dX0_ordersBy_89 (fun H locs hw => ?_)
          rw [Option.some.inj h_C9] at hw
          refine lv_iload_n FX.1 FX.2.1 dX0_ordersBy_92 rfl (lv_at hl 3 rfl) ?_
          refine lv_iconst (v := 1) FX.1 FX.2.1 dX0_ordersBy_93 (by decide) ?_
          refine lv_iload FX.1 FX.2.1 dX0_ordersBy_94 (lv_at hl 4 rfl) ?_
          refine lv_ishl FX.1 FX.2.1 dX0_ordersBy_96 ?_
          refine lv_ior FX.1 FX.2.1 dX0_ordersBy_97 ?_
          refine lv_istore_n (lv' := [(3, .int (z15_3 ||| (1 <<< (t23_4 &&& 31)))), (0, .ref (G.2.2.2 131)), (1, .int p1), (2, .int t3), (4, .int t23_4)]) FX.1 FX.2.1 dX0_ordersBy_98 rfl hl (by decide) rfl (fun ls hl => ?_)
          refine lv_goto (tgt := 15) FX.1 FX.2.1 dX0_ordersBy_99 (by decide) ?_
          exact ih _ _ _ _ _ (lpc hf hk15) hw (lv_sub hl [1, 2, 3, 0] rfl)
        have hL23 : ∀ (n : Nat) (z23_4 : Int32) (Cz23 : FS) (H : Heap) (locs : List Loc) (ls : Array Slot) , lpN (fun z => fX0_ordersBy_L23 K p1 t3 z15_3 z.1 z.2) n (z23_4, Cz23) = some u23 → WS G (M, Cz23, K.1, K.2.1) s H locs → lv_has ls 5 [(0, .ref (G.2.2.2 131)), (1, .int p1), (2, .int t3), (3, .int z15_3), (4, .int z23_4)] → W p l e rmX0_ordersBy s m a0 below meth c H locs 0 0 Q (F0 m 23 ls []) := by
          intro n
          induction n with
          | zero => intro z23_4 Cz23 H locs ls hz; cases hz
          | succ n ih =>
            intro z23_4 Cz23 H locs ls hz hw hl
            refine bd (show (fX0_ordersBy_L23 K p1 t3 z15_3 z23_4 Cz23).bind _ = some u23 from hz) (fun x23 hf hk23 => ?_)
            unfold fX0_ordersBy_L23 at hf
            refine lv_iload_n FX.1 FX.2.1 dX0_ordersBy_23 rfl (lv_at hl 2 rfl) ?_
            refine lv_iload_n FX.1 FX.2.1 dX0_ordersBy_24 rfl (lv_at hl 3 rfl) ?_
            refine lv_iconst (v := (-1)) FX.1 FX.2.1 dX0_ordersBy_25 (by decide) ?_
            refine lv_ixor FX.1 FX.2.1 dX0_ordersBy_26 ?_
            refine lv_iand FX.1 FX.2.1 dX0_ordersBy_27 ?_
            refine lv_iload FX.1 FX.2.1 dX0_ordersBy_28 (lv_at hl 4 rfl) ?_
            refine lv_ishr FX.1 FX.2.1 dX0_ordersBy_30 ?_
            refine lv_iconst (v := 1) FX.1 FX.2.1 dX0_ordersBy_31 (by decide) ?_
            refine lv_iand FX.1 FX.2.1 dX0_ordersBy_32 ?_
            refine lv_if_eq (tgt := 65) FX.1 FX.2.1 dX0_ordersBy_33 (by decide) (fun c_33 => ?_) (fun c_33 => ?_)
            · have hf := it_pos c_33 hf
              refine lv_iinc (v := (z23_4 + 1)) (lv' := [(4, .int (z23_4 + 1)), (0, .ref (G.2.2.2 131)), (1, .int p1), (2, .int t3), (3, .int z15_3)]) FX.1 FX.2.1 dX0_ordersBy_65 hl (k := 4) rfl (congrArg (fun q : Int32 => z23_4 + q) (by decide : Int32.ofInt 1 = 1)) (by decide) rfl (fun ls hl => ?_)
              refine lv_goto (tgt := 23) FX.1 FX.2.1 dX0_ordersBy_68 (by decide) ?_
              exact ih _ _ _ _ _ (lpc hf hk23) hw (lv_sub hl [1, 2, 3, 4, 0] rfl)
            · have hf := it_neg c_33 hf
              refine lv_aload_n FX.1 FX.2.1 dX0_ordersBy_36 rfl (lv_at hl 0 rfl) ?_
              refine lv_iload FX.1 FX.2.1 dX0_ordersBy_37 (lv_at hl 4 rfl) ?_
              refine lv_iload_n FX.1 FX.2.1 dX0_ordersBy_39 rfl (lv_at hl 3 rfl) ?_
              refine lv_iload_n FX.1 FX.2.1 dX0_ordersBy_40 rfl (lv_at hl 1 rfl) ?_
              refine bd hf (fun t5 h_t5 hf => ?_)
              refine clV_i0 (As := [.int z23_4, .int z15_3, .int p1]) (rest := []) FX hw (wX0_least h_t5) (cwV 3 FX.2.2.2.2 (lw_V q1369 q1371 qs31 q134 q1372) rfl rfl rfl (by decide +kernel) ⟨Nat.le_of_ble_eq_true rfl, Nat.le_of_ble_eq_true rfl⟩) (fx_obj hw (o := (131, 0, 100, 31)) (by decide)) rfl rfl hl.1 rfl (lv_room (Nat.le_of_ble_eq_true rfl)) dX0_ordersBy_41 ⟨rfl, rfl⟩ ⟨Nat.zero_le _, Nat.zero_le _⟩ (fun H locs hw => ?_)
              refine lv_aload_n FX.1 FX.2.1 dX0_ordersBy_44 rfl (lv_at hl 0 rfl) ?_
              refine gX0_66 FX hw dX0_ordersBy_45 ?_
              refine lv_iload_n FX.1 FX.2.1 dX0_ordersBy_48 rfl (lv_at hl 3 rfl) ?_
              refine lv_iconst (v := 1) FX.1 FX.2.1 dX0_ordersBy_49 (by decide) ?_
              refine lv_iload FX.1 FX.2.1 dX0_ordersBy_50 (lv_at hl 4 rfl) ?_
              refine lv_ishl FX.1 FX.2.1 dX0_ordersBy_52 ?_
              refine lv_ior FX.1 FX.2.1 dX0_ordersBy_53 ?_
              refine bd hf (fun v6 h_v6 hf => ?_)
              refine al120 FX hw h_v6 dX0_ordersBy_54 ?_
              refine lv_iadd FX.1 FX.2.1 dX0_ordersBy_55 ?_
              refine lv_aload_n FX.1 FX.2.1 dX0_ordersBy_56 rfl (lv_at hl 0 rfl) ?_
              refine gX0_66 FX hw dX0_ordersBy_57 ?_
              refine lv_iload_n FX.1 FX.2.1 dX0_ordersBy_60 rfl (lv_at hl 3 rfl) ?_
              refine bd hf (fun v7 h_v7 hf => ?_)
              refine al120 FX hw h_v7 dX0_ordersBy_61 ?_
              refine lv_icmp_eq (tgt := 71) FX.1 FX.2.1 dX0_ordersBy_62 (by decide) (fun c_62 => ?_) (fun c_62 => ?_)
              · have hf := it_pos c_62 hf
                exact hX23 _ _ _ _ _ (lpe hf hk23) hw (lv_sub hl [0, 1, 2, 3, 4] rfl)
              · have hf := it_neg c_62 hf
                refine lv_iinc (v := (z23_4 + 1)) (lv' := [(4, .int (z23_4 + 1)), (0, .ref (G.2.2.2 131)), (1, .int p1), (2, .int t3), (3, .int z15_3)]) FX.1 FX.2.1 dX0_ordersBy_65 hl (k := 4) rfl (congrArg (fun q : Int32 => z23_4 + q) (by decide : Int32.ofInt 1 = 1)) (by decide) rfl (fun ls hl => ?_)
                refine lv_goto (tgt := 23) FX.1 FX.2.1 dX0_ordersBy_68 (by decide) ?_
                exact ih _ _ _ _ _ (lpc hf hk23) hw (lv_sub hl [1, 2, 3, 4, 0] rfl)
        exact hL23 n _ _ _ _ _ hn hw (lv_sub hl [1, 2, 3, 4, 0] rfl)
  exact hL15 n _ _ _ _ _ hn hw (lv_sub hl [2, 3, 1, 0] rfl)
abbrev rmX0_all : Room := { frames := 9, cells := 0, slots := 0, locals := 478 }
set_option maxHeartbeats 4000000 in
theorem wX0_all {l : Launch} {G : GT} {M C : FS} {K : KT} {t : (Int32 × FS)} (hf : fX0_all C K = some t) : CtI l yX0_all (ws_ yX0_all cX0_all 5 (some .int)) rmX0_all G [.ref (G.2.2.2 131)] (M, C, K.1, K.2.1) t.1 (M, t.2, K.1, K.2.1) := by
  refine mkI (ty := .int) (by decide) (Nat.le_of_ble_eq_true rfl) (fun p e s m a0 below meth c Q FX hw hname hret ls hl => ?_)
  have hl : lv_has ls 5 [(0, .ref (G.2.2.2 131))] := hl
  unfold fX0_all at hf
  refine lv_ldcw FX.1 FX.2.1 FX.2.2.2.1 (FX.2.2.2.2 _ q1368) dX0_all_0 ?_
  refine lv_istore_n (lv' := [(1, .int 1000000), (0, .ref (G.2.2.2 131))]) FX.1 FX.2.1 dX0_all_3 rfl hl (by decide) rfl (fun ls hl => ?_)
  refine lv_iconst (v := 0) FX.1 FX.2.1 dX0_all_4 (by decide) ?_
  refine lv_istore_n (lv' := [(2, .int 0), (1, .int 1000000), (0, .ref (G.2.2.2 131))]) FX.1 FX.2.1 dX0_all_5 rfl hl (by decide) rfl (fun ls hl => ?_)
  refine lv_iconst (v := 0) FX.1 FX.2.1 dX0_all_6 (by decide) ?_
  refine lv_istore_n (lv' := [(3, .int 0), (2, .int 0), (1, .int 1000000), (0, .ref (G.2.2.2 131))]) FX.1 FX.2.1 dX0_all_7 rfl hl (by decide) rfl (fun ls hl => ?_)
  refine bd hf (fun u8 ht hf => ?_)
  obtain ⟨n, hn⟩ := lp_iff.mp ht
  have hX8 : ∀ (t8_1 : Int32) (Ct8 : FS) (H : Heap) (locs : List Loc) (ls : Array Slot) , (t8_1, Ct8) = u8 → WS G (M, Ct8, K.1, K.2.1) s H locs → lv_has ls 5 [(0, .ref (G.2.2.2 131)), (1, .int t8_1)] → W p l e rmX0_all s m a0 below meth c H locs 0 0 Q (F0 m 58 ls []) := by
    intro t8_1 Ct8 H locs ls he hw hl
    subst he
    have hf : fX0_all_X8 t8_1 Ct8 = some t := hf
    unfold fX0_all_X8 at hf
    refine lv_aload_n FX.1 FX.2.1 dX0_all_58 rfl (lv_at hl 0 rfl) ?_
    refine lv_iload_n FX.1 FX.2.1 dX0_all_59 rfl (lv_at hl 1 rfl) ?_
    refine bd hf (fun t5 h_t5 hf => ?_)
    refine clV_i0 (As := [.int t8_1]) (rest := []) FX hw (wX0_gives h_t5) (cwV 1 FX.2.2.2.2 (lw_V q962 q964 qs16 q134 q965) rfl rfl rfl (by decide +kernel) ⟨Nat.le_of_ble_eq_true rfl, Nat.le_of_ble_eq_true rfl⟩) (fx_obj hw (o := (131, 0, 100, 31)) (by decide)) rfl rfl hl.1 rfl (lv_room (Nat.le_of_ble_eq_true rfl)) dX0_all_60 ⟨rfl, rfl⟩ ⟨Nat.zero_le _, Nat.zero_le _⟩ (fun H locs hw => ?_)
    exact hret _ _ rfl (congrArg (fun z => z.1) (Option.some.inj hf)) (congrArg (fun z => (M, z.2, K.1, K.2.1)) (Option.some.inj hf)) hw dX0_all_63
  have hL8 : ∀ (n : Nat) (z8_1 : Int32) (z8_2 : Int32) (z8_3 : Int32) (Cz8 : FS) (H : Heap) (locs : List Loc) (ls : Array Slot) , lpN (fun z => fX0_all_L8 K z.1 z.2.1 z.2.2.1 z.2.2.2) n (z8_1, z8_2, z8_3, Cz8) = some u8 → WS G (M, Cz8, K.1, K.2.1) s H locs → lv_has ls 5 [(0, .ref (G.2.2.2 131)), (1, .int z8_1), (2, .int z8_2), (3, .int z8_3)] → W p l e rmX0_all s m a0 below meth c H locs 0 0 Q (F0 m 8 ls []) := by
    intro n
    induction n with
    | zero => intro z8_1 z8_2 z8_3 Cz8 H locs ls hz; cases hz
    | succ n ih =>
      intro z8_1 z8_2 z8_3 Cz8 H locs ls hz hw hl
      refine bd (show (fX0_all_L8 K z8_1 z8_2 z8_3 Cz8).bind _ = some u8 from hz) (fun x8 hf hk8 => ?_)
      unfold fX0_all_L8 at hf
      refine lv_iload_n FX.1 FX.2.1 dX0_all_8 rfl (lv_at hl 3 rfl) ?_
      refine lv_iconst (v := 4) FX.1 FX.2.1 dX0_all_9 (by decide) ?_
      refine lv_icmp_ge (tgt := 58) FX.1 FX.2.1 dX0_all_10 (by decide) (fun c_10 => ?_) (fun c_10 => ?_)
      · have hf := it_pos c_10 hf
        exact hX8 _ _ _ _ _ (lpe hf hk8) hw (lv_sub hl [0, 1] rfl)
      · have hf := it_neg c_10 hf
        refine lv_iload_n FX.1 FX.2.1 dX0_all_13 rfl (lv_at hl 2 rfl) ?_
        refine lv_aload_n FX.1 FX.2.1 dX0_all_14 rfl (lv_at hl 0 rfl) ?_
        refine lv_iload_n FX.1 FX.2.1 dX0_all_15 rfl (lv_at hl 3 rfl) ?_
        refine bd hf (fun t1 h_t1 hf => ?_)
        refine clV_i0 (As := [.int z8_3]) (rest := [.int z8_2]) FX hw (wX0_restOf h_t1) (cwV 1 FX.2.2.2.2 (lw_V q1406 q1408 qs36 q134 q1409) rfl rfl rfl (by decide +kernel) ⟨Nat.le_of_ble_eq_true rfl, Nat.le_of_ble_eq_true rfl⟩) (fx_obj hw (o := (131, 0, 100, 31)) (by decide)) rfl rfl hl.1 rfl (lv_room (Nat.le_of_ble_eq_true rfl)) dX0_all_16 ⟨rfl, rfl⟩ ⟨Nat.zero_le _, Nat.zero_le _⟩ (fun H locs hw => ?_)
        refine lv_iadd FX.1 FX.2.1 dX0_all_19 ?_
        refine lv_istore (lv' := [(4, .int (z8_2 + t1.1)), (0, .ref (G.2.2.2 131)), (1, .int z8_1), (2, .int z8_2), (3, .int z8_3)]) FX.1 FX.2.1 dX0_all_20 hl (by decide) rfl (fun ls hl => ?_)
        refine lv_iload_n FX.1 FX.2.1 dX0_all_22 rfl (lv_at hl 3 rfl) ?_
        refine lv_aload_n FX.1 FX.2.1 dX0_all_23 rfl (lv_at hl 1 rfl) ?_
        refine lv_iload_n FX.1 FX.2.1 dX0_all_24 rfl (lv_at hl 4 rfl) ?_
        refine bd hf (fun t2 h_t2 hf => ?_)
        refine clV_i0 (As := [.int z8_3]) (rest := [.int z8_2]) FX hw (wX0_leftBy h_t2) (cwV 1 FX.2.2.2.2 (lw_V q1390 q1392 qs35 q134 q1393) rfl rfl rfl (by decide +kernel) ⟨Nat.le_of_ble_eq_true rfl, Nat.le_of_ble_eq_true rfl⟩) (fx_obj hw (o := (131, 0, 100, 31)) (by decide)) rfl rfl hl.1 rfl (lv_room (Nat.le_of_ble_eq_true rfl)) dX0_all_25 ⟨rfl, rfl⟩ ⟨Nat.zero_le _, Nat.zero_le _⟩ (fun H locs hw => ?_)
        refine lv_iadd FX.1 FX.2.1 dX0_all_28 ?_
        refine lv_istore_n (lv' := [(2, .int (z8_2 + t2)), (4, .int (z8_2 + t1.1)), (0, .ref (G.2.2.2 131)), (1, .int z8_1), (3, .int z8_3)]) FX.1 FX.2.1 dX0_all_29 rfl hl (by decide) rfl (fun ls hl => ?_)
        refine lv_iload FX.1 FX.2.1 dX0_all_30 (lv_at hl 1 rfl) ?_
        refine lv_iload_n FX.1 FX.2.1 dX0_all_32 rfl (lv_at hl 3 rfl) ?_
        refine lv_icmp_lt (tgt := 39) FX.1 FX.2.1 dX0_all_33 (by decide) (fun c_33 => ?_) (fun c_33 => ?_)
        · have hf := it_pos c_33 hf
          refine lv_iload FX.1 FX.2.1 dX0_all_39 (lv_at hl 1 rfl) ?_
          refine lv_istore_n (lv' := [(1, .int (z8_2 + t1.1)), (2, .int (z8_2 + t2)), (4, .int (z8_2 + t1.1)), (0, .ref (G.2.2.2 131)), (3, .int z8_3)]) FX.1 FX.2.1 dX0_all_41 rfl hl (by decide) rfl (fun ls hl => ?_)
          refine lv_aload_n FX.1 FX.2.1 dX0_all_42 rfl (lv_at hl 3 rfl) ?_
          refine lv_iload_n FX.1 FX.2.1 dX0_all_43 rfl (lv_at hl 4 rfl) ?_
          refine bd hf (fun C3 h_C3 hf => ?_)
          refine sX0_72 FX hw dX0_all_44 (fun H locs hw => ?_)
          rw [Option.some.inj h_C3] at hw
          refine lv_aload_n FX.1 FX.2.1 dX0_all_47 rfl (lv_at hl 3 rfl) ?_
          refine lv_iload_n FX.1 FX.2.1 dX0_all_48 rfl (lv_at hl 4 rfl) ?_
          refine bd hf (fun t4 h_t4 hf => ?_)
          refine clV_v0 (As := [.int z8_3]) (rest := []) FX hw (wX0_ordersBy h_t4) (cwV 1 FX.2.2.2.2 (lw_V q1410 q1412 qs37 q134 q1413) rfl rfl rfl (by decide +kernel) ⟨Nat.le_of_ble_eq_true rfl, Nat.le_of_ble_eq_true rfl⟩) (fx_obj hw (o := (131, 0, 100, 31)) (by decide)) rfl rfl hl.1 rfl (lv_room (Nat.le_of_ble_eq_true rfl)) dX0_all_49 ⟨rfl, rfl⟩ ⟨Nat.zero_le _, Nat.zero_le _⟩ (fun H locs hw => ?_)
          refine lv_iinc (v := (z8_3 + 1)) (lv' := [(3, .int (z8_3 + 1)), (1, .int (z8_2 + t1.1)), (2, .int (z8_2 + t2)), (4, .int (z8_2 + t1.1)), (0, .ref (G.2.2.2 131))]) FX.1 FX.2.1 dX0_all_52 hl (k := 4) rfl (congrArg (fun q : Int32 => z8_3 + q) (by decide : Int32.ofInt 1 = 1)) (by decide) rfl (fun ls hl => ?_)
          refine lv_goto (tgt := 8) FX.1 FX.2.1 dX0_all_55 (by decide) ?_
          exact ih _ _ _ _ _ _ _ (lpc hf hk8) hw (lv_sub hl [4, 1, 2, 0] rfl)
        · have hf := it_neg c_33 hf
          refine lv_goto (tgt := 52) FX.1 FX.2.1 dX0_all_36 (by decide) ?_
          refine lv_iinc (v := (z8_3 + 1)) (lv' := [(3, .int (z8_3 + 1)), (2, .int (z8_2 + t2)), (4, .int (z8_2 + t1.1)), (0, .ref (G.2.2.2 131)), (1, .int z8_1)]) FX.1 FX.2.1 dX0_all_52 hl (k := 4) rfl (congrArg (fun q : Int32 => z8_3 + q) (by decide : Int32.ofInt 1 = 1)) (by decide) rfl (fun ls hl => ?_)
          refine lv_goto (tgt := 8) FX.1 FX.2.1 dX0_all_55 (by decide) ?_
          exact ih _ _ _ _ _ _ _ (lpc hf hk8) hw (lv_sub hl [3, 4, 1, 0] rfl)
  exact hL8 n _ _ _ _ _ _ _ hn hw (lv_sub hl [3, 2, 1, 0] rfl)
abbrev rmX0_order : Room := { frames := 1, cells := 0, slots := 0, locals := 21 }
set_option maxHeartbeats 4000000 in
theorem wX0_order {l : Launch} {G : GT} {M C : FS} {K : KT} {p1 : Int32} {t : (Int32 × FS)} (hf : fX0_order C p1 = some t) : CtI l yX0_order (ws_ yX0_order cX0_order 2 (some .int)) rmX0_order G [.ref (G.2.2.2 131), .int p1] (M, C, K.1, K.2.1) t.1 (M, t.2, K.1, K.2.1) := by
  refine mkI (ty := .int) (by decide) (Nat.le_of_ble_eq_true rfl) (fun p e s m a0 below meth c Q FX hw hname hret ls hl => ?_)
  have hl : lv_has ls 2 [(0, .ref (G.2.2.2 131)), (1, .int p1)] := hl
  unfold fX0_order at hf
  refine lv_iload_n FX.1 FX.2.1 dX0_order_0 rfl (lv_at hl 1 rfl) ?_
  refine lv_if_lt (tgt := 12) FX.1 FX.2.1 dX0_order_1 (by decide) (fun c_1 => ?_) (fun c_1 => ?_)
  · have hf := it_pos c_1 hf
    refine lv_aload_n FX.1 FX.2.1 dX0_order_12 rfl (lv_at hl 0 rfl) ?_
    refine lv_bipush (v := 8) FX.1 FX.2.1 dX0_order_13 (by decide) ?_
    refine bd hf (fun t1 h_t1 hf => ?_)
    refine clV_i0 (As := [.int 8]) (rest := []) FX hw (wX0_none h_t1) (cwV 1 FX.2.2.2.2 (lw_V q620 q622 qs3 q134 q623) rfl rfl rfl (by decide +kernel) ⟨Nat.le_of_ble_eq_true rfl, Nat.le_of_ble_eq_true rfl⟩) (fx_obj hw (o := (131, 0, 100, 31)) (by decide)) rfl rfl hl.1 rfl (lv_room (Nat.le_of_ble_eq_true rfl)) dX0_order_15 ⟨rfl, rfl⟩ ⟨Nat.zero_le _, Nat.zero_le _⟩ (fun H locs hw => ?_)
    refine lv_goto (tgt := 31) FX.1 FX.2.1 dX0_order_18 (by decide) ?_
    exact hret _ _ rfl (congrArg (fun z => z.1) (Option.some.inj hf)) (congrArg (fun z => (M, z.2, K.1, K.2.1)) (Option.some.inj hf)) hw dX0_order_31
  · have hf := it_neg c_1 hf
    refine lv_iload_n FX.1 FX.2.1 dX0_order_4 rfl (lv_at hl 1 rfl) ?_
    refine lv_aload_n FX.1 FX.2.1 dX0_order_5 rfl (lv_at hl 0 rfl) ?_
    refine gX0_407 FX hw dX0_order_6 ?_
    refine lv_icmp_lt (tgt := 21) FX.1 FX.2.1 dX0_order_9 (by decide) (fun c_9 => ?_) (fun c_9 => ?_)
    · have hf := it_pos c_9 hf
      refine lv_aload_n FX.1 FX.2.1 dX0_order_21 rfl (lv_at hl 0 rfl) ?_
      refine lv_aload_n FX.1 FX.2.1 dX0_order_22 rfl (lv_at hl 0 rfl) ?_
      refine gX0_69 FX hw dX0_order_23 ?_
      refine lv_iload_n FX.1 FX.2.1 dX0_order_26 rfl (lv_at hl 1 rfl) ?_
      refine bd hf (fun v2 h_v2 hf => ?_)
      refine al121 FX hw h_v2 dX0_order_27 ?_
      refine bd hf (fun t3 h_t3 hf => ?_)
      refine clV_i0 (As := [.int v2]) (rest := []) FX hw (wX0_gives h_t3) (cwV 1 FX.2.2.2.2 (lw_V q962 q964 qs16 q134 q965) rfl rfl rfl (by decide +kernel) ⟨Nat.le_of_ble_eq_true rfl, Nat.le_of_ble_eq_true rfl⟩) (fx_obj hw (o := (131, 0, 100, 31)) (by decide)) rfl rfl hl.1 rfl (lv_room (Nat.le_of_ble_eq_true rfl)) dX0_order_28 ⟨rfl, rfl⟩ ⟨Nat.zero_le _, Nat.zero_le _⟩ (fun H locs hw => ?_)
      exact hret _ _ rfl (congrArg (fun z => z.1) (Option.some.inj hf)) (congrArg (fun z => (M, z.2, K.1, K.2.1)) (Option.some.inj hf)) hw dX0_order_31
    · have hf := it_neg c_9 hf
      refine lv_aload_n FX.1 FX.2.1 dX0_order_12 rfl (lv_at hl 0 rfl) ?_
      refine lv_bipush (v := 8) FX.1 FX.2.1 dX0_order_13 (by decide) ?_
      refine bd hf (fun t4 h_t4 hf => ?_)
      refine clV_i0 (As := [.int 8]) (rest := []) FX hw (wX0_none h_t4) (cwV 1 FX.2.2.2.2 (lw_V q620 q622 qs3 q134 q623) rfl rfl rfl (by decide +kernel) ⟨Nat.le_of_ble_eq_true rfl, Nat.le_of_ble_eq_true rfl⟩) (fx_obj hw (o := (131, 0, 100, 31)) (by decide)) rfl rfl hl.1 rfl (lv_room (Nat.le_of_ble_eq_true rfl)) dX0_order_15 ⟨rfl, rfl⟩ ⟨Nat.zero_le _, Nat.zero_le _⟩ (fun H locs hw => ?_)
      refine lv_goto (tgt := 31) FX.1 FX.2.1 dX0_order_18 (by decide) ?_
      exact hret _ _ rfl (congrArg (fun z => z.1) (Option.some.inj hf)) (congrArg (fun z => (M, z.2, K.1, K.2.1)) (Option.some.inj hf)) hw dX0_order_31
abbrev rmX0_loosens : Room := { frames := 2, cells := 0, slots := 0, locals := 42 }
set_option maxHeartbeats 4000000 in
theorem wX0_loosens {l : Launch} {G : GT} {M C : FS} {K : KT} {t : (Int32 × FS)} (hf : fX0_loosens C = some t) : CtI l yX0_loosens (ws_ yX0_loosens cX0_loosens 1 (some .int)) rmX0_loosens G [.ref (G.2.2.2 131)] (M, C, K.1, K.2.1) t.1 (M, t.2, K.1, K.2.1) := by
  refine mkI (ty := .int) (by decide) (Nat.le_of_ble_eq_true rfl) (fun p e s m a0 below meth c Q FX hw hname hret ls hl => ?_)
  have hl : lv_has ls 1 [(0, .ref (G.2.2.2 131))] := hl
  unfold fX0_loosens at hf
  refine lv_aload_n FX.1 FX.2.1 dX0_loosens_0 rfl (lv_at hl 0 rfl) ?_
  refine lv_aload_n FX.1 FX.2.1 dX0_loosens_1 rfl (lv_at hl 0 rfl) ?_
  refine gX0_72 FX hw dX0_loosens_2 ?_
  refine bd hf (fun t1 h_t1 hf => ?_)
  refine clV_i0 (As := [.int (C.1 123)]) (rest := []) FX hw (wX0_orNothing h_t1) (cwV 1 FX.2.2.2.2 (lw_V q1090 q1092 qs21 q134 q1093) rfl rfl rfl (by decide +kernel) ⟨Nat.le_of_ble_eq_true rfl, Nat.le_of_ble_eq_true rfl⟩) (fx_obj hw (o := (131, 0, 100, 31)) (by decide)) rfl rfl hl.1 rfl (lv_room (Nat.le_of_ble_eq_true rfl)) dX0_loosens_5 ⟨rfl, rfl⟩ ⟨Nat.zero_le _, Nat.zero_le _⟩ (fun H locs hw => ?_)
  exact hret _ _ rfl (congrArg (fun z => z.1) (Option.some.inj hf)) (congrArg (fun z => (M, z.2, K.1, K.2.1)) (Option.some.inj hf)) hw dX0_loosens_8
abbrev rmX0_soonest : Room := { frames := 9, cells := 0, slots := 0, locals := 478 }
set_option maxHeartbeats 4000000 in
theorem wX0_soonest {l : Launch} {G : GT} {M C : FS} {K : KT} {t : (Int32 × FS)} (hf : fX0_soonest C K = some t) : CtI l yX0_soonest (ws_ yX0_soonest cX0_soonest 5 (some .int)) rmX0_soonest G [.ref (G.2.2.2 131)] (M, C, K.1, K.2.1) t.1 (M, t.2, K.1, K.2.1) := by
  refine mkI (ty := .int) (by decide) (Nat.le_of_ble_eq_true rfl) (fun p e s m a0 below meth c Q FX hw hname hret ls hl => ?_)
  have hl : lv_has ls 5 [(0, .ref (G.2.2.2 131))] := hl
  unfold fX0_soonest at hf
  refine lv_iconst (v := (-1)) FX.1 FX.2.1 dX0_soonest_0 (by decide) ?_
  refine lv_istore_n (lv' := [(1, .int (-1)), (0, .ref (G.2.2.2 131))]) FX.1 FX.2.1 dX0_soonest_1 rfl hl (by decide) rfl (fun ls hl => ?_)
  refine lv_iconst (v := 0) FX.1 FX.2.1 dX0_soonest_2 (by decide) ?_
  refine lv_istore_n (lv' := [(2, .int 0), (1, .int (-1)), (0, .ref (G.2.2.2 131))]) FX.1 FX.2.1 dX0_soonest_3 rfl hl (by decide) rfl (fun ls hl => ?_)
  refine lv_iconst (v := 0) FX.1 FX.2.1 dX0_soonest_4 (by decide) ?_
  refine lv_istore_n (lv' := [(3, .int 0), (2, .int 0), (1, .int (-1)), (0, .ref (G.2.2.2 131))]) FX.1 FX.2.1 dX0_soonest_5 rfl hl (by decide) rfl (fun ls hl => ?_)
  refine bd hf (fun u6 ht hf => ?_)
  obtain ⟨n, hn⟩ := lp_iff.mp ht
  have hX6 : ∀ (t6_1 : Int32) (Ct6 : FS) (H : Heap) (locs : List Loc) (ls : Array Slot) , (t6_1, Ct6) = u6 → WS G (M, Ct6, K.1, K.2.1) s H locs → lv_has ls 5 [(0, .ref (G.2.2.2 131)), (1, .int t6_1)] → W p l e rmX0_soonest s m a0 below meth c H locs 0 0 Q (F0 m 67 ls []) := by
    intro t6_1 Ct6 H locs ls he hw hl
    subst he
    have hf : fX0_soonest_X6 t6_1 Ct6 = some t := hf
    unfold fX0_soonest_X6 at hf
    refine lv_aload_n FX.1 FX.2.1 dX0_soonest_67 rfl (lv_at hl 0 rfl) ?_
    refine lv_iload_n FX.1 FX.2.1 dX0_soonest_68 rfl (lv_at hl 1 rfl) ?_
    refine bd hf (fun t8 h_t8 hf => ?_)
    refine clV_i0 (As := [.int t6_1]) (rest := []) FX hw (wX0_orNothing h_t8) (cwV 1 FX.2.2.2.2 (lw_V q1090 q1092 qs21 q134 q1093) rfl rfl rfl (by decide +kernel) ⟨Nat.le_of_ble_eq_true rfl, Nat.le_of_ble_eq_true rfl⟩) (fx_obj hw (o := (131, 0, 100, 31)) (by decide)) rfl rfl hl.1 rfl (lv_room (Nat.le_of_ble_eq_true rfl)) dX0_soonest_69 ⟨rfl, rfl⟩ ⟨Nat.zero_le _, Nat.zero_le _⟩ (fun H locs hw => ?_)
    exact hret _ _ rfl (congrArg (fun z => z.1) (Option.some.inj hf)) (congrArg (fun z => (M, z.2, K.1, K.2.1)) (Option.some.inj hf)) hw dX0_soonest_72
  have hL6 : ∀ (n : Nat) (z6_1 : Int32) (z6_2 : Int32) (z6_3 : Int32) (Cz6 : FS) (H : Heap) (locs : List Loc) (ls : Array Slot) , lpN (fun z => fX0_soonest_L6 K z.1 z.2.1 z.2.2.1 z.2.2.2) n (z6_1, z6_2, z6_3, Cz6) = some u6 → WS G (M, Cz6, K.1, K.2.1) s H locs → lv_has ls 5 [(0, .ref (G.2.2.2 131)), (1, .int z6_1), (2, .int z6_2), (3, .int z6_3)] → W p l e rmX0_soonest s m a0 below meth c H locs 0 0 Q (F0 m 6 ls []) := by
    intro n
    induction n with
    | zero => intro z6_1 z6_2 z6_3 Cz6 H locs ls hz; cases hz
    | succ n ih =>
      intro z6_1 z6_2 z6_3 Cz6 H locs ls hz hw hl
      refine bd (show (fX0_soonest_L6 K z6_1 z6_2 z6_3 Cz6).bind _ = some u6 from hz) (fun x6 hf hk6 => ?_)
      unfold fX0_soonest_L6 at hf
      refine lv_iload_n FX.1 FX.2.1 dX0_soonest_6 rfl (lv_at hl 3 rfl) ?_
      refine lv_aload_n FX.1 FX.2.1 dX0_soonest_7 rfl (lv_at hl 0 rfl) ?_
      refine gX0_38 FX hw dX0_soonest_8 ?_
      refine bd hf (fun a1 h_a1 hf => ?_)
      rw [show va_rf (Cz6.2.2.1 103) = .ref a1 from congrArg va_rf h_a1]
      refine bd hf (fun v2 h_v2 hf => ?_)
      refine gX0_152 FX hw h_v2 dX0_soonest_11 ?_
      refine lv_icmp_ge (tgt := 67) FX.1 FX.2.1 dX0_soonest_14 (by decide) (fun c_14 => ?_) (fun c_14 => ?_)
      · have hf := it_pos c_14 hf
        exact hX6 _ _ _ _ _ (lpe hf hk6) hw (lv_sub hl [0, 1] rfl)
      · have hf := it_neg c_14 hf
        refine lv_aload_n FX.1 FX.2.1 dX0_soonest_17 rfl (lv_at hl 0 rfl) ?_
        refine gX0_38 FX hw dX0_soonest_18 ?_
        refine bd hf (fun a3 h_a3 hf => ?_)
        rw [show va_rf (Cz6.2.2.1 103) = .ref a3 from congrArg va_rf h_a3]
        refine bd hf (fun a4 h_a4 hf => ?_)
        refine gX0_161 FX hw h_a4 dX0_soonest_21 ?_
        refine lv_iload_n FX.1 FX.2.1 dX0_soonest_24 rfl (lv_at hl 3 rfl) ?_
        refine bd hf (fun a5 h_a5 hf => ?_)
        refine ei_aald 5 rfl FX hw h_a5 dX0_soonest_25 ?_
        refine bd hf (fun v6 h_v6 hf => ?_)
        refine gX0_165 FX hw h_v6 dX0_soonest_26 ?_
        refine lv_if_eq (tgt := 35) FX.1 FX.2.1 dX0_soonest_29 (by decide) (fun c_29 => ?_) (fun c_29 => ?_)
        · have hf := it_pos c_29 hf
          refine lv_aload_n FX.1 FX.2.1 dX0_soonest_35 rfl (lv_at hl 0 rfl) ?_
          refine lv_iload_n FX.1 FX.2.1 dX0_soonest_36 rfl (lv_at hl 3 rfl) ?_
          refine bd hf (fun t7 h_t7 hf => ?_)
          refine clV_i0 (As := [.int z6_3]) (rest := []) FX hw (wX0_aloneOf h_t7) (cwV 1 FX.2.2.2.2 (lw_V q1364 q1366 qs30 q134 q1367) rfl rfl rfl (by decide +kernel) ⟨Nat.le_of_ble_eq_true rfl, Nat.le_of_ble_eq_true rfl⟩) (fx_obj hw (o := (131, 0, 100, 31)) (by decide)) rfl rfl hl.1 rfl (lv_room (Nat.le_of_ble_eq_true rfl)) dX0_soonest_37 ⟨rfl, rfl⟩ ⟨Nat.zero_le _, Nat.zero_le _⟩ (fun H locs hw => ?_)
          refine lv_istore (lv' := [(4, .int t7.1), (0, .ref (G.2.2.2 131)), (1, .int z6_1), (2, .int z6_2), (3, .int z6_3)]) FX.1 FX.2.1 dX0_soonest_40 hl (by decide) rfl (fun ls hl => ?_)
          refine lv_iload_n FX.1 FX.2.1 dX0_soonest_42 rfl (lv_at hl 2 rfl) ?_
          refine lv_iconst (v := (-1)) FX.1 FX.2.1 dX0_soonest_43 (by decide) ?_
          refine lv_icmp_eq (tgt := 56) FX.1 FX.2.1 dX0_soonest_44 (by decide) (fun c_44 => ?_) (fun c_44 => ?_)
          · have hf := it_pos c_44 hf
            refine lv_iload_n FX.1 FX.2.1 dX0_soonest_56 rfl (lv_at hl 4 rfl) ?_
            refine lv_istore_n (lv' := [(1, .int z6_3), (4, .int t7.1), (0, .ref (G.2.2.2 131)), (2, .int z6_2), (3, .int z6_3)]) FX.1 FX.2.1 dX0_soonest_57 rfl hl (by decide) rfl (fun ls hl => ?_)
            refine lv_iload FX.1 FX.2.1 dX0_soonest_58 (lv_at hl 1 rfl) ?_
            refine lv_istore_n (lv' := [(2, .int t7.1), (1, .int z6_3), (4, .int t7.1), (0, .ref (G.2.2.2 131)), (3, .int z6_3)]) FX.1 FX.2.1 dX0_soonest_60 rfl hl (by decide) rfl (fun ls hl => ?_)
            refine lv_iinc (v := (z6_3 + 1)) (lv' := [(3, .int (z6_3 + 1)), (2, .int t7.1), (1, .int z6_3), (4, .int t7.1), (0, .ref (G.2.2.2 131))]) FX.1 FX.2.1 dX0_soonest_61 hl (k := 4) rfl (congrArg (fun q : Int32 => z6_3 + q) (by decide : Int32.ofInt 1 = 1)) (by decide) rfl (fun ls hl => ?_)
            refine lv_goto (tgt := 6) FX.1 FX.2.1 dX0_soonest_64 (by decide) ?_
            exact ih _ _ _ _ _ _ _ (lpc hf hk6) hw (lv_sub hl [4, 2, 1, 0] rfl)
          · have hf := it_neg c_44 hf
            refine lv_iload FX.1 FX.2.1 dX0_soonest_47 (lv_at hl 0 rfl) ?_
            refine lv_iload_n FX.1 FX.2.1 dX0_soonest_49 rfl (lv_at hl 3 rfl) ?_
            refine lv_icmp_lt (tgt := 56) FX.1 FX.2.1 dX0_soonest_50 (by decide) (fun c_50 => ?_) (fun c_50 => ?_)
            · have hf := it_pos c_50 hf
              refine lv_iload_n FX.1 FX.2.1 dX0_soonest_56 rfl (lv_at hl 4 rfl) ?_
              refine lv_istore_n (lv' := [(1, .int z6_3), (4, .int t7.1), (0, .ref (G.2.2.2 131)), (2, .int z6_2), (3, .int z6_3)]) FX.1 FX.2.1 dX0_soonest_57 rfl hl (by decide) rfl (fun ls hl => ?_)
              refine lv_iload FX.1 FX.2.1 dX0_soonest_58 (lv_at hl 1 rfl) ?_
              refine lv_istore_n (lv' := [(2, .int t7.1), (1, .int z6_3), (4, .int t7.1), (0, .ref (G.2.2.2 131)), (3, .int z6_3)]) FX.1 FX.2.1 dX0_soonest_60 rfl hl (by decide) rfl (fun ls hl => ?_)
              refine lv_iinc (v := (z6_3 + 1)) (lv' := [(3, .int (z6_3 + 1)), (2, .int t7.1), (1, .int z6_3), (4, .int t7.1), (0, .ref (G.2.2.2 131))]) FX.1 FX.2.1 dX0_soonest_61 hl (k := 4) rfl (congrArg (fun q : Int32 => z6_3 + q) (by decide : Int32.ofInt 1 = 1)) (by decide) rfl (fun ls hl => ?_)
              refine lv_goto (tgt := 6) FX.1 FX.2.1 dX0_soonest_64 (by decide) ?_
              exact ih _ _ _ _ _ _ _ (lpc hf hk6) hw (lv_sub hl [4, 2, 1, 0] rfl)
            · have hf := it_neg c_50 hf
              refine lv_goto (tgt := 61) FX.1 FX.2.1 dX0_soonest_53 (by decide) ?_
              refine lv_iinc (v := (z6_3 + 1)) (lv' := [(3, .int (z6_3 + 1)), (4, .int t7.1), (0, .ref (G.2.2.2 131)), (1, .int z6_1), (2, .int z6_2)]) FX.1 FX.2.1 dX0_soonest_61 hl (k := 4) rfl (congrArg (fun q : Int32 => z6_3 + q) (by decide : Int32.ofInt 1 = 1)) (by decide) rfl (fun ls hl => ?_)
              refine lv_goto (tgt := 6) FX.1 FX.2.1 dX0_soonest_64 (by decide) ?_
              exact ih _ _ _ _ _ _ _ (lpc hf hk6) hw (lv_sub hl [2, 3, 4, 0] rfl)
        · have hf := it_neg c_29 hf
          refine lv_goto (tgt := 61) FX.1 FX.2.1 dX0_soonest_32 (by decide) ?_
          refine lv_iinc (v := (z6_3 + 1)) (lv' := [(3, .int (z6_3 + 1)), (0, .ref (G.2.2.2 131)), (1, .int z6_1), (2, .int z6_2)]) FX.1 FX.2.1 dX0_soonest_61 hl (k := 3) rfl (congrArg (fun q : Int32 => z6_3 + q) (by decide : Int32.ofInt 1 = 1)) (by decide) rfl (fun ls hl => ?_)
          refine lv_goto (tgt := 6) FX.1 FX.2.1 dX0_soonest_64 (by decide) ?_
          exact ih _ _ _ _ _ _ _ (lpc hf hk6) hw (lv_sub hl [1, 2, 3, 0] rfl)
  exact hL6 n _ _ _ _ _ _ _ hn hw (lv_sub hl [3, 2, 1, 0] rfl)
abbrev rmX0_tell : Room := { frames := 1, cells := 0, slots := 0, locals := 60 }
set_option maxHeartbeats 4000000 in
theorem wX0_tell {l : Launch} {G : GT} {M C : FS} {K : KT} {p1 : Int64} {p2 : Int64} {t : (Int32 × FS)} (hf : fX0_tell C p1 p2 = some t) : CtI l yX0_tell (ws_ yX0_tell cX0_tell 11 (some .boolean)) rmX0_tell G [.ref (G.2.2.2 131), .long p1, .long p2] (M, C, K.1, K.2.1) t.1 (M, t.2, K.1, K.2.1) := by
  refine mkI (ty := .boolean) (by decide) (Nat.le_of_ble_eq_true rfl) (fun p e s m a0 below meth c Q FX hw hname hret ls hl => ?_)
  have hl : lv_has ls 11 [(0, .ref (G.2.2.2 131)), (1, .long p1), (3, .long p2)] := hl
  unfold fX0_tell at hf
  refine lv_lload_n FX.1 FX.2.1 dX0_tell_0 rfl (lv_at hl 1 rfl) ?_
  refine va_mabs_long FX.1 FX.2.1 (FX.2.2.1.trans hl.1.symm) FX.2.2.2.1 (FX.2.2.2.2 _ q1436) (FX.2.2.2.2 _ q1437) (FX.2.2.2.2 _ q150) (FX.2.2.2.2 _ q1438) (Nat.le_of_ble_eq_true rfl) (Nat.le_of_ble_eq_true rfl) (Nat.le_of_ble_eq_true rfl) (Nat.le_of_ble_eq_true rfl) dX0_tell_1 ?_
  refine lv_lstore (lv' := [(5, .long (if 0 < p1 then p1 else -p1)), (0, .ref (G.2.2.2 131)), (1, .long p1), (3, .long p2)]) FX.1 FX.2.1 dX0_tell_4 hl (by decide) rfl (fun ls hl => ?_)
  refine lv_lload_n FX.1 FX.2.1 dX0_tell_6 rfl (lv_at hl 3 rfl) ?_
  refine lv_lstore (lv' := [(7, .long p2), (5, .long (if 0 < p1 then p1 else -p1)), (0, .ref (G.2.2.2 131)), (1, .long p1), (3, .long p2)]) FX.1 FX.2.1 dX0_tell_7 hl (by decide) rfl (fun ls hl => ?_)
  refine bd hf (fun u9 ht hf => ?_)
  obtain ⟨n, hn⟩ := lp_iff.mp ht
  have hX9 : ∀ (t9_5 : Int64) (H : Heap) (locs : List Loc) (ls : Array Slot) , t9_5 = u9 → WS G (M, C, K.1, K.2.1) s H locs → lv_has ls 11 [(0, .ref (G.2.2.2 131)), (1, .long p1), (3, .long p2), (5, .long t9_5)] → W p l e rmX0_tell s m a0 below meth c H locs 0 0 Q (F0 m 34 ls []) := by
    intro t9_5 H locs ls he hw hl
    subst he
    refine lv_aload_n FX.1 FX.2.1 dX0_tell_34 rfl (lv_at hl 0 rfl) ?_
    refine lv_lload_n FX.1 FX.2.1 dX0_tell_35 rfl (lv_at hl 1 rfl) ?_
    refine lv_lload FX.1 FX.2.1 dX0_tell_36 (lv_at hl 3 rfl) ?_
    refine bd hf (fun u2 h_u2 hf => ?_)
    refine lv_ldiv FX.1 FX.2.1 dX0_tell_38 (nzl_some h_u2) ?_
    refine bd hf (fun C3 h_C3 hf => ?_)
    refine sX0_94 FX hw dX0_tell_39 (fun H locs hw => ?_)
    rw [Option.some.inj h_C3] at hw
    refine lv_aload_n FX.1 FX.2.1 dX0_tell_42 rfl (lv_at hl 0 rfl) ?_
    refine lv_lload_n FX.1 FX.2.1 dX0_tell_43 rfl (lv_at hl 2 rfl) ?_
    refine lv_lload FX.1 FX.2.1 dX0_tell_44 (lv_at hl 3 rfl) ?_
    refine bd hf (fun u4 h_u4 hf => ?_)
    refine lv_ldiv FX.1 FX.2.1 dX0_tell_46 (nzl_some h_u4) ?_
    refine bd hf (fun C5 h_C5 hf => ?_)
    refine sX0_49 FX hw dX0_tell_47 (fun H locs hw => ?_)
    rw [Option.some.inj h_C5] at hw
    refine lv_aload_n FX.1 FX.2.1 dX0_tell_50 rfl (lv_at hl 0 rfl) ?_
    refine lv_iconst (v := 0) FX.1 FX.2.1 dX0_tell_51 (by decide) ?_
    refine bd hf (fun t6 h_t6 hf => ?_)
    refine clV_i0 (As := [.int 0]) (rest := []) FX hw (wX0_is h_t6) (cwV 1 FX.2.2.2.2 (lw_V q551 q553 qs2 q134 q554) rfl rfl rfl (by decide +kernel) ⟨Nat.le_of_ble_eq_true rfl, Nat.le_of_ble_eq_true rfl⟩) (fx_obj hw (o := (131, 0, 100, 31)) (by decide)) rfl rfl hl.1 rfl (lv_room (Nat.le_of_ble_eq_true rfl)) dX0_tell_52 ⟨rfl, rfl⟩ ⟨Nat.zero_le _, Nat.zero_le _⟩ (fun H locs hw => ?_)
    refine bd hf (fun b7 h_b7 hf => ?_)
    exact hret _ _ (bool_nar (bz_or h_b7)) (congrArg (fun z => z.1) (Option.some.inj hf)) (congrArg (fun z => (M, z.2, K.1, K.2.1)) (Option.some.inj hf)) hw dX0_tell_55
  have hL9 : ∀ (n : Nat) (z9_5 : Int64) (z9_7 : Int64) (H : Heap) (locs : List Loc) (ls : Array Slot) , lpN (fun z => fX0_tell_L9 z.1 z.2) n (z9_5, z9_7) = some u9 → WS G (M, C, K.1, K.2.1) s H locs → lv_has ls 11 [(0, .ref (G.2.2.2 131)), (1, .long p1), (3, .long p2), (5, .long z9_5), (7, .long z9_7)] → W p l e rmX0_tell s m a0 below meth c H locs 0 0 Q (F0 m 9 ls []) := by
    intro n
    induction n with
    | zero => intro z9_5 z9_7 H locs ls hz; cases hz
    | succ n ih =>
      intro z9_5 z9_7 H locs ls hz hw hl
      refine bd (show (fX0_tell_L9 z9_5 z9_7).bind _ = some u9 from hz) (fun x9 hf hk9 => ?_)
      unfold fX0_tell_L9 at hf
      refine lv_lload FX.1 FX.2.1 dX0_tell_9 (lv_at hl 4 rfl) ?_
      refine lv_lconst (v := 0) FX.1 FX.2.1 dX0_tell_11 (by decide) ?_
      refine W.lcmp FX.1 FX.2.1 dX0_tell_12 ?_
      refine lv_if_eq (tgt := 34) FX.1 FX.2.1 dX0_tell_13 (by decide) (fun c_13 => ?_) (fun c_13 => ?_)
      · have c_13 := (lg_cmp_eq _ _).mp c_13
        have hf := it_pos c_13 hf
        exact hX9 _ _ _ _ (lpe hf hk9) hw (lv_sub hl [0, 1, 2, 3] rfl)
      · have c_13 := mt (lg_cmp_eq _ _).mpr c_13
        have hf := it_neg c_13 hf
        refine lv_lload FX.1 FX.2.1 dX0_tell_16 (lv_at hl 3 rfl) ?_
        refine lv_lload FX.1 FX.2.1 dX0_tell_18 (lv_at hl 4 rfl) ?_
        refine bd hf (fun u1 h_u1 hf => ?_)
        refine lv_lrem FX.1 FX.2.1 dX0_tell_20 (nzl_some h_u1) ?_
        refine lv_lstore (lv' := [(9, .long (z9_5 - z9_5 / z9_7 * z9_7)), (0, .ref (G.2.2.2 131)), (1, .long p1), (3, .long p2), (5, .long z9_5), (7, .long z9_7)]) FX.1 FX.2.1 dX0_tell_21 hl (by decide) rfl (fun ls hl => ?_)
        refine lv_lload FX.1 FX.2.1 dX0_tell_23 (lv_at hl 5 rfl) ?_
        refine lv_lstore (lv' := [(5, .long z9_7), (9, .long (z9_5 - z9_5 / z9_7 * z9_7)), (0, .ref (G.2.2.2 131)), (1, .long p1), (3, .long p2), (7, .long z9_7)]) FX.1 FX.2.1 dX0_tell_25 hl (by decide) rfl (fun ls hl => ?_)
        refine lv_lload FX.1 FX.2.1 dX0_tell_27 (lv_at hl 1 rfl) ?_
        refine lv_lstore (lv' := [(7, .long (z9_5 - z9_5 / z9_7 * z9_7)), (5, .long z9_7), (9, .long (z9_5 - z9_5 / z9_7 * z9_7)), (0, .ref (G.2.2.2 131)), (1, .long p1), (3, .long p2)]) FX.1 FX.2.1 dX0_tell_29 hl (by decide) rfl (fun ls hl => ?_)
        refine lv_goto (tgt := 9) FX.1 FX.2.1 dX0_tell_31 (by decide) ?_
        exact ih _ _ _ _ _ (lpc hf hk9) hw (lv_sub hl [3, 4, 5, 1, 0] rfl)
  exact hL9 n _ _ _ _ _ hn hw (lv_sub hl [2, 3, 4, 1, 0] rfl)
