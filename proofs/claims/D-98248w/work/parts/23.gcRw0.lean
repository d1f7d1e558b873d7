abbrev rmX1_at : Room := { frames := 0, cells := 0, slots := 0, locals := 0 }
set_option maxHeartbeats 4000000 in
theorem wX1_at {l : Launch} {G : GT} {M C : FS} {K : KT} {p1 : Int32} {t : Int32} (hf : fX1_at C p1 = some t) : CtI l yX1_at (ws_ yX1_at cX1_at 2 (some .int)) rmX1_at G [.ref (G.2.2.2 217), .int p1] (M, C, K.1, K.2.1) t (M, C, K.1, K.2.1) := by
  refine mkI (ty := .int) (by decide) (Nat.le_of_ble_eq_true rfl) (fun p e s m a0 below meth c Q FX hw hname hret ls hl => ?_)
  have hl : lv_has ls 2 [(0, .ref (G.2.2.2 217)), (1, .int p1)] := hl
  unfold fX1_at at hf
  refine lv_iload_n FX.1 FX.2.1 dX1_at_0 rfl (lv_at hl 1 rfl) ?_
  refine lv_aload_n FX.1 FX.2.1 dX1_at_1 rfl (lv_at hl 0 rfl) ?_
  refine gX1_26 FX hw dX1_at_2 ?_
  refine lv_icmp_ge (tgt := 21) FX.1 FX.2.1 dX1_at_5 (by decide) (fun c_5 => ?_) (fun c_5 => ?_)
  · have hf := it_pos c_5 hf
    refine lv_iconst (v := (-1)) FX.1 FX.2.1 dX1_at_21 (by decide) ?_
    exact hret _ _ rfl (congrArg (fun z => z) (Option.some.inj hf)) rfl hw dX1_at_22
  · have hf := it_neg c_5 hf
    refine lv_aload_n FX.1 FX.2.1 dX1_at_8 rfl (lv_at hl 0 rfl) ?_
    refine gX1_9 FX hw dX1_at_9 ?_
    refine lv_iload_n FX.1 FX.2.1 dX1_at_12 rfl (lv_at hl 1 rfl) ?_
    refine bd hf (fun v1 h_v1 hf => ?_)
    refine al200 FX hw h_v1 dX1_at_13 ?_
    refine lv_sipush (v := 255) FX.1 FX.2.1 dX1_at_14 (by decide) ?_
    refine lv_iand FX.1 FX.2.1 dX1_at_17 ?_
    refine lv_goto (tgt := 22) FX.1 FX.2.1 dX1_at_18 (by decide) ?_
    exact hret _ _ rfl (congrArg (fun z => z) (Option.some.inj hf)) rfl hw dX1_at_22
abbrev rmX1_isSmall : Room := { frames := 0, cells := 0, slots := 0, locals := 0 }
set_option maxHeartbeats 4000000 in
theorem wX1_isSmall {l : Launch} {G : GT} {M C : FS} {K : KT} {p1 : Int32} {t : Int32} (hf : fX1_isSmall p1 = some t) : CtI l yX1_isSmall (ws_ yX1_isSmall cX1_isSmall 1 (some .boolean)) rmX1_isSmall G [.int p1] (M, C, K.1, K.2.1) t (M, C, K.1, K.2.1) := by
  refine mkI (ty := .boolean) (by decide) (Nat.le_of_ble_eq_true rfl) (fun p e s m a0 below meth c Q FX hw hname hret ls hl => ?_)
  have hl : lv_has ls 1 [(0, .int p1)] := hl
  unfold fX1_isSmall at hf
  refine lv_iload_n FX.1 FX.2.1 dX1_isSmall_0 rfl (lv_at hl 0 rfl) ?_
  refine lv_bipush (v := 97) FX.1 FX.2.1 dX1_isSmall_1 (by decide) ?_
  refine lv_icmp_lt (tgt := 16) FX.1 FX.2.1 dX1_isSmall_3 (by decide) (fun c_3 => ?_) (fun c_3 => ?_)
  · have hf := it_pos c_3 hf
    refine lv_iconst (v := 0) FX.1 FX.2.1 dX1_isSmall_16 (by decide) ?_
    exact hret _ _ rfl (congrArg (fun z => z) (Option.some.inj hf)) rfl hw dX1_isSmall_17
  · have hf := it_neg c_3 hf
    refine lv_iload_n FX.1 FX.2.1 dX1_isSmall_6 rfl (lv_at hl 0 rfl) ?_
    refine lv_bipush (v := 122) FX.1 FX.2.1 dX1_isSmall_7 (by decide) ?_
    refine lv_icmp_gt (tgt := 16) FX.1 FX.2.1 dX1_isSmall_9 (by decide) (fun c_9 => ?_) (fun c_9 => ?_)
    · have hf := it_pos c_9 hf
      refine lv_iconst (v := 0) FX.1 FX.2.1 dX1_isSmall_16 (by decide) ?_
      exact hret _ _ rfl (congrArg (fun z => z) (Option.some.inj hf)) rfl hw dX1_isSmall_17
    · have hf := it_neg c_9 hf
      refine lv_iconst (v := 1) FX.1 FX.2.1 dX1_isSmall_12 (by decide) ?_
      refine lv_goto (tgt := 17) FX.1 FX.2.1 dX1_isSmall_13 (by decide) ?_
      exact hret _ _ rfl (congrArg (fun z => z) (Option.some.inj hf)) rfl hw dX1_isSmall_17
abbrev rmX1_isDigit : Room := { frames := 0, cells := 0, slots := 0, locals := 0 }
set_option maxHeartbeats 4000000 in
theorem wX1_isDigit {l : Launch} {G : GT} {M C : FS} {K : KT} {p1 : Int32} {t : Int32} (hf : fX1_isDigit p1 = some t) : CtI l yX1_isDigit (ws_ yX1_isDigit cX1_isDigit 1 (some .boolean)) rmX1_isDigit G [.int p1] (M, C, K.1, K.2.1) t (M, C, K.1, K.2.1) := by
  refine mkI (ty := .boolean) (by decide) (Nat.le_of_ble_eq_true rfl) (fun p e s m a0 below meth c Q FX hw hname hret ls hl => ?_)
  have hl : lv_has ls 1 [(0, .int p1)] := hl
  unfold fX1_isDigit at hf
  refine lv_iload_n FX.1 FX.2.1 dX1_isDigit_0 rfl (lv_at hl 0 rfl) ?_
  refine lv_bipush (v := 48) FX.1 FX.2.1 dX1_isDigit_1 (by decide) ?_
  refine lv_icmp_lt (tgt := 16) FX.1 FX.2.1 dX1_isDigit_3 (by decide) (fun c_3 => ?_) (fun c_3 => ?_)
  · have hf := it_pos c_3 hf
    refine lv_iconst (v := 0) FX.1 FX.2.1 dX1_isDigit_16 (by decide) ?_
    exact hret _ _ rfl (congrArg (fun z => z) (Option.some.inj hf)) rfl hw dX1_isDigit_17
  · have hf := it_neg c_3 hf
    refine lv_iload_n FX.1 FX.2.1 dX1_isDigit_6 rfl (lv_at hl 0 rfl) ?_
    refine lv_bipush (v := 57) FX.1 FX.2.1 dX1_isDigit_7 (by decide) ?_
    refine lv_icmp_gt (tgt := 16) FX.1 FX.2.1 dX1_isDigit_9 (by decide) (fun c_9 => ?_) (fun c_9 => ?_)
    · have hf := it_pos c_9 hf
      refine lv_iconst (v := 0) FX.1 FX.2.1 dX1_isDigit_16 (by decide) ?_
      exact hret _ _ rfl (congrArg (fun z => z) (Option.some.inj hf)) rfl hw dX1_isDigit_17
    · have hf := it_neg c_9 hf
      refine lv_iconst (v := 1) FX.1 FX.2.1 dX1_isDigit_12 (by decide) ?_
      refine lv_goto (tgt := 17) FX.1 FX.2.1 dX1_isDigit_13 (by decide) ?_
      exact hret _ _ rfl (congrArg (fun z => z) (Option.some.inj hf)) rfl hw dX1_isDigit_17
abbrev rmX1_isSign : Room := { frames := 4, cells := 0, slots := 0, locals := 280 }
set_option maxHeartbeats 4000000 in
theorem wX1_isSign {l : Launch} {G : GT} {M C : FS} {K : KT} {p1 : Int32} {t : Int32} (hf : fX1_isSign C p1 = some t) : CtI l yX1_isSign (ws_ yX1_isSign cX1_isSign 3 (some .boolean)) rmX1_isSign G [.ref (G.2.2.2 217), .int p1] (M, C, K.1, K.2.1) t (M, C, K.1, K.2.1) := by
  refine mkI (ty := .boolean) (by decide) (Nat.le_of_ble_eq_true rfl) (fun p e s m a0 below meth c Q FX hw hname hret ls hl => ?_)
  have hl : lv_has ls 3 [(0, .ref (G.2.2.2 217)), (1, .int p1)] := hl
  unfold fX1_isSign at hf
  refine lv_iconst (v := 0) FX.1 FX.2.1 dX1_isSign_0 (by decide) ?_
  refine lv_istore_n (lv' := [(2, .int 0), (0, .ref (G.2.2.2 217)), (1, .int p1)]) FX.1 FX.2.1 dX1_isSign_1 rfl hl (by decide) rfl (fun ls hl => ?_)
  refine bd hf (fun u2 ht hf => ?_)
  obtain ⟨n, hn⟩ := lp_iff.mp ht
  have hR2 : ∀ v, Sum.inl v = u2 → _ := fun v he => ell hf he
  have hX2 : ∀ (H : Heap) (locs : List Loc) (ls : Array Slot) , Sum.inr () = u2 → WS G (M, C, K.1, K.2.1) s H locs → lv_has ls 3 [] → W p l e rmX1_isSign s m a0 below meth c H locs 0 0 Q (F0 m 33 ls []) := by
    intro H locs ls he hw hl
    have hf := elr hf he
    refine lv_iconst (v := 0) FX.1 FX.2.1 dX1_isSign_33 (by decide) ?_
    exact hret _ _ rfl (congrArg (fun z => z) (Option.some.inj hf)) rfl hw dX1_isSign_34
  have hL2 : ∀ (n : Nat) (z2_2 : Int32) (H : Heap) (locs : List Loc) (ls : Array Slot) , lpN (fX1_isSign_L2 p1) n z2_2 = some u2 → WS G (M, C, K.1, K.2.1) s H locs → lv_has ls 3 [(0, .ref (G.2.2.2 217)), (1, .int p1), (2, .int z2_2)] → W p l e rmX1_isSign s m a0 below meth c H locs 0 0 Q (F0 m 2 ls []) := by
    intro n
    induction n with
    | zero => intro z2_2 H locs ls hz; cases hz
    | succ n ih =>
      intro z2_2 H locs ls hz hw hl
      refine bd (show (fX1_isSign_L2 p1 z2_2).bind _ = some u2 from hz) (fun x2 hf hk2 => ?_)
      unfold fX1_isSign_L2 at hf
      refine lv_iload_n FX.1 FX.2.1 dX1_isSign_2 rfl (lv_at hl 2 rfl) ?_
      refine lv_aload_n FX.1 FX.2.1 dX1_isSign_3 rfl (lv_at hl 0 rfl) ?_
      refine gX1_19 FX hw dX1_isSign_4 ?_
      refine st_i (i := 1) (by decide) (As := []) (rest := [.int z2_2]) FX hw (wJ4_length (i := 1) (by decide)) (cwV 0 FX.2.2.2.2 (lw_V q688 q689 q690 q145 q691) rfl rfl rfl (by decide +kernel) ⟨Nat.le_of_ble_eq_true rfl, Nat.le_of_ble_eq_true rfl⟩) rfl hl.1 rfl (lv_room (Nat.le_of_ble_eq_true rfl)) dX1_isSign_7 ⟨rfl, rfl⟩ ⟨Nat.zero_le _, Nat.zero_le _⟩ (fun H locs hw => ?_)
      refine lv_icmp_ge (tgt := 33) FX.1 FX.2.1 dX1_isSign_10 (by decide) (fun c_10 => ?_) (fun c_10 => ?_)
      · have hf := it_pos c_10 hf
        exact hX2 _ _ _ (lpe hf hk2) hw (lv_sub hl [] rfl)
      · have hf := it_neg c_10 hf
        refine lv_aload_n FX.1 FX.2.1 dX1_isSign_13 rfl (lv_at hl 0 rfl) ?_
        refine gX1_19 FX hw dX1_isSign_14 ?_
        refine lv_iload_n FX.1 FX.2.1 dX1_isSign_17 rfl (lv_at hl 2 rfl) ?_
        refine bd hf (fun v1 h_v1 hf => ?_)
        refine st_i (i := 1) (by decide) (As := [.int z2_2]) (rest := []) FX hw (wJ4_charAt (i := 1) (by decide) h_v1) (cwV 1 FX.2.2.2.2 (lw_V q698 q699 q700 q145 q701) rfl rfl rfl (by decide +kernel) ⟨Nat.le_of_ble_eq_true rfl, Nat.le_of_ble_eq_true rfl⟩) rfl hl.1 rfl (lv_room (Nat.le_of_ble_eq_true rfl)) dX1_isSign_18 ⟨rfl, rfl⟩ ⟨Nat.zero_le _, Nat.zero_le _⟩ (fun H locs hw => ?_)
        refine lv_iload_n FX.1 FX.2.1 dX1_isSign_21 rfl (lv_at hl 1 rfl) ?_
        refine lv_icmp_ne (tgt := 27) FX.1 FX.2.1 dX1_isSign_22 (by decide) (fun c_22 => ?_) (fun c_22 => ?_)
        · have hf := it_neg c_22 hf
          refine lv_iinc (v := (z2_2 + 1)) (lv' := [(2, .int (z2_2 + 1)), (0, .ref (G.2.2.2 217)), (1, .int p1)]) FX.1 FX.2.1 dX1_isSign_27 hl (k := 2) rfl (congrArg (fun q : Int32 => z2_2 + q) (by decide : Int32.ofInt 1 = 1)) (by decide) rfl (fun ls hl => ?_)
          refine lv_goto (tgt := 2) FX.1 FX.2.1 dX1_isSign_30 (by decide) ?_
          exact ih _ _ _ _ (lpc hf hk2) hw (lv_sub hl [1, 2, 0] rfl)
        · have hf := it_pos c_22 hf
          refine lv_iconst (v := 1) FX.1 FX.2.1 dX1_isSign_25 (by decide) ?_
          have hf := hR2 _ (lpe hf hk2)
          exact hret _ _ rfl (congrArg (fun z => z) (Option.some.inj hf)) rfl hw dX1_isSign_26
  exact hL2 n _ _ _ _ hn hw (lv_sub hl [1, 2, 0] rfl)
abbrev rmX1_next : Room := { frames := 5, cells := 0, slots := 0, locals := 302 }
set_option maxHeartbeats 4000000 in
theorem wX1_next {l : Launch} {G : GT} {M C : FS} {K : KT} {t : FS} (hf : fX1_next C = some t) : CtV l yX1_next (ws_ yX1_next cX1_next 2 none) rmX1_next G [.ref (G.2.2.2 217)] (M, C, K.1, K.2.1) (M, t, K.1, K.2.1) := by
  refine mkV (by decide) (Nat.le_of_ble_eq_true rfl) (fun p e s m a0 below meth c Q FX hw hname hret ls hl => ?_)
  have hl : lv_has ls 2 [(0, .ref (G.2.2.2 217))] := hl
  unfold fX1_next at hf
  refine bd hf (fun u0 ht hf => ?_)
  obtain ⟨n, hn⟩ := lp_iff.mp ht
  have hX0 : ∀ (Ct0 : FS) (H : Heap) (locs : List Loc) (ls : Array Slot) , Ct0 = u0 → WS G (M, Ct0, K.1, K.2.1) s H locs → lv_has ls 2 [(0, .ref (G.2.2.2 217))] → W p l e rmX1_next s m a0 below meth c H locs 0 0 Q (F0 m 39 ls []) := by
    intro Ct0 H locs ls he hw hl
    subst he
    refine lv_aload_n FX.1 FX.2.1 dX1_next_39 rfl (lv_at hl 0 rfl) ?_
    refine lv_aload_n FX.1 FX.2.1 dX1_next_40 rfl (lv_at hl 0 rfl) ?_
    refine gX1_30 FX hw dX1_next_41 ?_
    refine bd hf (fun C5 h_C5 hf => ?_)
    refine sX1_50 FX hw dX1_next_44 (fun H locs hw => ?_)
    rw [Option.some.inj h_C5] at hw
    refine lv_aload_n FX.1 FX.2.1 dX1_next_47 rfl (lv_at hl 0 rfl) ?_
    refine lv_aload_n FX.1 FX.2.1 dX1_next_48 rfl (lv_at hl 0 rfl) ?_
    refine gX1_30 FX hw dX1_next_49 ?_
    refine bd hf (fun t6 h_t6 hf => ?_)
    refine clU_i0 (As := [.int (C5.1 204)]) (rest := []) FX hw (wX1_at h_t6) (va_cwP (C := "CableDrawer$Reader") 1 FX.2.2.2.2 q670 q2307 (ksel hw (by decide)) q672 q135 q673 ⟨by decide, by decide, by decide +kernel⟩ ⟨Nat.le_of_ble_eq_true rfl, Nat.le_of_ble_eq_true rfl⟩) (fx_obj hw (o := (217, 1, 200, 17)) (by decide)) rfl rfl hl.1 rfl (lv_room (Nat.le_of_ble_eq_true rfl)) dX1_next_52 ⟨rfl, rfl⟩ ⟨Nat.zero_le _, Nat.zero_le _⟩ (fun H locs hw => ?_)
    refine lv_istore_n (lv' := [(1, .int t6), (0, .ref (G.2.2.2 217))]) FX.1 FX.2.1 dX1_next_55 rfl hl (by decide) rfl (fun ls hl => ?_)
    refine lv_aload_n FX.1 FX.2.1 dX1_next_56 rfl (lv_at hl 1 rfl) ?_
    refine lv_iload_n FX.1 FX.2.1 dX1_next_57 rfl (lv_at hl 0 rfl) ?_
    refine bd hf (fun C7 h_C7 hf => ?_)
    refine sX1_53 FX hw dX1_next_58 (fun H locs hw => ?_)
    rw [Option.some.inj h_C7] at hw
    refine lv_iload_n FX.1 FX.2.1 dX1_next_61 rfl (lv_at hl 0 rfl) ?_
    refine lv_iconst (v := (-1)) FX.1 FX.2.1 dX1_next_62 (by decide) ?_
    refine lv_icmp_ne (tgt := 74) FX.1 FX.2.1 dX1_next_63 (by decide) (fun c_63 => ?_) (fun c_63 => ?_)
    · have hf := it_neg c_63 hf
      refine lv_iload_n FX.1 FX.2.1 dX1_next_74 rfl (lv_at hl 0 rfl) ?_
      refine bd hf (fun t8 h_t8 hf => ?_)
      refine clS_i0 (As := [.int t6]) (rest := []) FX hw (wX1_isSmall h_t8) (va_cwS 1 FX.2.2.2.2 (lw_S q674 q675 q135 q676) rfl rfl rfl (by decide +kernel) ⟨Nat.le_of_ble_eq_true rfl, Nat.le_of_ble_eq_true rfl⟩) rfl hl.1 rfl (lv_room (Nat.le_of_ble_eq_true rfl)) dX1_next_75 ⟨rfl, rfl⟩ ⟨Nat.zero_le _, Nat.zero_le _⟩ (fun H locs hw => ?_)
      refine lv_if_eq (tgt := 116) FX.1 FX.2.1 dX1_next_78 (by decide) (fun c_78 => ?_) (fun c_78 => ?_)
      · have hf := it_pos c_78 hf
        refine lv_iload_n FX.1 FX.2.1 dX1_next_116 rfl (lv_at hl 0 rfl) ?_
        refine bd hf (fun t9 h_t9 hf => ?_)
        refine clS_i0 (As := [.int t6]) (rest := []) FX hw (wX1_isDigit h_t9) (va_cwS 1 FX.2.2.2.2 (lw_S q677 q678 q135 q679) rfl rfl rfl (by decide +kernel) ⟨Nat.le_of_ble_eq_true rfl, Nat.le_of_ble_eq_true rfl⟩) rfl hl.1 rfl (lv_room (Nat.le_of_ble_eq_true rfl)) dX1_next_117 ⟨rfl, rfl⟩ ⟨Nat.zero_le _, Nat.zero_le _⟩ (fun H locs hw => ?_)
        refine lv_if_eq (tgt := 208) FX.1 FX.2.1 dX1_next_120 (by decide) (fun c_120 => ?_) (fun c_120 => ?_)
        · have hf := it_pos c_120 hf
          refine lv_aload_n FX.1 FX.2.1 dX1_next_208 rfl (lv_at hl 1 rfl) ?_
          refine lv_dup FX.1 FX.2.1 dX1_next_209 rfl ?_
          refine gX1_30 FX hw dX1_next_210 ?_
          refine lv_iconst (v := 1) FX.1 FX.2.1 dX1_next_213 (by decide) ?_
          refine lv_iadd FX.1 FX.2.1 dX1_next_214 ?_
          refine bd hf (fun C10 h_C10 hf => ?_)
          refine sX1_30 FX hw dX1_next_215 (fun H locs hw => ?_)
          rw [Option.some.inj h_C10] at hw
          refine lv_aload_n FX.1 FX.2.1 dX1_next_218 rfl (lv_at hl 1 rfl) ?_
          refine lv_aload_n FX.1 FX.2.1 dX1_next_219 rfl (lv_at hl 1 rfl) ?_
          refine lv_iload_n FX.1 FX.2.1 dX1_next_220 rfl (lv_at hl 0 rfl) ?_
          refine bd hf (fun t11 h_t11 hf => ?_)
          refine clU_i0 (As := [.int t6]) (rest := [.ref (G.2.2.2 217)]) FX hw (wX1_isSign h_t11) (va_cwP (C := "CableDrawer$Reader") 1 FX.2.2.2.2 q684 q2308 (ksel hw (by decide)) q686 q135 q687 ⟨by decide, by decide, by decide +kernel⟩ ⟨Nat.le_of_ble_eq_true rfl, Nat.le_of_ble_eq_true rfl⟩) (fx_obj hw (o := (217, 1, 200, 17)) (by decide)) rfl rfl hl.1 rfl (lv_room (Nat.le_of_ble_eq_true rfl)) dX1_next_221 ⟨rfl, rfl⟩ ⟨Nat.zero_le _, Nat.zero_le _⟩ (fun H locs hw => ?_)
          refine lv_if_eq (tgt := 231) FX.1 FX.2.1 dX1_next_224 (by decide) (fun c_224 => ?_) (fun c_224 => ?_)
          · have hf := it_pos c_224 hf
            refine lv_iconst (v := 1) FX.1 FX.2.1 dX1_next_231 (by decide) ?_
            refine bd hf (fun C12 h_C12 hf => ?_)
            refine sX1_56 FX hw dX1_next_232 (fun H locs hw => ?_)
            rw [Option.some.inj h_C12] at hw
            exact hret _ (congrArg (fun z => (M, z, K.1, K.2.1)) (Option.some.inj hf)) hw dX1_next_235
          · have hf := it_neg c_224 hf
            refine lv_iconst (v := 4) FX.1 FX.2.1 dX1_next_227 (by decide) ?_
            refine lv_goto (tgt := 232) FX.1 FX.2.1 dX1_next_228 (by decide) ?_
            refine bd hf (fun C13 h_C13 hf => ?_)
            refine sX1_56 FX hw dX1_next_232 (fun H locs hw => ?_)
            rw [Option.some.inj h_C13] at hw
            exact hret _ (congrArg (fun z => (M, z, K.1, K.2.1)) (Option.some.inj hf)) hw dX1_next_235
        · have hf := it_neg c_120 hf
          refine lv_aload_n FX.1 FX.2.1 dX1_next_123 rfl (lv_at hl 1 rfl) ?_
          refine lv_iconst (v := 0) FX.1 FX.2.1 dX1_next_124 (by decide) ?_
          refine bd hf (fun C14 h_C14 hf => ?_)
          refine sX1_53 FX hw dX1_next_125 (fun H locs hw => ?_)
          rw [Option.some.inj h_C14] at hw
          refine bd hf (fun u128 ht hf => ?_)
          obtain ⟨n, hn⟩ := lp_iff.mp ht
          have hX128 : ∀ (Ct128 : FS) (H : Heap) (locs : List Loc) (ls : Array Slot) , Ct128 = u128 → WS G (M, Ct128, K.1, K.2.1) s H locs → lv_has ls 2 [(0, .ref (G.2.2.2 217))] → W p l e rmX1_next s m a0 below meth c H locs 0 0 Q (F0 m 183 ls []) := by
            intro Ct128 H locs ls he hw hl
            subst he
            refine lv_aload_n FX.1 FX.2.1 dX1_next_183 rfl (lv_at hl 0 rfl) ?_
            refine lv_aload_n FX.1 FX.2.1 dX1_next_184 rfl (lv_at hl 0 rfl) ?_
            refine gX1_30 FX hw dX1_next_185 ?_
            refine lv_aload_n FX.1 FX.2.1 dX1_next_188 rfl (lv_at hl 0 rfl) ?_
            refine gX1_50 FX hw dX1_next_189 ?_
            refine lv_isub FX.1 FX.2.1 dX1_next_192 ?_
            refine lv_iconst (v := 4) FX.1 FX.2.1 dX1_next_193 (by decide) ?_
            refine lv_icmp_le (tgt := 201) FX.1 FX.2.1 dX1_next_194 (by decide) (fun c_194 => ?_) (fun c_194 => ?_)
            · have hf := it_pos c_194 hf
              refine lv_iconst (v := 3) FX.1 FX.2.1 dX1_next_201 (by decide) ?_
              refine bd hf (fun C20 h_C20 hf => ?_)
              refine sX1_56 FX hw dX1_next_202 (fun H locs hw => ?_)
              rw [Option.some.inj h_C20] at hw
              refine lv_goto (tgt := 235) FX.1 FX.2.1 dX1_next_205 (by decide) ?_
              exact hret _ (congrArg (fun z => (M, z, K.1, K.2.1)) (Option.some.inj hf)) hw dX1_next_235
            · have hf := it_neg c_194 hf
              refine lv_iconst (v := 1) FX.1 FX.2.1 dX1_next_197 (by decide) ?_
              refine lv_goto (tgt := 202) FX.1 FX.2.1 dX1_next_198 (by decide) ?_
              refine bd hf (fun C21 h_C21 hf => ?_)
              refine sX1_56 FX hw dX1_next_202 (fun H locs hw => ?_)
              rw [Option.some.inj h_C21] at hw
              refine lv_goto (tgt := 235) FX.1 FX.2.1 dX1_next_205 (by decide) ?_
              exact hret _ (congrArg (fun z => (M, z, K.1, K.2.1)) (Option.some.inj hf)) hw dX1_next_235
          have hL128 : ∀ (n : Nat) (Cz128 : FS) (H : Heap) (locs : List Loc) (ls : Array Slot) , lpN (fX1_next_L128) n Cz128 = some u128 → WS G (M, Cz128, K.1, K.2.1) s H locs → lv_has ls 2 [(0, .ref (G.2.2.2 217))] → W p l e rmX1_next s m a0 below meth c H locs 0 0 Q (F0 m 128 ls []) := by
            intro n
            induction n with
            | zero => intro Cz128 H locs ls hz; cases hz
            | succ n ih =>
              intro Cz128 H locs ls hz hw hl
              refine bd (show (fX1_next_L128 Cz128).bind _ = some u128 from hz) (fun x128 hf hk128 => ?_)
              unfold fX1_next_L128 at hf
              refine lv_aload_n FX.1 FX.2.1 dX1_next_128 rfl (lv_at hl 0 rfl) ?_
              refine lv_aload_n FX.1 FX.2.1 dX1_next_129 rfl (lv_at hl 0 rfl) ?_
              refine gX1_30 FX hw dX1_next_130 ?_
              refine bd hf (fun t15 h_t15 hf => ?_)
              refine clU_i0 (As := [.int (Cz128.1 204)]) (rest := []) FX hw (wX1_at h_t15) (va_cwP (C := "CableDrawer$Reader") 1 FX.2.2.2.2 q670 q2307 (ksel hw (by decide)) q672 q135 q673 ⟨by decide, by decide, by decide +kernel⟩ ⟨Nat.le_of_ble_eq_true rfl, Nat.le_of_ble_eq_true rfl⟩) (fx_obj hw (o := (217, 1, 200, 17)) (by decide)) rfl rfl hl.1 rfl (lv_room (Nat.le_of_ble_eq_true rfl)) dX1_next_133 ⟨rfl, rfl⟩ ⟨Nat.zero_le _, Nat.zero_le _⟩ (fun H locs hw => ?_)
              refine bd hf (fun t16 h_t16 hf => ?_)
              refine clS_i0 (As := [.int t15]) (rest := []) FX hw (wX1_isDigit h_t16) (va_cwS 1 FX.2.2.2.2 (lw_S q677 q678 q135 q679) rfl rfl rfl (by decide +kernel) ⟨Nat.le_of_ble_eq_true rfl, Nat.le_of_ble_eq_true rfl⟩) rfl hl.1 rfl (lv_room (Nat.le_of_ble_eq_true rfl)) dX1_next_136 ⟨rfl, rfl⟩ ⟨Nat.zero_le _, Nat.zero_le _⟩ (fun H locs hw => ?_)
              refine lv_if_eq (tgt := 183) FX.1 FX.2.1 dX1_next_139 (by decide) (fun c_139 => ?_) (fun c_139 => ?_)
              · have hf := it_pos c_139 hf
                exact hX128 _ _ _ _ (lpe hf hk128) hw (lv_sub hl [0] rfl)
              · have hf := it_neg c_139 hf
                refine lv_aload_n FX.1 FX.2.1 dX1_next_142 rfl (lv_at hl 0 rfl) ?_
                refine lv_ldc FX.1 FX.2.1 FX.2.2.2.1 (FX.2.2.2.2 _ q680) dX1_next_143 ?_
                refine lv_bipush (v := 10) FX.1 FX.2.1 dX1_next_145 (by decide) ?_
                refine lv_aload_n FX.1 FX.2.1 dX1_next_147 rfl (lv_at hl 0 rfl) ?_
                refine gX1_53 FX hw dX1_next_148 ?_
                refine lv_imul FX.1 FX.2.1 dX1_next_151 ?_
                refine lv_aload_n FX.1 FX.2.1 dX1_next_152 rfl (lv_at hl 0 rfl) ?_
                refine lv_aload_n FX.1 FX.2.1 dX1_next_153 rfl (lv_at hl 0 rfl) ?_
                refine gX1_30 FX hw dX1_next_154 ?_
                refine bd hf (fun t17 h_t17 hf => ?_)
                refine clU_i0 (As := [.int (Cz128.1 204)]) (rest := [.int (10 * (Cz128.1 205)), .int 100000, .ref (G.2.2.2 217)]) FX hw (wX1_at h_t17) (va_cwP (C := "CableDrawer$Reader") 1 FX.2.2.2.2 q670 q2307 (ksel hw (by decide)) q672 q135 q673 ⟨by decide, by decide, by decide +kernel⟩ ⟨Nat.le_of_ble_eq_true rfl, Nat.le_of_ble_eq_true rfl⟩) (fx_obj hw (o := (217, 1, 200, 17)) (by decide)) rfl rfl hl.1 rfl (lv_room (Nat.le_of_ble_eq_true rfl)) dX1_next_157 ⟨rfl, rfl⟩ ⟨Nat.zero_le _, Nat.zero_le _⟩ (fun H locs hw => ?_)
                refine lv_iadd FX.1 FX.2.1 dX1_next_160 ?_
                refine lv_bipush (v := 48) FX.1 FX.2.1 dX1_next_161 (by decide) ?_
                refine lv_isub FX.1 FX.2.1 dX1_next_163 ?_
                refine va_mmin FX.1 FX.2.1 (FX.2.2.1.trans hl.1.symm) FX.2.2.2.1 (FX.2.2.2.2 _ q681) (FX.2.2.2.2 _ q682) (FX.2.2.2.2 _ q150) (FX.2.2.2.2 _ q683) (Nat.le_of_ble_eq_true rfl) (Nat.le_of_ble_eq_true rfl) (Nat.le_of_ble_eq_true rfl) (Nat.le_of_ble_eq_true rfl) dX1_next_164 ?_
                refine bd hf (fun C18 h_C18 hf => ?_)
                refine sX1_53 FX hw dX1_next_167 (fun H locs hw => ?_)
                rw [Option.some.inj h_C18] at hw
                refine lv_aload_n FX.1 FX.2.1 dX1_next_170 rfl (lv_at hl 0 rfl) ?_
                refine lv_dup FX.1 FX.2.1 dX1_next_171 rfl ?_
                refine gX1_30 FX hw dX1_next_172 ?_
                refine lv_iconst (v := 1) FX.1 FX.2.1 dX1_next_175 (by decide) ?_
                refine lv_iadd FX.1 FX.2.1 dX1_next_176 ?_
                refine bd hf (fun C19 h_C19 hf => ?_)
                refine sX1_30 FX hw dX1_next_177 (fun H locs hw => ?_)
                rw [Option.some.inj h_C19] at hw
                refine lv_goto (tgt := 128) FX.1 FX.2.1 dX1_next_180 (by decide) ?_
                exact ih _ _ _ _ (lpc hf hk128) hw (lv_sub hl [0] rfl)
          exact hL128 n _ _ _ _ hn hw (lv_sub hl [1] rfl)
      · have hf := it_neg c_78 hf
        refine bd hf (fun u81 ht hf => ?_)
        obtain ⟨n, hn⟩ := lp_iff.mp ht
        have hX81 : ∀ (Ct81 : FS) (H : Heap) (locs : List Loc) (ls : Array Slot) , Ct81 = u81 → WS G (M, Ct81, K.1, K.2.1) s H locs → lv_has ls 2 [(0, .ref (G.2.2.2 217))] → W p l e rmX1_next s m a0 below meth c H locs 0 0 Q (F0 m 108 ls []) := by
          intro Ct81 H locs ls he hw hl
          subst he
          refine lv_aload_n FX.1 FX.2.1 dX1_next_108 rfl (lv_at hl 0 rfl) ?_
          refine lv_iconst (v := 2) FX.1 FX.2.1 dX1_next_109 (by decide) ?_
          refine bd hf (fun C25 h_C25 hf => ?_)
          refine sX1_56 FX hw dX1_next_110 (fun H locs hw => ?_)
          rw [Option.some.inj h_C25] at hw
          refine lv_goto (tgt := 235) FX.1 FX.2.1 dX1_next_113 (by decide) ?_
          exact hret _ (congrArg (fun z => (M, z, K.1, K.2.1)) (Option.some.inj hf)) hw dX1_next_235
        have hL81 : ∀ (n : Nat) (Cz81 : FS) (H : Heap) (locs : List Loc) (ls : Array Slot) , lpN (fX1_next_L81) n Cz81 = some u81 → WS G (M, Cz81, K.1, K.2.1) s H locs → lv_has ls 2 [(0, .ref (G.2.2.2 217))] → W p l e rmX1_next s m a0 below meth c H locs 0 0 Q (F0 m 81 ls []) := by
          intro n
          induction n with
          | zero => intro Cz81 H locs ls hz; cases hz
          | succ n ih =>
            intro Cz81 H locs ls hz hw hl
            refine bd (show (fX1_next_L81 Cz81).bind _ = some u81 from hz) (fun x81 hf hk81 => ?_)
            unfold fX1_next_L81 at hf
            refine lv_aload_n FX.1 FX.2.1 dX1_next_81 rfl (lv_at hl 0 rfl) ?_
            refine lv_aload_n FX.1 FX.2.1 dX1_next_82 rfl (lv_at hl 0 rfl) ?_
            refine gX1_30 FX hw dX1_next_83 ?_
            refine bd hf (fun t22 h_t22 hf => ?_)
            refine clU_i0 (As := [.int (Cz81.1 204)]) (rest := []) FX hw (wX1_at h_t22) (va_cwP (C := "CableDrawer$Reader") 1 FX.2.2.2.2 q670 q2307 (ksel hw (by decide)) q672 q135 q673 ⟨by decide, by decide, by decide +kernel⟩ ⟨Nat.le_of_ble_eq_true rfl, Nat.le_of_ble_eq_true rfl⟩) (fx_obj hw (o := (217, 1, 200, 17)) (by decide)) rfl rfl hl.1 rfl (lv_room (Nat.le_of_ble_eq_true rfl)) dX1_next_86 ⟨rfl, rfl⟩ ⟨Nat.zero_le _, Nat.zero_le _⟩ (fun H locs hw => ?_)
            refine bd hf (fun t23 h_t23 hf => ?_)
            refine clS_i0 (As := [.int t22]) (rest := []) FX hw (wX1_isSmall h_t23) (va_cwS 1 FX.2.2.2.2 (lw_S q674 q675 q135 q676) rfl rfl rfl (by decide +kernel) ⟨Nat.le_of_ble_eq_true rfl, Nat.le_of_ble_eq_true rfl⟩) rfl hl.1 rfl (lv_room (Nat.le_of_ble_eq_true rfl)) dX1_next_89 ⟨rfl, rfl⟩ ⟨Nat.zero_le _, Nat.zero_le _⟩ (fun H locs hw => ?_)
            refine lv_if_eq (tgt := 108) FX.1 FX.2.1 dX1_next_92 (by decide) (fun c_92 => ?_) (fun c_92 => ?_)
            · have hf := it_pos c_92 hf
              exact hX81 _ _ _ _ (lpe hf hk81) hw (lv_sub hl [0] rfl)
            · have hf := it_neg c_92 hf
              refine lv_aload_n FX.1 FX.2.1 dX1_next_95 rfl (lv_at hl 0 rfl) ?_
              refine lv_dup FX.1 FX.2.1 dX1_next_96 rfl ?_
              refine gX1_30 FX hw dX1_next_97 ?_
              refine lv_iconst (v := 1) FX.1 FX.2.1 dX1_next_100 (by decide) ?_
              refine lv_iadd FX.1 FX.2.1 dX1_next_101 ?_
              refine bd hf (fun C24 h_C24 hf => ?_)
              refine sX1_30 FX hw dX1_next_102 (fun H locs hw => ?_)
              rw [Option.some.inj h_C24] at hw
              refine lv_goto (tgt := 81) FX.1 FX.2.1 dX1_next_105 (by decide) ?_
              exact ih _ _ _ _ (lpc hf hk81) hw (lv_sub hl [0] rfl)
        exact hL81 n _ _ _ _ hn hw (lv_sub hl [1] rfl)
    · have hf := it_pos c_63 hf
      refine lv_aload_n FX.1 FX.2.1 dX1_next_66 rfl (lv_at hl 1 rfl) ?_
      refine lv_iconst (v := 0) FX.1 FX.2.1 dX1_next_67 (by decide) ?_
      refine bd hf (fun C26 h_C26 hf => ?_)
      refine sX1_56 FX hw dX1_next_68 (fun H locs hw => ?_)
      rw [Option.some.inj h_C26] at hw
      refine lv_goto (tgt := 235) FX.1 FX.2.1 dX1_next_71 (by decide) ?_
      exact hret _ (congrArg (fun z => (M, z, K.1, K.2.1)) (Option.some.inj hf)) hw dX1_next_235
  have hL0 : ∀ (n : Nat) (Cz0 : FS) (H : Heap) (locs : List Loc) (ls : Array Slot) , lpN (fX1_next_L0) n Cz0 = some u0 → WS G (M, Cz0, K.1, K.2.1) s H locs → lv_has ls 2 [(0, .ref (G.2.2.2 217))] → W p l e rmX1_next s m a0 below meth c H locs 0 0 Q (F0 m 0 ls []) := by
    intro n
    induction n with
    | zero => intro Cz0 H locs ls hz; cases hz
    | succ n ih =>
      intro Cz0 H locs ls hz hw hl
      refine bd (show (fX1_next_L0 Cz0).bind _ = some u0 from hz) (fun x0 hf hk0 => ?_)
      unfold fX1_next_L0 at hf
      refine lv_aload_n FX.1 FX.2.1 dX1_next_0 rfl (lv_at hl 0 rfl) ?_
      refine lv_aload_n FX.1 FX.2.1 dX1_next_1 rfl (lv_at hl 0 rfl) ?_
      refine gX1_30 FX hw dX1_next_2 ?_
      refine bd hf (fun t1 h_t1 hf => ?_)
      refine clU_i0 (As := [.int (Cz0.1 204)]) (rest := []) FX hw (wX1_at h_t1) (va_cwP (C := "CableDrawer$Reader") 1 FX.2.2.2.2 q670 q2307 (ksel hw (by decide)) q672 q135 q673 ⟨by decide, by decide, by decide +kernel⟩ ⟨Nat.le_of_ble_eq_true rfl, Nat.le_of_ble_eq_true rfl⟩) (fx_obj hw (o := (217, 1, 200, 17)) (by decide)) rfl rfl hl.1 rfl (lv_room (Nat.le_of_ble_eq_true rfl)) dX1_next_5 ⟨rfl, rfl⟩ ⟨Nat.zero_le _, Nat.zero_le _⟩ (fun H locs hw => ?_)
      refine lv_bipush (v := 32) FX.1 FX.2.1 dX1_next_8 (by decide) ?_
      refine lv_icmp_eq (tgt := 26) FX.1 FX.2.1 dX1_next_10 (by decide) (fun c_10 => ?_) (fun c_10 => ?_)
      · have hf := it_pos c_10 hf
        refine lv_aload_n FX.1 FX.2.1 dX1_next_26 rfl (lv_at hl 0 rfl) ?_
        refine lv_dup FX.1 FX.2.1 dX1_next_27 rfl ?_
        refine gX1_30 FX hw dX1_next_28 ?_
        refine lv_iconst (v := 1) FX.1 FX.2.1 dX1_next_31 (by decide) ?_
        refine lv_iadd FX.1 FX.2.1 dX1_next_32 ?_
        refine bd hf (fun C2 h_C2 hf => ?_)
        refine sX1_30 FX hw dX1_next_33 (fun H locs hw => ?_)
        rw [Option.some.inj h_C2] at hw
        refine lv_goto (tgt := 0) FX.1 FX.2.1 dX1_next_36 (by decide) ?_
        exact ih _ _ _ _ (lpc hf hk0) hw (lv_sub hl [0] rfl)
      · have hf := it_neg c_10 hf
        refine lv_aload_n FX.1 FX.2.1 dX1_next_13 rfl (lv_at hl 0 rfl) ?_
        refine lv_aload_n FX.1 FX.2.1 dX1_next_14 rfl (lv_at hl 0 rfl) ?_
        refine gX1_30 FX hw dX1_next_15 ?_
        refine bd hf (fun t3 h_t3 hf => ?_)
        refine clU_i0 (As := [.int (Cz0.1 204)]) (rest := []) FX hw (wX1_at h_t3) (va_cwP (C := "CableDrawer$Reader") 1 FX.2.2.2.2 q670 q2307 (ksel hw (by decide)) q672 q135 q673 ⟨by decide, by decide, by decide +kernel⟩ ⟨Nat.le_of_ble_eq_true rfl, Nat.le_of_ble_eq_true rfl⟩) (fx_obj hw (o := (217, 1, 200, 17)) (by decide)) rfl rfl hl.1 rfl (lv_room (Nat.le_of_ble_eq_true rfl)) dX1_next_18 ⟨rfl, rfl⟩ ⟨Nat.zero_le _, Nat.zero_le _⟩ (fun H locs hw => ?_)
        refine lv_bipush (v := 10) FX.1 FX.2.1 dX1_next_21 (by decide) ?_
        refine lv_icmp_ne (tgt := 39) FX.1 FX.2.1 dX1_next_23 (by decide) (fun c_23 => ?_) (fun c_23 => ?_)
        · have hf := it_neg c_23 hf
          exact hX0 _ _ _ _ (lpe hf hk0) hw (lv_sub hl [0] rfl)
        · have hf := it_pos c_23 hf
          refine lv_aload_n FX.1 FX.2.1 dX1_next_26 rfl (lv_at hl 0 rfl) ?_
          refine lv_dup FX.1 FX.2.1 dX1_next_27 rfl ?_
          refine gX1_30 FX hw dX1_next_28 ?_
          refine lv_iconst (v := 1) FX.1 FX.2.1 dX1_next_31 (by decide) ?_
          refine lv_iadd FX.1 FX.2.1 dX1_next_32 ?_
          refine bd hf (fun C4 h_C4 hf => ?_)
          refine sX1_30 FX hw dX1_next_33 (fun H locs hw => ?_)
          rw [Option.some.inj h_C4] at hw
          refine lv_goto (tgt := 0) FX.1 FX.2.1 dX1_next_36 (by decide) ?_
          exact ih _ _ _ _ (lpc hf hk0) hw (lv_sub hl [0] rfl)
  exact hL0 n _ _ _ _ hn hw (lv_sub hl [0] rfl)
abbrev rmX1_begin : Room := { frames := 6, cells := 0, slots := 0, locals := 323 }
set_option maxHeartbeats 4000000 in
theorem wX1_begin {l : Launch} {G : GT} {M C : FS} {K : KT} {p1 : Int32} {t : FS} (hf : fX1_begin C p1 = some t) : CtV l yX1_begin (ws_ yX1_begin cX1_begin 2 none) rmX1_begin G [.ref (G.2.2.2 217), .int p1] (M, C, K.1, K.2.1) (M, t, K.1, K.2.1) := by
  refine mkV (by decide) (Nat.le_of_ble_eq_true rfl) (fun p e s m a0 below meth c Q FX hw hname hret ls hl => ?_)
  have hl : lv_has ls 2 [(0, .ref (G.2.2.2 217)), (1, .int p1)] := hl
  unfold fX1_begin at hf
  refine lv_aload_n FX.1 FX.2.1 dX1_begin_0 rfl (lv_at hl 0 rfl) ?_
  refine lv_iload_n FX.1 FX.2.1 dX1_begin_1 rfl (lv_at hl 1 rfl) ?_
  refine bd hf (fun C1 h_C1 hf => ?_)
  refine sX1_26 FX hw dX1_begin_2 (fun H locs hw => ?_)
  rw [Option.some.inj h_C1] at hw
  refine lv_aload_n FX.1 FX.2.1 dX1_begin_5 rfl (lv_at hl 0 rfl) ?_
  refine lv_iconst (v := 0) FX.1 FX.2.1 dX1_begin_6 (by decide) ?_
  refine bd hf (fun C2 h_C2 hf => ?_)
  refine sX1_30 FX hw dX1_begin_7 (fun H locs hw => ?_)
  rw [Option.some.inj h_C2] at hw
  refine lv_aload_n FX.1 FX.2.1 dX1_begin_10 rfl (lv_at hl 0 rfl) ?_
  refine bd hf (fun t3 h_t3 hf => ?_)
  refine clU_v0 (As := []) (rest := []) FX hw (wX1_next h_t3) (va_cwU (owner := "CableDrawer$Scan") 0 FX.2.2.2.2 (lw_U q665 q667 q668 q666 q135 q669) rfl rfl rfl rfl ⟨by decide, by decide, by decide +kernel⟩ ⟨Nat.le_of_ble_eq_true rfl, Nat.le_of_ble_eq_true rfl⟩) (fx_obj hw (o := (217, 1, 200, 17)) (by decide)) rfl rfl hl.1 rfl (lv_room (Nat.le_of_ble_eq_true rfl)) dX1_begin_11 ⟨rfl, rfl⟩ ⟨Nat.zero_le _, Nat.zero_le _⟩ (fun H locs hw => ?_)
  exact hret _ (congrArg (fun z => (M, z, K.1, K.2.1)) (Option.some.inj hf)) hw dX1_begin_14
abbrev rmX1_isWord : Room := { frames := 4, cells := 0, slots := 0, locals := 280 }
set_option maxHeartbeats 4000000 in
theorem wX1_isWord {l : Launch} {G : GT} {M C : FS} {K : KT} {p2 : Int32} {p3 : Int32} {t : Int32} (hf : fX1_isWord C p2 p3 = some t) : CtI l yX1_isWord (ws_ yX1_isWord cX1_isWord 5 (some .boolean)) rmX1_isWord G [.ref (G.2.2.2 217), .ref (G.2.2.2 391), .int p2, .int p3] (M, C, K.1, K.2.1) t (M, C, K.1, K.2.1) := by
  refine mkI (ty := .boolean) (by decide) (Nat.le_of_ble_eq_true rfl) (fun p e s m a0 below meth c Q FX hw hname hret ls hl => ?_)
  have hl : lv_has ls 5 [(0, .ref (G.2.2.2 217)), (1, .ref (G.2.2.2 391)), (2, .int p2), (3, .int p3)] := hl
  unfold fX1_isWord at hf
  refine lv_iload_n FX.1 FX.2.1 dX1_isWord_0 rfl (lv_at hl 3 rfl) ?_
  refine lv_iload_n FX.1 FX.2.1 dX1_isWord_1 rfl (lv_at hl 2 rfl) ?_
  refine lv_isub FX.1 FX.2.1 dX1_isWord_2 ?_
  refine lv_aload_n FX.1 FX.2.1 dX1_isWord_3 rfl (lv_at hl 0 rfl) ?_
  refine gX1_30 FX hw dX1_isWord_4 ?_
  refine lv_aload_n FX.1 FX.2.1 dX1_isWord_7 rfl (lv_at hl 0 rfl) ?_
  refine gX1_50 FX hw dX1_isWord_8 ?_
  refine lv_isub FX.1 FX.2.1 dX1_isWord_11 ?_
  refine lv_icmp_eq (tgt := 17) FX.1 FX.2.1 dX1_isWord_12 (by decide) (fun c_12 => ?_) (fun c_12 => ?_)
  · have hf := it_pos c_12 hf
    refine lv_iload_n FX.1 FX.2.1 dX1_isWord_17 rfl (lv_at hl 2 rfl) ?_
    refine lv_istore (lv' := [(4, .int p2), (0, .ref (G.2.2.2 217)), (1, .ref (G.2.2.2 391)), (2, .int p2), (3, .int p3)]) FX.1 FX.2.1 dX1_isWord_18 hl (by decide) rfl (fun ls hl => ?_)
    refine bd hf (fun u20 ht hf => ?_)
    obtain ⟨n, hn⟩ := lp_iff.mp ht
    have hR20 : ∀ v, Sum.inl v = u20 → _ := fun v he => ell hf he
    have hX20 : ∀ (H : Heap) (locs : List Loc) (ls : Array Slot) , Sum.inr () = u20 → WS G (M, C, K.1, K.2.1) s H locs → lv_has ls 5 [] → W p l e rmX1_isWord s m a0 below meth c H locs 0 0 Q (F0 m 56 ls []) := by
      intro H locs ls he hw hl
      have hf := elr hf he
      refine lv_iconst (v := 1) FX.1 FX.2.1 dX1_isWord_56 (by decide) ?_
      exact hret _ _ rfl (congrArg (fun z => z) (Option.some.inj hf)) rfl hw dX1_isWord_57
    have hL20 : ∀ (n : Nat) (z20_4 : Int32) (H : Heap) (locs : List Loc) (ls : Array Slot) , lpN (fX1_isWord_L20 C p2 p3) n z20_4 = some u20 → WS G (M, C, K.1, K.2.1) s H locs → lv_has ls 5 [(0, .ref (G.2.2.2 217)), (1, .ref (G.2.2.2 391)), (2, .int p2), (3, .int p3), (4, .int z20_4)] → W p l e rmX1_isWord s m a0 below meth c H locs 0 0 Q (F0 m 20 ls []) := by
      intro n
      induction n with
      | zero => intro z20_4 H locs ls hz; cases hz
      | succ n ih =>
        intro z20_4 H locs ls hz hw hl
        refine bd (show (fX1_isWord_L20 C p2 p3 z20_4).bind _ = some u20 from hz) (fun x20 hf hk20 => ?_)
        unfold fX1_isWord_L20 at hf
        refine lv_iload FX.1 FX.2.1 dX1_isWord_20 (lv_at hl 4 rfl) ?_
        refine lv_iload_n FX.1 FX.2.1 dX1_isWord_22 rfl (lv_at hl 3 rfl) ?_
        refine lv_icmp_ge (tgt := 56) FX.1 FX.2.1 dX1_isWord_23 (by decide) (fun c_23 => ?_) (fun c_23 => ?_)
        · have hf := it_pos c_23 hf
          exact hX20 _ _ _ (lpe hf hk20) hw (lv_sub hl [] rfl)
        · have hf := it_neg c_23 hf
          refine lv_aload_n FX.1 FX.2.1 dX1_isWord_26 rfl (lv_at hl 1 rfl) ?_
          refine lv_iload FX.1 FX.2.1 dX1_isWord_27 (lv_at hl 4 rfl) ?_
          refine bd hf (fun v1 h_v1 hf => ?_)
          refine st_i (i := 0) (by decide) (As := [.int z20_4]) (rest := []) FX hw (wJ4_charAt (i := 0) (by decide) h_v1) (cwV 1 FX.2.2.2.2 (lw_V q698 q699 q700 q145 q701) rfl rfl rfl (by decide +kernel) ⟨Nat.le_of_ble_eq_true rfl, Nat.le_of_ble_eq_true rfl⟩) rfl hl.1 rfl (lv_room (Nat.le_of_ble_eq_true rfl)) dX1_isWord_29 ⟨rfl, rfl⟩ ⟨Nat.zero_le _, Nat.zero_le _⟩ (fun H locs hw => ?_)
          refine lv_aload_n FX.1 FX.2.1 dX1_isWord_32 rfl (lv_at hl 0 rfl) ?_
          refine lv_aload_n FX.1 FX.2.1 dX1_isWord_33 rfl (lv_at hl 0 rfl) ?_
          refine gX1_50 FX hw dX1_isWord_34 ?_
          refine lv_iload FX.1 FX.2.1 dX1_isWord_37 (lv_at hl 4 rfl) ?_
          refine lv_iadd FX.1 FX.2.1 dX1_isWord_39 ?_
          refine lv_iload_n FX.1 FX.2.1 dX1_isWord_40 rfl (lv_at hl 2 rfl) ?_
          refine lv_isub FX.1 FX.2.1 dX1_isWord_41 ?_
          refine bd hf (fun t2 h_t2 hf => ?_)
          refine clU_i0 (As := [.int (((C.1 203) + z20_4) - p2)]) (rest := [.int v1]) FX hw (wX1_at h_t2) (va_cwP (C := "CableDrawer$Reader") 1 FX.2.2.2.2 q670 q2307 (ksel hw (by decide)) q672 q135 q673 ⟨by decide, by decide, by decide +kernel⟩ ⟨Nat.le_of_ble_eq_true rfl, Nat.le_of_ble_eq_true rfl⟩) (fx_obj hw (o := (217, 1, 200, 17)) (by decide)) rfl rfl hl.1 rfl (lv_room (Nat.le_of_ble_eq_true rfl)) dX1_isWord_42 ⟨rfl, rfl⟩ ⟨Nat.zero_le _, Nat.zero_le _⟩ (fun H locs hw => ?_)
          refine lv_icmp_eq (tgt := 50) FX.1 FX.2.1 dX1_isWord_45 (by decide) (fun c_45 => ?_) (fun c_45 => ?_)
          · have hf := it_pos c_45 hf
            refine lv_iinc (v := (z20_4 + 1)) (lv' := [(4, .int (z20_4 + 1)), (0, .ref (G.2.2.2 217)), (1, .ref (G.2.2.2 391)), (2, .int p2), (3, .int p3)]) FX.1 FX.2.1 dX1_isWord_50 hl (k := 4) rfl (congrArg (fun q : Int32 => z20_4 + q) (by decide : Int32.ofInt 1 = 1)) (by decide) rfl (fun ls hl => ?_)
            refine lv_goto (tgt := 20) FX.1 FX.2.1 dX1_isWord_53 (by decide) ?_
            exact ih _ _ _ _ (lpc hf hk20) hw (lv_sub hl [1, 2, 3, 4, 0] rfl)
          · have hf := it_neg c_45 hf
            refine lv_iconst (v := 0) FX.1 FX.2.1 dX1_isWord_48 (by decide) ?_
            have hf := hR20 _ (lpe hf hk20)
            exact hret _ _ rfl (congrArg (fun z => z) (Option.some.inj hf)) rfl hw dX1_isWord_49
    exact hL20 n _ _ _ _ hn hw (lv_sub hl [1, 2, 3, 4, 0] rfl)
  · have hf := it_neg c_12 hf
    refine lv_iconst (v := 0) FX.1 FX.2.1 dX1_isWord_15 (by decide) ?_
    exact hret _ _ rfl (congrArg (fun z => z) (Option.some.inj hf)) rfl hw dX1_isWord_16
abbrev rmX1_in : Room := { frames := 5, cells := 0, slots := 0, locals := 304 }
set_option maxHeartbeats 4000000 in
theorem wX1_in {l : Launch} {G : GT} {M C : FS} {K : KT} {t : Int32} (hf : fX1_in C = some t) : CtI l yX1_in (ws_ yX1_in cX1_in 5 (some .int)) rmX1_in G [.ref (G.2.2.2 217), .ref (G.2.2.2 391)] (M, C, K.1, K.2.1) t (M, C, K.1, K.2.1) := by
  refine mkI (ty := .int) (by decide) (Nat.le_of_ble_eq_true rfl) (fun p e s m a0 below meth c Q FX hw hname hret ls hl => ?_)
  have hl : lv_has ls 5 [(0, .ref (G.2.2.2 217)), (1, .ref (G.2.2.2 391))] := hl
  unfold fX1_in at hf
  refine lv_aload_n FX.1 FX.2.1 dX1_in_0 rfl (lv_at hl 0 rfl) ?_
  refine gX1_56 FX hw dX1_in_1 ?_
  refine lv_iconst (v := 2) FX.1 FX.2.1 dX1_in_4 (by decide) ?_
  refine lv_icmp_eq (tgt := 10) FX.1 FX.2.1 dX1_in_5 (by decide) (fun c_5 => ?_) (fun c_5 => ?_)
  · have hf := it_pos c_5 hf
    refine lv_iconst (v := 0) FX.1 FX.2.1 dX1_in_10 (by decide) ?_
    refine lv_istore_n (lv' := [(2, .int 0), (0, .ref (G.2.2.2 217)), (1, .ref (G.2.2.2 391))]) FX.1 FX.2.1 dX1_in_11 rfl hl (by decide) rfl (fun ls hl => ?_)
    refine lv_iconst (v := 1) FX.1 FX.2.1 dX1_in_12 (by decide) ?_
    refine lv_istore_n (lv' := [(3, .int 1), (2, .int 0), (0, .ref (G.2.2.2 217)), (1, .ref (G.2.2.2 391))]) FX.1 FX.2.1 dX1_in_13 rfl hl (by decide) rfl (fun ls hl => ?_)
    refine bd hf (fun u14 ht hf => ?_)
    obtain ⟨n, hn⟩ := lp_iff.mp ht
    have hR14 : ∀ v, Sum.inl v = u14 → _ := fun v he => ell hf he
    have hX14 : ∀ (H : Heap) (locs : List Loc) (ls : Array Slot) , Sum.inr () = u14 → WS G (M, C, K.1, K.2.1) s H locs → lv_has ls 5 [] → W p l e rmX1_in s m a0 below meth c H locs 0 0 Q (F0 m 66 ls []) := by
      intro H locs ls he hw hl
      have hf := elr hf he
      refine lv_iconst (v := (-1)) FX.1 FX.2.1 dX1_in_66 (by decide) ?_
      exact hret _ _ rfl (congrArg (fun z => z) (Option.some.inj hf)) rfl hw dX1_in_67
    have hL14 : ∀ (n : Nat) (z14_2 : Int32) (z14_3 : Int32) (H : Heap) (locs : List Loc) (ls : Array Slot) , lpN (fun z => fX1_in_L14 C z.1 z.2) n (z14_2, z14_3) = some u14 → WS G (M, C, K.1, K.2.1) s H locs → lv_has ls 5 [(0, .ref (G.2.2.2 217)), (1, .ref (G.2.2.2 391)), (2, .int z14_2), (3, .int z14_3)] → W p l e rmX1_in s m a0 below meth c H locs 0 0 Q (F0 m 14 ls []) := by
      intro n
      induction n with
      | zero => intro z14_2 z14_3 H locs ls hz; cases hz
      | succ n ih =>
        intro z14_2 z14_3 H locs ls hz hw hl
        refine bd (show (fX1_in_L14 C z14_2 z14_3).bind _ = some u14 from hz) (fun x14 hf hk14 => ?_)
        unfold fX1_in_L14 at hf
        refine lv_iload_n FX.1 FX.2.1 dX1_in_14 rfl (lv_at hl 3 rfl) ?_
        refine lv_aload_n FX.1 FX.2.1 dX1_in_15 rfl (lv_at hl 1 rfl) ?_
        refine st_i (i := 0) (by decide) (As := []) (rest := [.int z14_3]) FX hw (wJ4_length (i := 0) (by decide)) (cwV 0 FX.2.2.2.2 (lw_V q688 q689 q690 q145 q691) rfl rfl rfl (by decide +kernel) ⟨Nat.le_of_ble_eq_true rfl, Nat.le_of_ble_eq_true rfl⟩) rfl hl.1 rfl (lv_room (Nat.le_of_ble_eq_true rfl)) dX1_in_16 ⟨rfl, rfl⟩ ⟨Nat.zero_le _, Nat.zero_le _⟩ (fun H locs hw => ?_)
        refine lv_icmp_ge (tgt := 66) FX.1 FX.2.1 dX1_in_19 (by decide) (fun c_19 => ?_) (fun c_19 => ?_)
        · have hf := it_pos c_19 hf
          exact hX14 _ _ _ (lpe hf hk14) hw (lv_sub hl [] rfl)
        · have hf := it_neg c_19 hf
          refine lv_iload_n FX.1 FX.2.1 dX1_in_22 rfl (lv_at hl 3 rfl) ?_
          refine lv_istore (lv' := [(4, .int z14_3), (0, .ref (G.2.2.2 217)), (1, .ref (G.2.2.2 391)), (2, .int z14_2), (3, .int z14_3)]) FX.1 FX.2.1 dX1_in_23 hl (by decide) rfl (fun ls hl => ?_)
          refine bd hf (fun u25 ht hf => ?_)
          obtain ⟨n, hn⟩ := lp_iff.mp ht
          have hX25 : ∀ (t25_4 : Int32) (H : Heap) (locs : List Loc) (ls : Array Slot) , t25_4 = u25 → WS G (M, C, K.1, K.2.1) s H locs → lv_has ls 5 [(0, .ref (G.2.2.2 217)), (1, .ref (G.2.2.2 391)), (2, .int z14_2), (3, .int z14_3), (4, .int t25_4)] → W p l e rmX1_in s m a0 below meth c H locs 0 0 Q (F0 m 42 ls []) := by
            intro t25_4 H locs ls he hw hl
            subst he
            refine lv_aload_n FX.1 FX.2.1 dX1_in_42 rfl (lv_at hl 0 rfl) ?_
            refine lv_aload_n FX.1 FX.2.1 dX1_in_43 rfl (lv_at hl 1 rfl) ?_
            refine lv_iload_n FX.1 FX.2.1 dX1_in_44 rfl (lv_at hl 3 rfl) ?_
            refine lv_iload FX.1 FX.2.1 dX1_in_45 (lv_at hl 4 rfl) ?_
            refine bd hf (fun t2 h_t2 hf => ?_)
            refine clU_i0 (As := [.ref (G.2.2.2 391), .int z14_3, .int t25_4]) (rest := []) FX hw (wX1_isWord h_t2) (va_cwP (C := "CableDrawer$Reader") 3 FX.2.2.2.2 q751 q2309 (ksel hw (by decide)) q753 q135 q754 ⟨by decide, by decide, by decide +kernel⟩ ⟨Nat.le_of_ble_eq_true rfl, Nat.le_of_ble_eq_true rfl⟩) (fx_obj hw (o := (217, 1, 200, 17)) (by decide)) rfl rfl hl.1 rfl (lv_room (Nat.le_of_ble_eq_true rfl)) dX1_in_47 ⟨rfl, rfl⟩ ⟨Nat.zero_le _, Nat.zero_le _⟩ (fun H locs hw => ?_)
            refine lv_if_eq (tgt := 55) FX.1 FX.2.1 dX1_in_50 (by decide) (fun c_50 => ?_) (fun c_50 => ?_)
            · have hf := it_pos c_50 hf
              refine lv_iinc (v := (z14_2 + 1)) (lv' := [(2, .int (z14_2 + 1)), (0, .ref (G.2.2.2 217)), (1, .ref (G.2.2.2 391)), (3, .int z14_3), (4, .int t25_4)]) FX.1 FX.2.1 dX1_in_55 hl (k := 2) rfl (congrArg (fun q : Int32 => z14_2 + q) (by decide : Int32.ofInt 1 = 1)) (by decide) rfl (fun ls hl => ?_)
              refine lv_iload FX.1 FX.2.1 dX1_in_58 (lv_at hl 4 rfl) ?_
              refine lv_iconst (v := 1) FX.1 FX.2.1 dX1_in_60 (by decide) ?_
              refine lv_iadd FX.1 FX.2.1 dX1_in_61 ?_
              refine lv_istore_n (lv' := [(3, .int (t25_4 + 1)), (2, .int (z14_2 + 1)), (0, .ref (G.2.2.2 217)), (1, .ref (G.2.2.2 391)), (4, .int t25_4)]) FX.1 FX.2.1 dX1_in_62 rfl hl (by decide) rfl (fun ls hl => ?_)
              refine lv_goto (tgt := 14) FX.1 FX.2.1 dX1_in_63 (by decide) ?_
              exact ih _ _ _ _ _ (lpc hf hk14) hw (lv_sub hl [2, 3, 1, 0] rfl)
            · have hf := it_neg c_50 hf
              refine lv_iload_n FX.1 FX.2.1 dX1_in_53 rfl (lv_at hl 2 rfl) ?_
              have hf := hR14 _ (lpe hf hk14)
              exact hret _ _ rfl (congrArg (fun z => z) (Option.some.inj hf)) rfl hw dX1_in_54
          have hL25 : ∀ (n : Nat) (z25_4 : Int32) (H : Heap) (locs : List Loc) (ls : Array Slot) , lpN (fX1_in_L25) n z25_4 = some u25 → WS G (M, C, K.1, K.2.1) s H locs → lv_has ls 5 [(0, .ref (G.2.2.2 217)), (1, .ref (G.2.2.2 391)), (2, .int z14_2), (3, .int z14_3), (4, .int z25_4)] → W p l e rmX1_in s m a0 below meth c H locs 0 0 Q (F0 m 25 ls []) := by
            intro n
            induction n with
            | zero => intro z25_4 H locs ls hz; cases hz
            | succ n ih =>
              intro z25_4 H locs ls hz hw hl
              refine bd (show (fX1_in_L25 z25_4).bind _ = some u25 from hz) (fun x25 hf hk25 => ?_)
              unfold fX1_in_L25 at hf
              refine lv_aload_n FX.1 FX.2.1 dX1_in_25 rfl (lv_at hl 1 rfl) ?_
              refine lv_iload FX.1 FX.2.1 dX1_in_26 (lv_at hl 4 rfl) ?_
              refine bd hf (fun v1 h_v1 hf => ?_)
              refine st_i (i := 0) (by decide) (As := [.int z25_4]) (rest := []) FX hw (wJ4_charAt (i := 0) (by decide) h_v1) (cwV 1 FX.2.2.2.2 (lw_V q698 q699 q700 q145 q701) rfl rfl rfl (by decide +kernel) ⟨Nat.le_of_ble_eq_true rfl, Nat.le_of_ble_eq_true rfl⟩) rfl hl.1 rfl (lv_room (Nat.le_of_ble_eq_true rfl)) dX1_in_28 ⟨rfl, rfl⟩ ⟨Nat.zero_le _, Nat.zero_le _⟩ (fun H locs hw => ?_)
              refine lv_bipush (v := 32) FX.1 FX.2.1 dX1_in_31 (by decide) ?_
              refine lv_icmp_eq (tgt := 42) FX.1 FX.2.1 dX1_in_33 (by decide) (fun c_33 => ?_) (fun c_33 => ?_)
              · have hf := it_pos c_33 hf
                exact hX25 _ _ _ _ (lpe hf hk25) hw (lv_sub hl [0, 1, 2, 3, 4] rfl)
              · have hf := it_neg c_33 hf
                refine lv_iinc (v := (z25_4 + 1)) (lv' := [(4, .int (z25_4 + 1)), (0, .ref (G.2.2.2 217)), (1, .ref (G.2.2.2 391)), (2, .int z14_2), (3, .int z14_3)]) FX.1 FX.2.1 dX1_in_36 hl (k := 4) rfl (congrArg (fun q : Int32 => z25_4 + q) (by decide : Int32.ofInt 1 = 1)) (by decide) rfl (fun ls hl => ?_)
                refine lv_goto (tgt := 25) FX.1 FX.2.1 dX1_in_39 (by decide) ?_
                exact ih _ _ _ _ (lpc hf hk25) hw (lv_sub hl [1, 2, 3, 4, 0] rfl)
          exact hL25 n _ _ _ _ hn hw (lv_sub hl [1, 2, 3, 4, 0] rfl)
    exact hL14 n _ _ _ _ _ hn hw (lv_sub hl [2, 3, 1, 0] rfl)
  · have hf := it_neg c_5 hf
    refine lv_iconst (v := (-1)) FX.1 FX.2.1 dX1_in_8 (by decide) ?_
    exact hret _ _ rfl (congrArg (fun z => z) (Option.some.inj hf)) rfl hw dX1_in_9
abbrev rmX1_key : Room := { frames := 6, cells := 0, slots := 0, locals := 328 }
set_option maxHeartbeats 4000000 in
theorem wX1_key {l : Launch} {G : GT} {M C : FS} {K : KT} {t : Int32} (hf : fX1_key C = some t) : CtI l yX1_key (ws_ yX1_key cX1_key 1 (some .int)) rmX1_key G [.ref (G.2.2.2 217)] (M, C, K.1, K.2.1) t (M, C, K.1, K.2.1) := by
  refine mkI (ty := .int) (by decide) (Nat.le_of_ble_eq_true rfl) (fun p e s m a0 below meth c Q FX hw hname hret ls hl => ?_)
  have hl : lv_has ls 1 [(0, .ref (G.2.2.2 217))] := hl
  unfold fX1_key at hf
  refine lv_aload_n FX.1 FX.2.1 dX1_key_0 rfl (lv_at hl 0 rfl) ?_
  refine lv_aload_n FX.1 FX.2.1 dX1_key_1 rfl (lv_at hl 0 rfl) ?_
  refine gX1_15 FX hw dX1_key_2 ?_
  refine bd hf (fun t1 h_t1 hf => ?_)
  refine clU_i0 (As := [.ref (G.2.2.2 391)]) (rest := []) FX hw (wX1_in h_t1) (va_cwU (owner := "CableDrawer$Scan") 1 FX.2.2.2.2 (lw_U q746 q748 q749 q747 q135 q750) rfl rfl rfl rfl ⟨by decide, by decide, by decide +kernel⟩ ⟨Nat.le_of_ble_eq_true rfl, Nat.le_of_ble_eq_true rfl⟩) (fx_obj hw (o := (217, 1, 200, 17)) (by decide)) rfl rfl hl.1 rfl (lv_room (Nat.le_of_ble_eq_true rfl)) dX1_key_5 ⟨rfl, rfl⟩ ⟨Nat.zero_le _, Nat.zero_le _⟩ (fun H locs hw => ?_)
  exact hret _ _ rfl (congrArg (fun z => z) (Option.some.inj hf)) rfl hw dX1_key_8
abbrev rmX3_of : Room := { frames := 0, cells := 0, slots := 0, locals := 0 }
set_option maxHeartbeats 4000000 in
theorem wX3_of {l : Launch} {G : GT} {M C : FS} {K : KT} {p1 : Int32} {p2 : Int32} {t : FS} (hf : fX3_of C p1 p2 = some t) : CtQ l yX3_of (ws_ yX3_of cX3_of 3 (some (.object "CableDrawer$Wrong"))) rmX3_of G [.ref (G.2.2.2 308), .int p1, .int p2] (M, C, K.1, K.2.1) (some (G.2.2.2 308)) (M, t, K.1, K.2.1) := by
  refine mkQ (by decide) (Nat.le_of_ble_eq_true rfl) (Or.inl ⟨_, rfl⟩) (fun p e s m a0 below meth c Q FX hw hname hret ls hl => ?_)
  have hl : lv_has ls 3 [(0, .ref (G.2.2.2 308)), (1, .int p1), (2, .int p2)] := hl
  unfold fX3_of at hf
  refine lv_aload_n FX.1 FX.2.1 dX3_of_0 rfl (lv_at hl 0 rfl) ?_
  refine lv_iload_n FX.1 FX.2.1 dX3_of_1 rfl (lv_at hl 1 rfl) ?_
  refine bd hf (fun C1 h_C1 hf => ?_)
  refine sX3_7 FX hw dX3_of_2 (fun H locs hw => ?_)
  rw [Option.some.inj h_C1] at hw
  refine lv_aload_n FX.1 FX.2.1 dX3_of_5 rfl (lv_at hl 0 rfl) ?_
  refine lv_iload_n FX.1 FX.2.1 dX3_of_6 rfl (lv_at hl 2 rfl) ?_
  refine bd hf (fun C2 h_C2 hf => ?_)
  refine sX3_13 FX hw dX3_of_7 (fun H locs hw => ?_)
  rw [Option.some.inj h_C2] at hw
  refine lv_aload_n FX.1 FX.2.1 dX3_of_10 rfl (lv_at hl 0 rfl) ?_
  exact hret (some (G.2.2.2 308)) _ rfl (congrArg (fun z => (M, z, K.1, K.2.1)) (Option.some.inj hf)) hw dX3_of_11
abbrev rmX1_fail : Room := { frames := 1, cells := 0, slots := 0, locals := 22 }
set_option maxHeartbeats 4000000 in
theorem wX1_fail {l : Launch} {G : GT} {M C : FS} {K : KT} {p1 : Int32} {t : FS} (hf : fX1_fail C p1 = some t) : CtQ l yX1_fail (ws_ yX1_fail cX1_fail 2 (some (.object "CableDrawer$Wrong"))) rmX1_fail G [.ref (G.2.2.2 217), .int p1] (M, C, K.1, K.2.1) (some (G.2.2.2 308)) (M, t, K.1, K.2.1) := by
  refine mkQ (by decide) (Nat.le_of_ble_eq_true rfl) (Or.inl ⟨_, rfl⟩) (fun p e s m a0 below meth c Q FX hw hname hret ls hl => ?_)
  have hl : lv_has ls 2 [(0, .ref (G.2.2.2 217)), (1, .int p1)] := hl
  unfold fX1_fail at hf
  refine lv_aload_n FX.1 FX.2.1 dX1_fail_0 rfl (lv_at hl 0 rfl) ?_
  refine gX1_22 FX hw dX1_fail_1 ?_
  refine lv_aload_n FX.1 FX.2.1 dX1_fail_4 rfl (lv_at hl 0 rfl) ?_
  refine gX1_56 FX hw dX1_fail_5 ?_
  refine lv_iconst (v := 1) FX.1 FX.2.1 dX1_fail_8 (by decide) ?_
  refine lv_icmp_ne (tgt := 16) FX.1 FX.2.1 dX1_fail_9 (by decide) (fun c_9 => ?_) (fun c_9 => ?_)
  · have hf := it_neg c_9 hf
    refine lv_iload_n FX.1 FX.2.1 dX1_fail_16 rfl (lv_at hl 1 rfl) ?_
    refine lv_aload_n FX.1 FX.2.1 dX1_fail_17 rfl (lv_at hl 0 rfl) ?_
    refine gX1_50 FX hw dX1_fail_18 ?_
    refine bd hf (fun t1 h_t1 hf => ?_)
    refine clV_q0 (As := [.int p1, .int (C.1 203)]) (rest := []) FX hw (wX3_of h_t1) (cwV 2 FX.2.2.2.2 (lw_V q766 q767 q768 q140 q769) rfl rfl rfl (by decide +kernel) ⟨Nat.le_of_ble_eq_true rfl, Nat.le_of_ble_eq_true rfl⟩) (fx_obj hw (o := (308, 2, 300, 8)) (by decide)) rfl rfl hl.1 rfl (lv_room (Nat.le_of_ble_eq_true rfl)) dX1_fail_21 ⟨rfl, rfl⟩ ⟨Nat.zero_le _, Nat.zero_le _⟩ (fun H locs hw => ?_)
    exact hret (some (G.2.2.2 308)) _ rfl (congrArg (fun z => (M, z, K.1, K.2.1)) (Option.some.inj hf)) hw dX1_fail_24
  · have hf := it_pos c_9 hf
    refine lv_iconst (v := 1) FX.1 FX.2.1 dX1_fail_12 (by decide) ?_
    refine lv_goto (tgt := 17) FX.1 FX.2.1 dX1_fail_13 (by decide) ?_
    refine lv_aload_n FX.1 FX.2.1 dX1_fail_17 rfl (lv_at hl 0 rfl) ?_
    refine gX1_50 FX hw dX1_fail_18 ?_
    refine bd hf (fun t2 h_t2 hf => ?_)
    refine clV_q0 (As := [.int 1, .int (C.1 203)]) (rest := []) FX hw (wX3_of h_t2) (cwV 2 FX.2.2.2.2 (lw_V q766 q767 q768 q140 q769) rfl rfl rfl (by decide +kernel) ⟨Nat.le_of_ble_eq_true rfl, Nat.le_of_ble_eq_true rfl⟩) (fx_obj hw (o := (308, 2, 300, 8)) (by decide)) rfl rfl hl.1 rfl (lv_room (Nat.le_of_ble_eq_true rfl)) dX1_fail_21 ⟨rfl, rfl⟩ ⟨Nat.zero_le _, Nat.zero_le _⟩ (fun H locs hw => ?_)
    exact hret (some (G.2.2.2 308)) _ rfl (congrArg (fun z => (M, z, K.1, K.2.1)) (Option.some.inj hf)) hw dX1_fail_24
abbrev rmX1_need : Room := { frames := 2, cells := 0, slots := 0, locals := 43 }
set_option maxHeartbeats 4000000 in
theorem wX1_need {l : Launch} {G : GT} {M C : FS} {K : KT} {p1 : Int32} {t : (Option Unit × FS)} (hf : fX1_need C p1 = some t) : FtV l yX1_need (ws_ yX1_need cX1_need 2 none) rmX1_need G [.ref (G.2.2.2 217), .int p1] (M, C, K.1, K.2.1) t.1 (M, t.2, K.1, K.2.1) 0 0 := by
  refine xkV (by decide) (Nat.le_of_ble_eq_true rfl) (fun p e s m a0 below meth c Q FX hw hname hret hthr ls hl => ?_)
  have hl : lv_has ls 2 [(0, .ref (G.2.2.2 217)), (1, .int p1)] := hl
  unfold fX1_need at hf
  refine lv_iload_n FX.1 FX.2.1 dX1_need_0 rfl (lv_at hl 1 rfl) ?_
  refine lv_if_ne (tgt := 10) FX.1 FX.2.1 dX1_need_1 (by decide) (fun c_1 => ?_) (fun c_1 => ?_)
  · have hf := it_neg c_1 hf
    exact hret () _ (congrArg (fun z => z.1) (Option.some.inj hf)) (congrArg (fun z => (M, z.2, K.1, K.2.1)) (Option.some.inj hf)) hw dX1_need_10
  · have hf := it_pos c_1 hf
    refine lv_aload_n FX.1 FX.2.1 dX1_need_4 rfl (lv_at hl 0 rfl) ?_
    refine lv_iconst (v := 2) FX.1 FX.2.1 dX1_need_5 (by decide) ?_
    refine bd hf (fun t1 h_t1 hf => ?_)
    refine clU_q0 (As := [.int 2]) (rest := []) FX hw (wX1_fail h_t1) (va_cwU (owner := "CableDrawer$Scan") 1 FX.2.2.2.2 (lw_U q761 q763 q764 q762 q135 q765) rfl rfl rfl rfl ⟨by decide, by decide, by decide +kernel⟩ ⟨Nat.le_of_ble_eq_true rfl, Nat.le_of_ble_eq_true rfl⟩) (fx_obj hw (o := (217, 1, 200, 17)) (by decide)) rfl rfl hl.1 rfl (lv_room (Nat.le_of_ble_eq_true rfl)) dX1_need_6 ⟨rfl, rfl⟩ ⟨Nat.zero_le _, Nat.zero_le _⟩ (fun H locs hw => ?_)
    refine vy_athrow FX.1 FX.2.1 dX1_need_9 ?_
    refine vy_cast rfl rfl ?_
    exact hthr _ (congrArg (fun z => z.1) (Option.some.inj hf)) (congrArg (fun z => (M, z.2, K.1, K.2.1)) (Option.some.inj hf)) hw
abbrev rmX1_name : Room := { frames := 6, cells := 0, slots := 0, locals := 328 }
set_option maxHeartbeats 4000000 in
theorem wX1_name {l : Launch} {G : GT} {M C : FS} {K : KT} {t : (Option Int64 × FS)} (hf : fX1_name C = some t) : FtL l yX1_name (ws_ yX1_name cX1_name 4 (some .long)) rmX1_name G [.ref (G.2.2.2 217)] (M, C, K.1, K.2.1) t.1 (M, t.2, K.1, K.2.1) 0 0 := by
  refine xkL (by decide) (Nat.le_of_ble_eq_true rfl) (fun p e s m a0 below meth c Q FX hw hname hret hthr ls hl => ?_)
  have hl : lv_has ls 4 [(0, .ref (G.2.2.2 217))] := hl
  unfold fX1_name at hf
  refine lv_aload_n FX.1 FX.2.1 dX1_name_0 rfl (lv_at hl 0 rfl) ?_
  refine lv_aload_n FX.1 FX.2.1 dX1_name_1 rfl (lv_at hl 0 rfl) ?_
  refine gX1_56 FX hw dX1_name_2 ?_
  refine lv_iconst (v := 2) FX.1 FX.2.1 dX1_name_5 (by decide) ?_
  have hK38 : ∀ (y1_38 : Int32) (H : Heap) (locs : List Loc) (ls : Array Slot) , fX1_name_J38 C y1_38 = some t → WS G (M, C, K.1, K.2.1) s H locs → lv_has ls 4 [(0, .ref (G.2.2.2 217))] → W p l e rmX1_name s m a0 below meth c H locs 0 0 Q (F0 m 38 ls [.int y1_38, .ref (G.2.2.2 217)]) := by
    intro y1_38 H locs ls hf hw hl
    unfold fX1_name_J38 at hf
    refine bd hf (fun t1 h_t1 hf => ?_)
    refine fU_v (As := [.int y1_38]) (rest := []) FX hw (wX1_need h_t1) (va_cwU (owner := "CableDrawer$Scan") 1 FX.2.2.2.2 (lw_U q791 q2310 q2311 q759 q135 q760) rfl rfl rfl rfl ⟨by decide, by decide, by decide +kernel⟩ ⟨Nat.le_of_ble_eq_true rfl, Nat.le_of_ble_eq_true rfl⟩) (fx_obj hw (o := (217, 1, 200, 17)) (by decide)) rfl rfl hl.1 rfl (lv_room (Nat.le_of_ble_eq_true rfl)) dX1_name_38 ⟨Nat.zero_le _, Nat.zero_le _⟩ (fun hn H locs hw => ?_) (fun v_38 hv_38 H locs hw => ?_)
    · have hf := it_pos hn hf
      refine vy_cast rfl rfl ?_
      exact hthr _ (congrArg (fun z => z.1) (Option.some.inj hf)) (congrArg (fun z => (M, z.2, K.1, K.2.1)) (Option.some.inj hf)) hw
    · have hf := it_neg (by rw [hv_38]; exact fun h => by cases h) hf
      refine lv_lconst (v := 0) FX.1 FX.2.1 dX1_name_41 (by decide) ?_
      refine lv_lstore_n (lv' := [(1, .long 0), (0, .ref (G.2.2.2 217))]) FX.1 FX.2.1 dX1_name_42 rfl hl (by decide) rfl (fun ls hl => ?_)
      refine lv_aload_n FX.1 FX.2.1 dX1_name_43 rfl (lv_at hl 1 rfl) ?_
      refine gX1_50 FX hw dX1_name_44 ?_
      refine lv_istore_n (lv' := [(3, .int (t1.2.1 203)), (1, .long 0), (0, .ref (G.2.2.2 217))]) FX.1 FX.2.1 dX1_name_47 rfl hl (by decide) rfl (fun ls hl => ?_)
      refine bd hf (fun u48 ht hf => ?_)
      obtain ⟨n, hn⟩ := lp_iff.mp ht
      have hX48 : ∀ (t48_1 : Int64) (H : Heap) (locs : List Loc) (ls : Array Slot) , t48_1 = u48 → WS G (M, t1.2, K.1, K.2.1) s H locs → lv_has ls 4 [(1, .long t48_1)] → W p l e rmX1_name s m a0 below meth c H locs 0 0 Q (F0 m 74 ls []) := by
        intro t48_1 H locs ls he hw hl
        subst he
        refine lv_lload_n FX.1 FX.2.1 dX1_name_74 rfl (lv_at hl 0 rfl) ?_
        exact hret t48_1 _ (congrArg (fun z => z.1) (Option.some.inj hf)) (congrArg (fun z => (M, z.2, K.1, K.2.1)) (Option.some.inj hf)) hw dX1_name_75
      have hL48 : ∀ (n : Nat) (z48_1 : Int64) (z48_3 : Int32) (H : Heap) (locs : List Loc) (ls : Array Slot) , lpN (fun z => fX1_name_L48 t1 z.1 z.2) n (z48_1, z48_3) = some u48 → WS G (M, t1.2, K.1, K.2.1) s H locs → lv_has ls 4 [(0, .ref (G.2.2.2 217)), (1, .long z48_1), (3, .int z48_3)] → W p l e rmX1_name s m a0 below meth c H locs 0 0 Q (F0 m 48 ls []) := by
        intro n
        induction n with
        | zero => intro z48_1 z48_3 H locs ls hz; cases hz
        | succ n ih =>
          intro z48_1 z48_3 H locs ls hz hw hl
          refine bd (show (fX1_name_L48 t1 z48_1 z48_3).bind _ = some u48 from hz) (fun x48 hf hk48 => ?_)
          unfold fX1_name_L48 at hf
          refine lv_iload_n FX.1 FX.2.1 dX1_name_48 rfl (lv_at hl 2 rfl) ?_
          refine lv_aload_n FX.1 FX.2.1 dX1_name_49 rfl (lv_at hl 0 rfl) ?_
          refine gX1_30 FX hw dX1_name_50 ?_
          refine lv_icmp_ge (tgt := 74) FX.1 FX.2.1 dX1_name_53 (by decide) (fun c_53 => ?_) (fun c_53 => ?_)
          · have hf := it_pos c_53 hf
            exact hX48 _ _ _ _ (lpe hf hk48) hw (lv_sub hl [1] rfl)
          · have hf := it_neg c_53 hf
            refine lv_lload_n FX.1 FX.2.1 dX1_name_56 rfl (lv_at hl 1 rfl) ?_
            refine lv_bipush (v := 8) FX.1 FX.2.1 dX1_name_57 (by decide) ?_
            refine lv_lshl (v := (z48_1 <<< ((8 : Int32).toInt64 &&& 63))) FX.1 FX.2.1 dX1_name_59 rfl ?_
            refine lv_aload_n FX.1 FX.2.1 dX1_name_60 rfl (lv_at hl 0 rfl) ?_
            refine lv_iload_n FX.1 FX.2.1 dX1_name_61 rfl (lv_at hl 2 rfl) ?_
            refine bd hf (fun t2 h_t2 hf => ?_)
            refine clU_i0 (As := [.int z48_3]) (rest := [.long (z48_1 <<< ((8 : Int32).toInt64 &&& 63))]) FX hw (wX1_at h_t2) (va_cwP (C := "CableDrawer$Reader") 1 FX.2.2.2.2 q670 q2307 (ksel hw (by decide)) q672 q135 q673 ⟨by decide, by decide, by decide +kernel⟩ ⟨Nat.le_of_ble_eq_true rfl, Nat.le_of_ble_eq_true rfl⟩) (fx_obj hw (o := (217, 1, 200, 17)) (by decide)) rfl rfl hl.1 rfl (lv_room (Nat.le_of_ble_eq_true rfl)) dX1_name_62 ⟨rfl, rfl⟩ ⟨Nat.zero_le _, Nat.zero_le _⟩ (fun H locs hw => ?_)
            refine lv_i2l (v := t2.toInt64) FX.1 FX.2.1 dX1_name_65 rfl ?_
            refine lv_lor FX.1 FX.2.1 dX1_name_66 ?_
            refine lv_lstore_n (lv' := [(1, .long ((z48_1 <<< ((8 : Int32).toInt64 &&& 63)) ||| t2.toInt64)), (0, .ref (G.2.2.2 217)), (3, .int z48_3)]) FX.1 FX.2.1 dX1_name_67 rfl hl (by decide) rfl (fun ls hl => ?_)
            refine lv_iinc (v := (z48_3 + 1)) (lv' := [(3, .int (z48_3 + 1)), (1, .long ((z48_1 <<< ((8 : Int32).toInt64 &&& 63)) ||| t2.toInt64)), (0, .ref (G.2.2.2 217))]) FX.1 FX.2.1 dX1_name_68 hl (k := 2) rfl (congrArg (fun q : Int32 => z48_3 + q) (by decide : Int32.ofInt 1 = 1)) (by decide) rfl (fun ls hl => ?_)
            refine lv_goto (tgt := 48) FX.1 FX.2.1 dX1_name_71 (by decide) ?_
            exact ih _ _ _ _ _ (lpc hf hk48) hw (lv_sub hl [2, 1, 0] rfl)
      exact hL48 n _ _ _ _ _ hn hw (lv_sub hl [2, 1, 0] rfl)
  refine lv_icmp_ne (tgt := 37) FX.1 FX.2.1 dX1_name_6 (by decide) (fun c_6 => ?_) (fun c_6 => ?_)
  · have hf := it_neg c_6 hf
    refine lv_iconst (v := 0) FX.1 FX.2.1 dX1_name_37 (by decide) ?_
    exact hK38 _ _ _ _ hf hw (lv_sub hl [0] rfl)
  · have hf := it_pos c_6 hf
    refine lv_aload_n FX.1 FX.2.1 dX1_name_9 rfl (lv_at hl 0 rfl) ?_
    refine gX1_30 FX hw dX1_name_10 ?_
    refine lv_aload_n FX.1 FX.2.1 dX1_name_13 rfl (lv_at hl 0 rfl) ?_
    refine gX1_50 FX hw dX1_name_14 ?_
    refine lv_isub FX.1 FX.2.1 dX1_name_17 ?_
    refine lv_bipush (v := 8) FX.1 FX.2.1 dX1_name_18 (by decide) ?_
    refine lv_icmp_gt (tgt := 37) FX.1 FX.2.1 dX1_name_20 (by decide) (fun c_20 => ?_) (fun c_20 => ?_)
    · have hf := it_pos c_20 hf
      refine lv_iconst (v := 0) FX.1 FX.2.1 dX1_name_37 (by decide) ?_
      exact hK38 _ _ _ _ hf hw (lv_sub hl [0] rfl)
    · have hf := it_neg c_20 hf
      refine lv_aload_n FX.1 FX.2.1 dX1_name_23 rfl (lv_at hl 0 rfl) ?_
      refine va_ldcS FX.1 FX.2.1 FX.2.2.2.1 (ksf hw).2.1 dX1_name_24 ?_
      refine bd hf (fun t3 h_t3 hf => ?_)
      refine clU_i0 (As := [.ref (G.2.2.2 391)]) (rest := [.ref (G.2.2.2 217)]) FX hw (wX1_in h_t3) (va_cwU (owner := "CableDrawer$Scan") 1 FX.2.2.2.2 (lw_U q746 q748 q749 q747 q135 q750) rfl rfl rfl rfl ⟨by decide, by decide, by decide +kernel⟩ ⟨Nat.le_of_ble_eq_true rfl, Nat.le_of_ble_eq_true rfl⟩) (fx_obj hw (o := (217, 1, 200, 17)) (by decide)) rfl rfl hl.1 rfl (lv_room (Nat.le_of_ble_eq_true rfl)) dX1_name_26 ⟨rfl, rfl⟩ ⟨Nat.zero_le _, Nat.zero_le _⟩ (fun H locs hw => ?_)
      refine lv_iconst (v := (-1)) FX.1 FX.2.1 dX1_name_29 (by decide) ?_
      refine lv_icmp_ne (tgt := 37) FX.1 FX.2.1 dX1_name_30 (by decide) (fun c_30 => ?_) (fun c_30 => ?_)
      · have hf := it_neg c_30 hf
        refine lv_iconst (v := 0) FX.1 FX.2.1 dX1_name_37 (by decide) ?_
        exact hK38 _ _ _ _ hf hw (lv_sub hl [0] rfl)
      · have hf := it_pos c_30 hf
        refine lv_iconst (v := 1) FX.1 FX.2.1 dX1_name_33 (by decide) ?_
        refine lv_goto (tgt := 38) FX.1 FX.2.1 dX1_name_34 (by decide) ?_
        exact hK38 _ _ _ _ hf hw (lv_sub hl [0] rfl)
abbrev rmX1_number : Room := { frames := 3, cells := 0, slots := 0, locals := 64 }
set_option maxHeartbeats 4000000 in
theorem wX1_number {l : Launch} {G : GT} {M C : FS} {K : KT} {p1 : Int32} {p2 : Int32} {t : (Option Int32 × FS)} (hf : fX1_number C p1 p2 = some t) : FtI l yX1_number (ws_ yX1_number cX1_number 3 (some .int)) rmX1_number G [.ref (G.2.2.2 217), .int p1, .int p2] (M, C, K.1, K.2.1) t.1 (M, t.2, K.1, K.2.1) 0 0 := by
  refine xkI (ty := .int) (by decide) (Nat.le_of_ble_eq_true rfl) (fun p e s m a0 below meth c Q FX hw hname hret hthr ls hl => ?_)
  have hl : lv_has ls 3 [(0, .ref (G.2.2.2 217)), (1, .int p1), (2, .int p2)] := hl
  unfold fX1_number at hf
  refine lv_aload_n FX.1 FX.2.1 dX1_number_0 rfl (lv_at hl 0 rfl) ?_
  refine lv_aload_n FX.1 FX.2.1 dX1_number_1 rfl (lv_at hl 0 rfl) ?_
  refine gX1_56 FX hw dX1_number_2 ?_
  refine lv_iconst (v := 3) FX.1 FX.2.1 dX1_number_5 (by decide) ?_
  have hK14 : ∀ (y1_14 : Int32) (H : Heap) (locs : List Loc) (ls : Array Slot) , fX1_number_J14 C p1 p2 y1_14 = some t → WS G (M, C, K.1, K.2.1) s H locs → lv_has ls 3 [(0, .ref (G.2.2.2 217)), (1, .int p1), (2, .int p2)] → W p l e rmX1_number s m a0 below meth c H locs 0 0 Q (F0 m 14 ls [.int y1_14, .ref (G.2.2.2 217)]) := by
    intro y1_14 H locs ls hf hw hl
    unfold fX1_number_J14 at hf
    refine bd hf (fun t1 h_t1 hf => ?_)
    refine fU_v (As := [.int y1_14]) (rest := []) FX hw (wX1_need h_t1) (va_cwU (owner := "CableDrawer$Scan") 1 FX.2.2.2.2 (lw_U q791 q2310 q2311 q759 q135 q760) rfl rfl rfl rfl ⟨by decide, by decide, by decide +kernel⟩ ⟨Nat.le_of_ble_eq_true rfl, Nat.le_of_ble_eq_true rfl⟩) (fx_obj hw (o := (217, 1, 200, 17)) (by decide)) rfl rfl hl.1 rfl (lv_room (Nat.le_of_ble_eq_true rfl)) dX1_number_14 ⟨Nat.zero_le _, Nat.zero_le _⟩ (fun hn H locs hw => ?_) (fun v_14 hv_14 H locs hw => ?_)
    · have hf := it_pos hn hf
      refine vy_cast rfl rfl ?_
      exact hthr _ (congrArg (fun z => z.1) (Option.some.inj hf)) (congrArg (fun z => (M, z.2, K.1, K.2.1)) (Option.some.inj hf)) hw
    · have hf := it_neg (by rw [hv_14]; exact fun h => by cases h) hf
      refine lv_aload_n FX.1 FX.2.1 dX1_number_17 rfl (lv_at hl 0 rfl) ?_
      refine gX1_53 FX hw dX1_number_18 ?_
      refine lv_iload_n FX.1 FX.2.1 dX1_number_21 rfl (lv_at hl 1 rfl) ?_
      refine lv_icmp_lt (tgt := 33) FX.1 FX.2.1 dX1_number_22 (by decide) (fun c_22 => ?_) (fun c_22 => ?_)
      · have hf := it_pos c_22 hf
        refine lv_aload_n FX.1 FX.2.1 dX1_number_33 rfl (lv_at hl 0 rfl) ?_
        refine lv_iconst (v := 4) FX.1 FX.2.1 dX1_number_34 (by decide) ?_
        refine bd hf (fun t2 h_t2 hf => ?_)
        refine clU_q0 (As := [.int 4]) (rest := []) FX hw (wX1_fail h_t2) (va_cwU (owner := "CableDrawer$Scan") 1 FX.2.2.2.2 (lw_U q761 q763 q764 q762 q135 q765) rfl rfl rfl rfl ⟨by decide, by decide, by decide +kernel⟩ ⟨Nat.le_of_ble_eq_true rfl, Nat.le_of_ble_eq_true rfl⟩) (fx_obj hw (o := (217, 1, 200, 17)) (by decide)) rfl rfl hl.1 rfl (lv_room (Nat.le_of_ble_eq_true rfl)) dX1_number_35 ⟨rfl, rfl⟩ ⟨Nat.zero_le _, Nat.zero_le _⟩ (fun H locs hw => ?_)
        refine vy_athrow FX.1 FX.2.1 dX1_number_38 ?_
        refine vy_cast rfl rfl ?_
        exact hthr _ (congrArg (fun z => z.1) (Option.some.inj hf)) (congrArg (fun z => (M, z.2, K.1, K.2.1)) (Option.some.inj hf)) hw
      · have hf := it_neg c_22 hf
        refine lv_aload_n FX.1 FX.2.1 dX1_number_25 rfl (lv_at hl 0 rfl) ?_
        refine gX1_53 FX hw dX1_number_26 ?_
        refine lv_iload_n FX.1 FX.2.1 dX1_number_29 rfl (lv_at hl 2 rfl) ?_
        refine lv_icmp_le (tgt := 39) FX.1 FX.2.1 dX1_number_30 (by decide) (fun c_30 => ?_) (fun c_30 => ?_)
        · have hf := it_pos c_30 hf
          refine lv_aload_n FX.1 FX.2.1 dX1_number_39 rfl (lv_at hl 0 rfl) ?_
          refine gX1_53 FX hw dX1_number_40 ?_
          exact hret (t1.2.1 205) _ rfl (congrArg (fun z => z.1) (Option.some.inj hf)) (congrArg (fun z => (M, z.2, K.1, K.2.1)) (Option.some.inj hf)) hw dX1_number_43
        · have hf := it_neg c_30 hf
          refine lv_aload_n FX.1 FX.2.1 dX1_number_33 rfl (lv_at hl 0 rfl) ?_
          refine lv_iconst (v := 4) FX.1 FX.2.1 dX1_number_34 (by decide) ?_
          refine bd hf (fun t3 h_t3 hf => ?_)
          refine clU_q0 (As := [.int 4]) (rest := []) FX hw (wX1_fail h_t3) (va_cwU (owner := "CableDrawer$Scan") 1 FX.2.2.2.2 (lw_U q761 q763 q764 q762 q135 q765) rfl rfl rfl rfl ⟨by decide, by decide, by decide +kernel⟩ ⟨Nat.le_of_ble_eq_true rfl, Nat.le_of_ble_eq_true rfl⟩) (fx_obj hw (o := (217, 1, 200, 17)) (by decide)) rfl rfl hl.1 rfl (lv_room (Nat.le_of_ble_eq_true rfl)) dX1_number_35 ⟨rfl, rfl⟩ ⟨Nat.zero_le _, Nat.zero_le _⟩ (fun H locs hw => ?_)
          refine vy_athrow FX.1 FX.2.1 dX1_number_38 ?_
          refine vy_cast rfl rfl ?_
          exact hthr _ (congrArg (fun z => z.1) (Option.some.inj hf)) (congrArg (fun z => (M, z.2, K.1, K.2.1)) (Option.some.inj hf)) hw
  refine lv_icmp_ne (tgt := 13) FX.1 FX.2.1 dX1_number_6 (by decide) (fun c_6 => ?_) (fun c_6 => ?_)
  · have hf := it_neg c_6 hf
    refine lv_iconst (v := 0) FX.1 FX.2.1 dX1_number_13 (by decide) ?_
    exact hK14 _ _ _ _ hf hw (lv_sub hl [0, 1, 2] rfl)
  · have hf := it_pos c_6 hf
    refine lv_iconst (v := 1) FX.1 FX.2.1 dX1_number_9 (by decide) ?_
    refine lv_goto (tgt := 14) FX.1 FX.2.1 dX1_number_10 (by decide) ?_
    exact hK14 _ _ _ _ hf hw (lv_sub hl [0, 1, 2] rfl)
abbrev rmX1_passed : Room := { frames := 6, cells := 0, slots := 0, locals := 323 }
set_option maxHeartbeats 4000000 in
theorem wX1_passed {l : Launch} {G : GT} {M C : FS} {K : KT} {p1 : Int32} {p2 : Int32} {t : (Option Int32 × FS)} (hf : fX1_passed C p1 p2 = some t) : FtI l yX1_passed (ws_ yX1_passed cX1_passed 4 (some .int)) rmX1_passed G [.ref (G.2.2.2 217), .int p1, .int p2] (M, C, K.1, K.2.1) t.1 (M, t.2, K.1, K.2.1) 0 0 := by
  refine xkI (ty := .int) (by decide) (Nat.le_of_ble_eq_true rfl) (fun p e s m a0 below meth c Q FX hw hname hret hthr ls hl => ?_)
  have hl : lv_has ls 4 [(0, .ref (G.2.2.2 217)), (1, .int p1), (2, .int p2)] := hl
  unfold fX1_passed at hf
  refine lv_aload_n FX.1 FX.2.1 dX1_passed_0 rfl (lv_at hl 0 rfl) ?_
  refine lv_iload_n FX.1 FX.2.1 dX1_passed_1 rfl (lv_at hl 1 rfl) ?_
  refine lv_iload_n FX.1 FX.2.1 dX1_passed_2 rfl (lv_at hl 2 rfl) ?_
  refine bd hf (fun t1 h_t1 hf => ?_)
  refine fU_i (As := [.int p1, .int p2]) (rest := []) FX hw (wX1_number h_t1) (va_cwU (owner := "CableDrawer$Scan") 2 FX.2.2.2.2 (lw_U q866 q868 q869 q867 q135 q870) rfl rfl rfl rfl ⟨by decide, by decide, by decide +kernel⟩ ⟨Nat.le_of_ble_eq_true rfl, Nat.le_of_ble_eq_true rfl⟩) (fx_obj hw (o := (217, 1, 200, 17)) (by decide)) rfl rfl hl.1 rfl (lv_room (Nat.le_of_ble_eq_true rfl)) dX1_passed_3 ⟨Nat.zero_le _, Nat.zero_le _⟩ (fun hn H locs hw => ?_) (fun v2 hv_3 H locs hw => ?_)
  · have hf := it_pos hn hf
    refine vy_cast rfl rfl ?_
    exact hthr _ (congrArg (fun z => z.1) (Option.some.inj hf)) (congrArg (fun z => (M, z.2, K.1, K.2.1)) (Option.some.inj hf)) hw
  · have hf := it_neg (by rw [hv_3]; exact fun h => by cases h) hf
    have hf := bsome hf hv_3
    refine lv_istore_n (lv' := [(3, .int v2), (0, .ref (G.2.2.2 217)), (1, .int p1), (2, .int p2)]) FX.1 FX.2.1 dX1_passed_6 rfl hl (by decide) rfl (fun ls hl => ?_)
    refine lv_aload_n FX.1 FX.2.1 dX1_passed_7 rfl (lv_at hl 1 rfl) ?_
    refine bd hf (fun t3 h_t3 hf => ?_)
    refine clU_v0 (As := []) (rest := []) FX hw (wX1_next h_t3) (va_cwU (owner := "CableDrawer$Scan") 0 FX.2.2.2.2 (lw_U q665 q667 q668 q666 q135 q669) rfl rfl rfl rfl ⟨by decide, by decide, by decide +kernel⟩ ⟨Nat.le_of_ble_eq_true rfl, Nat.le_of_ble_eq_true rfl⟩) (fx_obj hw (o := (217, 1, 200, 17)) (by decide)) rfl rfl hl.1 rfl (lv_room (Nat.le_of_ble_eq_true rfl)) dX1_passed_8 ⟨rfl, rfl⟩ ⟨Nat.zero_le _, Nat.zero_le _⟩ (fun H locs hw => ?_)
    refine lv_iload_n FX.1 FX.2.1 dX1_passed_11 rfl (lv_at hl 0 rfl) ?_
    exact hret v2 _ rfl (congrArg (fun z => z.1) (Option.some.inj hf)) (congrArg (fun z => (M, z.2, K.1, K.2.1)) (Option.some.inj hf)) hw dX1_passed_12
abbrev rmX1_is : Room := { frames := 0, cells := 0, slots := 0, locals := 0 }
set_option maxHeartbeats 4000000 in
theorem wX1_is {l : Launch} {G : GT} {M C : FS} {K : KT} {p1 : Int32} {t : Int32} (hf : fX1_is C p1 = some t) : CtI l yX1_is (ws_ yX1_is cX1_is 2 (some .boolean)) rmX1_is G [.ref (G.2.2.2 217), .int p1] (M, C, K.1, K.2.1) t (M, C, K.1, K.2.1) := by
  refine mkI (ty := .boolean) (by decide) (Nat.le_of_ble_eq_true rfl) (fun p e s m a0 below meth c Q FX hw hname hret ls hl => ?_)
  have hl : lv_has ls 2 [(0, .ref (G.2.2.2 217)), (1, .int p1)] := hl
  unfold fX1_is at hf
  refine lv_aload_n FX.1 FX.2.1 dX1_is_0 rfl (lv_at hl 0 rfl) ?_
  refine gX1_56 FX hw dX1_is_1 ?_
  refine lv_iconst (v := 4) FX.1 FX.2.1 dX1_is_4 (by decide) ?_
  refine lv_icmp_ne (tgt := 20) FX.1 FX.2.1 dX1_is_5 (by decide) (fun c_5 => ?_) (fun c_5 => ?_)
  · have hf := it_neg c_5 hf
    refine lv_iconst (v := 0) FX.1 FX.2.1 dX1_is_20 (by decide) ?_
    exact hret _ _ rfl (congrArg (fun z => z) (Option.some.inj hf)) rfl hw dX1_is_21
  · have hf := it_pos c_5 hf
    refine lv_aload_n FX.1 FX.2.1 dX1_is_8 rfl (lv_at hl 0 rfl) ?_
    refine gX1_53 FX hw dX1_is_9 ?_
    refine lv_iload_n FX.1 FX.2.1 dX1_is_12 rfl (lv_at hl 1 rfl) ?_
    refine lv_icmp_ne (tgt := 20) FX.1 FX.2.1 dX1_is_13 (by decide) (fun c_13 => ?_) (fun c_13 => ?_)
    · have hf := it_neg c_13 hf
      refine lv_iconst (v := 0) FX.1 FX.2.1 dX1_is_20 (by decide) ?_
      exact hret _ _ rfl (congrArg (fun z => z) (Option.some.inj hf)) rfl hw dX1_is_21
    · have hf := it_pos c_13 hf
      refine lv_iconst (v := 1) FX.1 FX.2.1 dX1_is_16 (by decide) ?_
      refine lv_goto (tgt := 21) FX.1 FX.2.1 dX1_is_17 (by decide) ?_
      exact hret _ _ rfl (congrArg (fun z => z) (Option.some.inj hf)) rfl hw dX1_is_21
abbrev rmX1_closes : Room := { frames := 6, cells := 0, slots := 0, locals := 323 }
set_option maxHeartbeats 4000000 in
theorem wX1_closes {l : Launch} {G : GT} {M C : FS} {K : KT} {t : (Option Unit × FS)} (hf : fX1_closes C = some t) : FtV l yX1_closes (ws_ yX1_closes cX1_closes 1 none) rmX1_closes G [.ref (G.2.2.2 217)] (M, C, K.1, K.2.1) t.1 (M, t.2, K.1, K.2.1) 0 0 := by
  refine xkV (by decide) (Nat.le_of_ble_eq_true rfl) (fun p e s m a0 below meth c Q FX hw hname hret hthr ls hl => ?_)
  have hl : lv_has ls 1 [(0, .ref (G.2.2.2 217))] := hl
  unfold fX1_closes at hf
  refine lv_aload_n FX.1 FX.2.1 dX1_closes_0 rfl (lv_at hl 0 rfl) ?_
  refine lv_aload_n FX.1 FX.2.1 dX1_closes_1 rfl (lv_at hl 0 rfl) ?_
  refine lv_bipush (v := 59) FX.1 FX.2.1 dX1_closes_2 (by decide) ?_
  refine bd hf (fun t1 h_t1 hf => ?_)
  refine clU_i0 (As := [.int 59]) (rest := [.ref (G.2.2.2 217)]) FX hw (wX1_is h_t1) (va_cwU (owner := "CableDrawer$Scan") 1 FX.2.2.2.2 (lw_U q957 q2312 q2313 q949 q135 q950) rfl rfl rfl rfl ⟨by decide, by decide, by decide +kernel⟩ ⟨Nat.le_of_ble_eq_true rfl, Nat.le_of_ble_eq_true rfl⟩) (fx_obj hw (o := (217, 1, 200, 17)) (by decide)) rfl rfl hl.1 rfl (lv_room (Nat.le_of_ble_eq_true rfl)) dX1_closes_4 ⟨rfl, rfl⟩ ⟨Nat.zero_le _, Nat.zero_le _⟩ (fun H locs hw => ?_)
  refine bd hf (fun t2 h_t2 hf => ?_)
  refine fU_v (As := [.int t1]) (rest := []) FX hw (wX1_need h_t2) (va_cwU (owner := "CableDrawer$Scan") 1 FX.2.2.2.2 (lw_U q791 q2310 q2311 q759 q135 q760) rfl rfl rfl rfl ⟨by decide, by decide, by decide +kernel⟩ ⟨Nat.le_of_ble_eq_true rfl, Nat.le_of_ble_eq_true rfl⟩) (fx_obj hw (o := (217, 1, 200, 17)) (by decide)) rfl rfl hl.1 rfl (lv_room (Nat.le_of_ble_eq_true rfl)) dX1_closes_7 ⟨Nat.zero_le _, Nat.zero_le _⟩ (fun hn H locs hw => ?_) (fun v_7 hv_7 H locs hw => ?_)
  · have hf := it_pos hn hf
    refine vy_cast rfl rfl ?_
    exact hthr _ (congrArg (fun z => z.1) (Option.some.inj hf)) (congrArg (fun z => (M, z.2, K.1, K.2.1)) (Option.some.inj hf)) hw
  · have hf := it_neg (by rw [hv_7]; exact fun h => by cases h) hf
    refine lv_aload_n FX.1 FX.2.1 dX1_closes_10 rfl (lv_at hl 0 rfl) ?_
    refine bd hf (fun t3 h_t3 hf => ?_)
    refine clU_v0 (As := []) (rest := []) FX hw (wX1_next h_t3) (va_cwU (owner := "CableDrawer$Scan") 0 FX.2.2.2.2 (lw_U q665 q667 q668 q666 q135 q669) rfl rfl rfl rfl ⟨by decide, by decide, by decide +kernel⟩ ⟨Nat.le_of_ble_eq_true rfl, Nat.le_of_ble_eq_true rfl⟩) (fx_obj hw (o := (217, 1, 200, 17)) (by decide)) rfl rfl hl.1 rfl (lv_room (Nat.le_of_ble_eq_true rfl)) dX1_closes_11 ⟨rfl, rfl⟩ ⟨Nat.zero_le _, Nat.zero_le _⟩ (fun H locs hw => ?_)
    exact hret () _ (congrArg (fun z => z.1) (Option.some.inj hf)) (congrArg (fun z => (M, z.2, K.1, K.2.1)) (Option.some.inj hf)) hw dX1_closes_14
abbrev rmX2_newName : Room := { frames := 7, cells := 0, slots := 0, locals := 351 }
set_option maxHeartbeats 4000000 in
theorem wX2_newName {l : Launch} {G : GT} {M C : FS} {K : KT} {t : (Option Int64 × FS)} (hf : fX2_newName C K = some t) : FtL l yX2_newName (ws_ yX2_newName cX2_newName 3 (some .long)) rmX2_newName G [.ref (G.2.2.2 217)] (M, C, K.1, K.2.1) t.1 (M, t.2, K.1, K.2.1) 0 0 := by
  refine xkL (by decide) (Nat.le_of_ble_eq_true rfl) (fun p e s m a0 below meth c Q FX hw hname hret hthr ls hl => ?_)
  have hl : lv_has ls 3 [(0, .ref (G.2.2.2 217))] := hl
  unfold fX2_newName at hf
  refine lv_aload_n FX.1 FX.2.1 dX2_newName_0 rfl (lv_at hl 0 rfl) ?_
  refine bd hf (fun t1 h_t1 hf => ?_)
  refine fU_l (As := []) (rest := []) FX hw (wX1_name h_t1) (va_cwU (owner := "CableDrawer$Scan") 0 FX.2.2.2.2 (lw_U q784 q785 q787 q788 q135 q789) rfl rfl rfl rfl ⟨by decide, by decide, by decide +kernel⟩ ⟨Nat.le_of_ble_eq_true rfl, Nat.le_of_ble_eq_true rfl⟩) (fx_obj hw (o := (217, 1, 200, 17)) (by decide)) rfl rfl hl.1 rfl (lv_room (Nat.le_of_ble_eq_true rfl)) dX2_newName_1 ⟨Nat.zero_le _, Nat.zero_le _⟩ (fun hn H locs hw => ?_) (fun v2 hv_1 H locs hw => ?_)
  · have hf := it_pos hn hf
    refine vy_cast rfl rfl ?_
    exact hthr _ (congrArg (fun z => z.1) (Option.some.inj hf)) (congrArg (fun z => (M, z.2, K.1, K.2.1)) (Option.some.inj hf)) hw
  · have hf := it_neg (by rw [hv_1]; exact fun h => by cases h) hf
    have hf := bsome hf hv_1
    refine lv_lstore_n (lv' := [(1, .long v2), (0, .ref (G.2.2.2 217))]) FX.1 FX.2.1 dX2_newName_4 rfl hl (by decide) rfl (fun ls hl => ?_)
    refine lv_aload_n FX.1 FX.2.1 dX2_newName_5 rfl (lv_at hl 1 rfl) ?_
    refine gX2_35 FX hw dX2_newName_6 ?_
    refine bd hf (fun a3 h_a3 hf => ?_)
    rw [show va_rf (t1.2.2.2.1 213) = .ref a3 from congrArg va_rf h_a3]
    refine lv_lload_n FX.1 FX.2.1 dX2_newName_9 rfl (lv_at hl 0 rfl) ?_
    refine bd hf (fun g4 h_g4 hf => ?_)
    refine bd hf (fun t5 h_t5 hf => ?_)
    obtain ⟨fs_g4, he_g4⟩ := dC_some (gC_some h_g4)
    refine clV_i0 (As := [.long v2]) (rest := []) FX hw (wX4_lead h_t5) (cwV 1 FX.2.2.2.2 (lw_V q792 q793 q794 q141 q795) rfl rfl rfl (by decide +kernel) ⟨Nat.le_of_ble_eq_true rfl, Nat.le_of_ble_eq_true rfl⟩) (dyn_he hw he_g4) rfl rfl hl.1 rfl (lv_room (Nat.le_of_ble_eq_true rfl)) dX2_newName_10 ⟨rfl, rfl⟩ ⟨Nat.zero_le _, Nat.zero_le _⟩ (fun H locs hw => ?_)
    refine lv_iconst (v := (-1)) FX.1 FX.2.1 dX2_newName_13 (by decide) ?_
    refine lv_icmp_ne (tgt := 29) FX.1 FX.2.1 dX2_newName_14 (by decide) (fun c_14 => ?_) (fun c_14 => ?_)
    · have hf := it_neg c_14 hf
      refine lv_aload_n FX.1 FX.2.1 dX2_newName_29 rfl (lv_at hl 1 rfl) ?_
      refine lv_iconst (v := 3) FX.1 FX.2.1 dX2_newName_30 (by decide) ?_
      refine bd hf (fun t6 h_t6 hf => ?_)
      refine clU_q0 (As := [.int 3]) (rest := []) FX hw (wX1_fail h_t6) (va_cwU (owner := "CableDrawer$Scan") 1 FX.2.2.2.2 (lw_U q770 q771 q773 q762 q135 q765) rfl rfl rfl rfl ⟨by decide, by decide, by decide +kernel⟩ ⟨Nat.le_of_ble_eq_true rfl, Nat.le_of_ble_eq_true rfl⟩) (fx_obj hw (o := (217, 1, 200, 17)) (by decide)) rfl rfl hl.1 rfl (lv_room (Nat.le_of_ble_eq_true rfl)) dX2_newName_31 ⟨rfl, rfl⟩ ⟨Nat.zero_le _, Nat.zero_le _⟩ (fun H locs hw => ?_)
      refine vy_athrow FX.1 FX.2.1 dX2_newName_34 ?_
      refine vy_cast rfl rfl ?_
      exact hthr _ (congrArg (fun z => z.1) (Option.some.inj hf)) (congrArg (fun z => (M, z.2, K.1, K.2.1)) (Option.some.inj hf)) hw
    · have hf := it_pos c_14 hf
      refine lv_aload_n FX.1 FX.2.1 dX2_newName_17 rfl (lv_at hl 1 rfl) ?_
      refine gX2_35 FX hw dX2_newName_18 ?_
      refine bd hf (fun a7 h_a7 hf => ?_)
      rw [show va_rf (t1.2.2.2.1 213) = .ref a7 from congrArg va_rf h_a7]
      refine lv_lload_n FX.1 FX.2.1 dX2_newName_21 rfl (lv_at hl 0 rfl) ?_
      refine bd hf (fun g8 h_g8 hf => ?_)
      refine bd hf (fun t9 h_t9 hf => ?_)
      obtain ⟨fs_g8, he_g8⟩ := dC_some (gC_some h_g8)
      refine clV_i0 (As := [.long v2]) (rest := []) FX hw (wX4_look h_t9) (cwV 1 FX.2.2.2.2 (lw_V q796 q797 q798 q141 q799) rfl rfl rfl (by decide +kernel) ⟨Nat.le_of_ble_eq_true rfl, Nat.le_of_ble_eq_true rfl⟩) (dyn_he hw he_g8) rfl rfl hl.1 rfl (lv_room (Nat.le_of_ble_eq_true rfl)) dX2_newName_22 ⟨rfl, rfl⟩ ⟨Nat.zero_le _, Nat.zero_le _⟩ (fun H locs hw => ?_)
      refine lv_iconst (v := (-1)) FX.1 FX.2.1 dX2_newName_25 (by decide) ?_
      refine lv_icmp_eq (tgt := 35) FX.1 FX.2.1 dX2_newName_26 (by decide) (fun c_26 => ?_) (fun c_26 => ?_)
      · have hf := it_pos c_26 hf
        refine lv_aload_n FX.1 FX.2.1 dX2_newName_35 rfl (lv_at hl 1 rfl) ?_
        refine bd hf (fun t10 h_t10 hf => ?_)
        refine clU_v0 (As := []) (rest := []) FX hw (wX1_next h_t10) (va_cwU (owner := "CableDrawer$Scan") 0 FX.2.2.2.2 (lw_U q774 q775 q777 q666 q135 q669) rfl rfl rfl rfl ⟨by decide, by decide, by decide +kernel⟩ ⟨Nat.le_of_ble_eq_true rfl, Nat.le_of_ble_eq_true rfl⟩) (fx_obj hw (o := (217, 1, 200, 17)) (by decide)) rfl rfl hl.1 rfl (lv_room (Nat.le_of_ble_eq_true rfl)) dX2_newName_36 ⟨rfl, rfl⟩ ⟨Nat.zero_le _, Nat.zero_le _⟩ (fun H locs hw => ?_)
        refine lv_lload_n FX.1 FX.2.1 dX2_newName_39 rfl (lv_at hl 0 rfl) ?_
        exact hret v2 _ (congrArg (fun z => z.1) (Option.some.inj hf)) (congrArg (fun z => (M, z.2, K.1, K.2.1)) (Option.some.inj hf)) hw dX2_newName_40
      · have hf := it_neg c_26 hf
        refine lv_aload_n FX.1 FX.2.1 dX2_newName_29 rfl (lv_at hl 1 rfl) ?_
        refine lv_iconst (v := 3) FX.1 FX.2.1 dX2_newName_30 (by decide) ?_
        refine bd hf (fun t11 h_t11 hf => ?_)
        refine clU_q0 (As := [.int 3]) (rest := []) FX hw (wX1_fail h_t11) (va_cwU (owner := "CableDrawer$Scan") 1 FX.2.2.2.2 (lw_U q770 q771 q773 q762 q135 q765) rfl rfl rfl rfl ⟨by decide, by decide, by decide +kernel⟩ ⟨Nat.le_of_ble_eq_true rfl, Nat.le_of_ble_eq_true rfl⟩) (fx_obj hw (o := (217, 1, 200, 17)) (by decide)) rfl rfl hl.1 rfl (lv_room (Nat.le_of_ble_eq_true rfl)) dX2_newName_31 ⟨rfl, rfl⟩ ⟨Nat.zero_le _, Nat.zero_le _⟩ (fun H locs hw => ?_)
        refine vy_athrow FX.1 FX.2.1 dX2_newName_34 ?_
        refine vy_cast rfl rfl ?_
        exact hthr _ (congrArg (fun z => z.1) (Option.some.inj hf)) (congrArg (fun z => (M, z.2, K.1, K.2.1)) (Option.some.inj hf)) hw
abbrev rmX2_word : Room := { frames := 7, cells := 0, slots := 0, locals := 348 }
set_option maxHeartbeats 4000000 in
theorem wX2_word {l : Launch} {G : GT} {M C : FS} {K : KT} {p1 : Int32} {t : (Option Unit × FS)} (hf : fX2_word C p1 = some t) : FtV l yX2_word (ws_ yX2_word cX2_word 2 none) rmX2_word G [.ref (G.2.2.2 217), .int p1] (M, C, K.1, K.2.1) t.1 (M, t.2, K.1, K.2.1) 0 0 := by
  refine xkV (by decide) (Nat.le_of_ble_eq_true rfl) (fun p e s m a0 below meth c Q FX hw hname hret hthr ls hl => ?_)
  have hl : lv_has ls 2 [(0, .ref (G.2.2.2 217)), (1, .int p1)] := hl
  unfold fX2_word at hf
  refine lv_aload_n FX.1 FX.2.1 dX2_word_0 rfl (lv_at hl 0 rfl) ?_
  refine lv_aload_n FX.1 FX.2.1 dX2_word_1 rfl (lv_at hl 0 rfl) ?_
  refine bd hf (fun t1 h_t1 hf => ?_)
  refine clU_i0 (As := []) (rest := [.ref (G.2.2.2 217)]) FX hw (wX1_key h_t1) (va_cwU (owner := "CableDrawer$Scan") 0 FX.2.2.2.2 (lw_U q740 q741 q743 q744 q135 q745) rfl rfl rfl rfl ⟨by decide, by decide, by decide +kernel⟩ ⟨Nat.le_of_ble_eq_true rfl, Nat.le_of_ble_eq_true rfl⟩) (fx_obj hw (o := (217, 1, 200, 17)) (by decide)) rfl rfl hl.1 rfl (lv_room (Nat.le_of_ble_eq_true rfl)) dX2_word_2 ⟨rfl, rfl⟩ ⟨Nat.zero_le _, Nat.zero_le _⟩ (fun H locs hw => ?_)
  refine lv_iload_n FX.1 FX.2.1 dX2_word_5 rfl (lv_at hl 1 rfl) ?_
  have hK14 : ∀ (y1_14 : Int32) (H : Heap) (locs : List Loc) (ls : Array Slot) , fX2_word_J14 C y1_14 = some t → WS G (M, C, K.1, K.2.1) s H locs → lv_has ls 2 [(0, .ref (G.2.2.2 217))] → W p l e rmX2_word s m a0 below meth c H locs 0 0 Q (F0 m 14 ls [.int y1_14, .ref (G.2.2.2 217)]) := by
    intro y1_14 H locs ls hf hw hl
    unfold fX2_word_J14 at hf
    refine bd hf (fun t2 h_t2 hf => ?_)
    refine fU_v (As := [.int y1_14]) (rest := []) FX hw (wX1_need h_t2) (va_cwU (owner := "CableDrawer$Scan") 1 FX.2.2.2.2 (lw_U q755 q756 q758 q759 q135 q760) rfl rfl rfl rfl ⟨by decide, by decide, by decide +kernel⟩ ⟨Nat.le_of_ble_eq_true rfl, Nat.le_of_ble_eq_true rfl⟩) (fx_obj hw (o := (217, 1, 200, 17)) (by decide)) rfl rfl hl.1 rfl (lv_room (Nat.le_of_ble_eq_true rfl)) dX2_word_14 ⟨Nat.zero_le _, Nat.zero_le _⟩ (fun hn H locs hw => ?_) (fun v_14 hv_14 H locs hw => ?_)
    · have hf := it_pos hn hf
      refine vy_cast rfl rfl ?_
      exact hthr _ (congrArg (fun z => z.1) (Option.some.inj hf)) (congrArg (fun z => (M, z.2, K.1, K.2.1)) (Option.some.inj hf)) hw
    · have hf := it_neg (by rw [hv_14]; exact fun h => by cases h) hf
      refine lv_aload_n FX.1 FX.2.1 dX2_word_17 rfl (lv_at hl 0 rfl) ?_
      refine bd hf (fun t3 h_t3 hf => ?_)
      refine clU_v0 (As := []) (rest := []) FX hw (wX1_next h_t3) (va_cwU (owner := "CableDrawer$Scan") 0 FX.2.2.2.2 (lw_U q774 q775 q777 q666 q135 q669) rfl rfl rfl rfl ⟨by decide, by decide, by decide +kernel⟩ ⟨Nat.le_of_ble_eq_true rfl, Nat.le_of_ble_eq_true rfl⟩) (fx_obj hw (o := (217, 1, 200, 17)) (by decide)) rfl rfl hl.1 rfl (lv_room (Nat.le_of_ble_eq_true rfl)) dX2_word_18 ⟨rfl, rfl⟩ ⟨Nat.zero_le _, Nat.zero_le _⟩ (fun H locs hw => ?_)
      exact hret () _ (congrArg (fun z => z.1) (Option.some.inj hf)) (congrArg (fun z => (M, z.2, K.1, K.2.1)) (Option.some.inj hf)) hw dX2_word_21
  refine lv_icmp_ne (tgt := 13) FX.1 FX.2.1 dX2_word_6 (by decide) (fun c_6 => ?_) (fun c_6 => ?_)
  · have hf := it_neg c_6 hf
    refine lv_iconst (v := 0) FX.1 FX.2.1 dX2_word_13 (by decide) ?_
    exact hK14 _ _ _ _ hf hw (lv_sub hl [0] rfl)
  · have hf := it_pos c_6 hf
    refine lv_iconst (v := 1) FX.1 FX.2.1 dX2_word_9 (by decide) ?_
    refine lv_goto (tgt := 14) FX.1 FX.2.1 dX2_word_10 (by decide) ?_
    exact hK14 _ _ _ _ hf hw (lv_sub hl [0] rfl)
abbrev rmX2_isNext : Room := { frames := 7, cells := 0, slots := 0, locals := 348 }
set_option maxHeartbeats 4000000 in
theorem wX2_isNext {l : Launch} {G : GT} {M C : FS} {K : KT} {p1 : Int32} {t : (Int32 × FS)} (hf : fX2_isNext C p1 = some t) : CtI l yX2_isNext (ws_ yX2_isNext cX2_isNext 2 (some .boolean)) rmX2_isNext G [.ref (G.2.2.2 217), .int p1] (M, C, K.1, K.2.1) t.1 (M, t.2, K.1, K.2.1) := by
  refine mkI (ty := .boolean) (by decide) (Nat.le_of_ble_eq_true rfl) (fun p e s m a0 below meth c Q FX hw hname hret ls hl => ?_)
  have hl : lv_has ls 2 [(0, .ref (G.2.2.2 217)), (1, .int p1)] := hl
  unfold fX2_isNext at hf
  refine lv_aload_n FX.1 FX.2.1 dX2_isNext_0 rfl (lv_at hl 0 rfl) ?_
  refine bd hf (fun t1 h_t1 hf => ?_)
  refine clU_i0 (As := []) (rest := []) FX hw (wX1_key h_t1) (va_cwU (owner := "CableDrawer$Scan") 0 FX.2.2.2.2 (lw_U q740 q741 q743 q744 q135 q745) rfl rfl rfl rfl ⟨by decide, by decide, by decide +kernel⟩ ⟨Nat.le_of_ble_eq_true rfl, Nat.le_of_ble_eq_true rfl⟩) (fx_obj hw (o := (217, 1, 200, 17)) (by decide)) rfl rfl hl.1 rfl (lv_room (Nat.le_of_ble_eq_true rfl)) dX2_isNext_1 ⟨rfl, rfl⟩ ⟨Nat.zero_le _, Nat.zero_le _⟩ (fun H locs hw => ?_)
  refine lv_iload_n FX.1 FX.2.1 dX2_isNext_4 rfl (lv_at hl 1 rfl) ?_
  refine lv_icmp_eq (tgt := 10) FX.1 FX.2.1 dX2_isNext_5 (by decide) (fun c_5 => ?_) (fun c_5 => ?_)
  · have hf := it_pos c_5 hf
    refine lv_aload_n FX.1 FX.2.1 dX2_isNext_10 rfl (lv_at hl 0 rfl) ?_
    refine bd hf (fun t2 h_t2 hf => ?_)
    refine clU_v0 (As := []) (rest := []) FX hw (wX1_next h_t2) (va_cwU (owner := "CableDrawer$Scan") 0 FX.2.2.2.2 (lw_U q774 q775 q777 q666 q135 q669) rfl rfl rfl rfl ⟨by decide, by decide, by decide +kernel⟩ ⟨Nat.le_of_ble_eq_true rfl, Nat.le_of_ble_eq_true rfl⟩) (fx_obj hw (o := (217, 1, 200, 17)) (by decide)) rfl rfl hl.1 rfl (lv_room (Nat.le_of_ble_eq_true rfl)) dX2_isNext_11 ⟨rfl, rfl⟩ ⟨Nat.zero_le _, Nat.zero_le _⟩ (fun H locs hw => ?_)
    refine lv_iconst (v := 1) FX.1 FX.2.1 dX2_isNext_14 (by decide) ?_
    exact hret _ _ rfl (congrArg (fun z => z.1) (Option.some.inj hf)) (congrArg (fun z => (M, z.2, K.1, K.2.1)) (Option.some.inj hf)) hw dX2_isNext_15
  · have hf := it_neg c_5 hf
    refine lv_iconst (v := 0) FX.1 FX.2.1 dX2_isNext_8 (by decide) ?_
    exact hret _ _ rfl (congrArg (fun z => z.1) (Option.some.inj hf)) (congrArg (fun z => (M, z.2, K.1, K.2.1)) (Option.some.inj hf)) hw dX2_isNext_9
abbrev rmX2_aLead : Room := { frames := 8, cells := 0, slots := 0, locals := 369 }
set_option maxHeartbeats 4000000 in
theorem wX2_aLead {l : Launch} {G : GT} {M C : FS} {K : KT} {p1 : Nat} {t : (Option Unit × FS × KT)} (hf : fX2_aLead C K p1 = some t) : FtV l yX2_aLead (ws_ yX2_aLead cX2_aLead 2 none) rmX2_aLead G [.ref (G.2.2.2 217), .ref p1] (M, C, K.1, K.2.1) t.1 (M, t.2.1, t.2.2.1, t.2.2.2.1) 0 0 := by
  refine xkV (by decide) (Nat.le_of_ble_eq_true rfl) (fun p e s m a0 below meth c Q FX hw hname hret hthr ls hl => ?_)
  have hl : lv_has ls 2 [(0, .ref (G.2.2.2 217)), (1, .ref p1)] := hl
  unfold fX2_aLead at hf
  refine lv_aload_n FX.1 FX.2.1 dX2_aLead_0 rfl (lv_at hl 0 rfl) ?_
  refine lv_iconst (v := 3) FX.1 FX.2.1 dX2_aLead_1 (by decide) ?_
  refine bd hf (fun t1 h_t1 hf => ?_)
  refine fV_v (As := [.int 3]) (rest := []) FX hw (wX2_word h_t1) (cwV 1 FX.2.2.2.2 (lw_V q856 q858 qs9 q136 q859) rfl rfl rfl (by decide +kernel) ⟨Nat.le_of_ble_eq_true rfl, Nat.le_of_ble_eq_true rfl⟩) (fx_obj hw (o := (217, 1, 200, 17)) (by decide)) rfl rfl hl.1 rfl (lv_room (Nat.le_of_ble_eq_true rfl)) dX2_aLead_2 ⟨Nat.zero_le _, Nat.zero_le _⟩ (fun hn H locs hw => ?_) (fun v_2 hv_2 H locs hw => ?_)
  · have hf := it_pos hn hf
    refine vy_cast rfl rfl ?_
    exact hthr _ (congrArg (fun z => z.1) (Option.some.inj hf)) (congrArg (fun z => (M, z.2.1, z.2.2.1, z.2.2.2.1)) (Option.some.inj hf)) hw
  · have hf := it_neg (by rw [hv_2]; exact fun h => by cases h) hf
    refine lv_aload_n FX.1 FX.2.1 dX2_aLead_5 rfl (lv_at hl 1 rfl) ?_
    refine lv_aload_n FX.1 FX.2.1 dX2_aLead_6 rfl (lv_at hl 0 rfl) ?_
    refine lv_iconst (v := 1) FX.1 FX.2.1 dX2_aLead_7 (by decide) ?_
    refine lv_bipush (v := 30) FX.1 FX.2.1 dX2_aLead_8 (by decide) ?_
    refine bd hf (fun t2 h_t2 hf => ?_)
    refine fU_i (As := [.int 1, .int 30]) (rest := [.ref p1]) FX hw (wX1_passed h_t2) (va_cwU (owner := "CableDrawer$Scan") 2 FX.2.2.2.2 (lw_U q860 q861 q863 q864 q135 q865) rfl rfl rfl rfl ⟨by decide, by decide, by decide +kernel⟩ ⟨Nat.le_of_ble_eq_true rfl, Nat.le_of_ble_eq_true rfl⟩) (fx_obj hw (o := (217, 1, 200, 17)) (by decide)) rfl rfl hl.1 rfl (lv_room (Nat.le_of_ble_eq_true rfl)) dX2_aLead_10 ⟨Nat.zero_le _, Nat.zero_le _⟩ (fun hn H locs hw => ?_) (fun v3 hv_10 H locs hw => ?_)
    · have hf := it_pos hn hf
      refine vy_cast rfl rfl ?_
      exact hthr _ (congrArg (fun z => z.1) (Option.some.inj hf)) (congrArg (fun z => (M, z.2.1, z.2.2.1, z.2.2.2.1)) (Option.some.inj hf)) hw
    · have hf := it_neg (by rw [hv_10]; exact fun h => by cases h) hf
      have hf := bsome hf hv_10
      refine bd hf (fun K4 h_K4 hf => ?_)
      refine sX2_111 FX hw h_K4 dX2_aLead_13 (fun H locs hw => ?_)
      refine lv_aload_n FX.1 FX.2.1 dX2_aLead_16 rfl (lv_at hl 0 rfl) ?_
      refine lv_iconst (v := 4) FX.1 FX.2.1 dX2_aLead_17 (by decide) ?_
      refine bd hf (fun t5 h_t5 hf => ?_)
      refine clV_i0 (As := [.int 4]) (rest := []) FX hw (wX2_isNext h_t5) (cwV 1 FX.2.2.2.2 (lw_V q871 q873 qs10 q136 q874) rfl rfl rfl (by decide +kernel) ⟨Nat.le_of_ble_eq_true rfl, Nat.le_of_ble_eq_true rfl⟩) (fx_obj hw (o := (217, 1, 200, 17)) (by decide)) rfl rfl hl.1 rfl (lv_room (Nat.le_of_ble_eq_true rfl)) dX2_aLead_18 ⟨rfl, rfl⟩ ⟨Nat.zero_le _, Nat.zero_le _⟩ (fun H locs hw => ?_)
      have hK35 : ∀ (C_35 : FS) (K_35 : KT) (H : Heap) (locs : List Loc) (ls : Array Slot) , fX2_aLead_J35 p1 C_35 K_35 = some t → WS G (M, C_35, K_35.1, K_35.2.1) s H locs → lv_has ls 2 [(0, .ref (G.2.2.2 217)), (1, .ref p1)] → W p l e rmX2_aLead s m a0 below meth c H locs 0 0 Q (F0 m 35 ls []) := by
        intro C_35 K_35 H locs ls hf hw hl
        unfold fX2_aLead_J35 at hf
        refine lv_aload_n FX.1 FX.2.1 dX2_aLead_35 rfl (lv_at hl 0 rfl) ?_
        refine lv_iconst (v := 5) FX.1 FX.2.1 dX2_aLead_36 (by decide) ?_
        refine bd hf (fun t6 h_t6 hf => ?_)
        refine clV_i0 (As := [.int 5]) (rest := []) FX hw (wX2_isNext h_t6) (cwV 1 FX.2.2.2.2 (lw_V q871 q873 qs10 q136 q874) rfl rfl rfl (by decide +kernel) ⟨Nat.le_of_ble_eq_true rfl, Nat.le_of_ble_eq_true rfl⟩) (fx_obj hw (o := (217, 1, 200, 17)) (by decide)) rfl rfl hl.1 rfl (lv_room (Nat.le_of_ble_eq_true rfl)) dX2_aLead_37 ⟨rfl, rfl⟩ ⟨Nat.zero_le _, Nat.zero_le _⟩ (fun H locs hw => ?_)
        have hK65 : ∀ (C_65 : FS) (K_65 : KT) (H : Heap) (locs : List Loc) (ls : Array Slot) , fX2_aLead_J65 p1 C_65 K_65 = some t → WS G (M, C_65, K_65.1, K_65.2.1) s H locs → lv_has ls 2 [(0, .ref (G.2.2.2 217)), (1, .ref p1)] → W p l e rmX2_aLead s m a0 below meth c H locs 0 0 Q (F0 m 65 ls []) := by
          intro C_65 K_65 H locs ls hf hw hl
          unfold fX2_aLead_J65 at hf
          refine lv_aload_n FX.1 FX.2.1 dX2_aLead_65 rfl (lv_at hl 0 rfl) ?_
          refine lv_bipush (v := 6) FX.1 FX.2.1 dX2_aLead_66 (by decide) ?_
          refine bd hf (fun t7 h_t7 hf => ?_)
          refine clV_i0 (As := [.int 6]) (rest := []) FX hw (wX2_isNext h_t7) (cwV 1 FX.2.2.2.2 (lw_V q871 q873 qs10 q136 q874) rfl rfl rfl (by decide +kernel) ⟨Nat.le_of_ble_eq_true rfl, Nat.le_of_ble_eq_true rfl⟩) (fx_obj hw (o := (217, 1, 200, 17)) (by decide)) rfl rfl hl.1 rfl (lv_room (Nat.le_of_ble_eq_true rfl)) dX2_aLead_68 ⟨rfl, rfl⟩ ⟨Nat.zero_le _, Nat.zero_le _⟩ (fun H locs hw => ?_)
          have hK86 : ∀ (C_86 : FS) (K_86 : KT) (H : Heap) (locs : List Loc) (ls : Array Slot) , fX2_aLead_J86 p1 C_86 K_86 = some t → WS G (M, C_86, K_86.1, K_86.2.1) s H locs → lv_has ls 2 [(0, .ref (G.2.2.2 217)), (1, .ref p1)] → W p l e rmX2_aLead s m a0 below meth c H locs 0 0 Q (F0 m 86 ls []) := by
            intro C_86 K_86 H locs ls hf hw hl
            unfold fX2_aLead_J86 at hf
            refine lv_aload_n FX.1 FX.2.1 dX2_aLead_86 rfl (lv_at hl 0 rfl) ?_
            refine lv_bipush (v := 7) FX.1 FX.2.1 dX2_aLead_87 (by decide) ?_
            refine bd hf (fun t8 h_t8 hf => ?_)
            refine clV_i0 (As := [.int 7]) (rest := []) FX hw (wX2_isNext h_t8) (cwV 1 FX.2.2.2.2 (lw_V q871 q873 qs10 q136 q874) rfl rfl rfl (by decide +kernel) ⟨Nat.le_of_ble_eq_true rfl, Nat.le_of_ble_eq_true rfl⟩) (fx_obj hw (o := (217, 1, 200, 17)) (by decide)) rfl rfl hl.1 rfl (lv_room (Nat.le_of_ble_eq_true rfl)) dX2_aLead_89 ⟨rfl, rfl⟩ ⟨Nat.zero_le _, Nat.zero_le _⟩ (fun H locs hw => ?_)
            have hK106 : ∀ (C_106 : FS) (K_106 : KT) (H : Heap) (locs : List Loc) (ls : Array Slot) , fX2_aLead_J106 p1 C_106 K_106 = some t → WS G (M, C_106, K_106.1, K_106.2.1) s H locs → lv_has ls 2 [(0, .ref (G.2.2.2 217)), (1, .ref p1)] → W p l e rmX2_aLead s m a0 below meth c H locs 0 0 Q (F0 m 106 ls []) := by
              intro C_106 K_106 H locs ls hf hw hl
              unfold fX2_aLead_J106 at hf
              refine lv_aload_n FX.1 FX.2.1 dX2_aLead_106 rfl (lv_at hl 1 rfl) ?_
              refine lv_aload_n FX.1 FX.2.1 dX2_aLead_107 rfl (lv_at hl 0 rfl) ?_
              refine lv_bipush (v := 17) FX.1 FX.2.1 dX2_aLead_108 (by decide) ?_
              refine bd hf (fun t9 h_t9 hf => ?_)
              refine clV_i0 (As := [.int 17]) (rest := [.ref p1]) FX hw (wX2_isNext h_t9) (cwV 1 FX.2.2.2.2 (lw_V q871 q873 qs10 q136 q874) rfl rfl rfl (by decide +kernel) ⟨Nat.le_of_ble_eq_true rfl, Nat.le_of_ble_eq_true rfl⟩) (fx_obj hw (o := (217, 1, 200, 17)) (by decide)) rfl rfl hl.1 rfl (lv_room (Nat.le_of_ble_eq_true rfl)) dX2_aLead_110 ⟨rfl, rfl⟩ ⟨Nat.zero_le _, Nat.zero_le _⟩ (fun H locs hw => ?_)
              refine bd hf (fun b10 h_b10 hf => ?_)
              refine bd hf (fun K11 h_K11 hf => ?_)
              refine sX2_133 FX hw (bz_or h_b10) h_K11 dX2_aLead_113 (fun H locs hw => ?_)
              refine lv_aload_n FX.1 FX.2.1 dX2_aLead_116 rfl (lv_at hl 0 rfl) ?_
              refine gX2_35 FX hw dX2_aLead_117 ?_
              refine bd hf (fun a12 h_a12 hf => ?_)
              rw [show va_rf (t9.2.2.2.1 213) = .ref a12 from congrArg va_rf h_a12]
              refine bd hf (fun a13 h_a13 hf => ?_)
              refine gX2_137 FX hw h_a13 dX2_aLead_120 ?_
              refine lv_aload_n FX.1 FX.2.1 dX2_aLead_123 rfl (lv_at hl 0 rfl) ?_
              refine gX2_35 FX hw dX2_aLead_124 ?_
              refine bd hf (fun a14 h_a14 hf => ?_)
              rw [show va_rf (t9.2.2.2.1 213) = .ref a14 from congrArg va_rf h_a14]
              refine bd hf (fun v15 h_v15 hf => ?_)
              refine gX2_70 FX hw h_v15 dX2_aLead_127 ?_
              refine lv_aload_n FX.1 FX.2.1 dX2_aLead_130 rfl (lv_at hl 1 rfl) ?_
              refine bd hf (fun K16 h_K16 hf => ?_)
              refine ei_rast FX hw h_K16 dX2_aLead_131 (fun H locs hw => ?_)
              refine lv_aload_n FX.1 FX.2.1 dX2_aLead_132 rfl (lv_at hl 0 rfl) ?_
              refine gX2_35 FX hw dX2_aLead_133 ?_
              refine bd hf (fun a17 h_a17 hf => ?_)
              rw [show va_rf (t9.2.2.2.1 213) = .ref a17 from congrArg va_rf h_a17]
              refine lv_dup FX.1 FX.2.1 dX2_aLead_136 rfl ?_
              refine bd hf (fun v18 h_v18 hf => ?_)
              refine gX2_70 FX hw h_v18 dX2_aLead_137 ?_
              refine lv_iconst (v := 1) FX.1 FX.2.1 dX2_aLead_140 (by decide) ?_
              refine lv_iadd FX.1 FX.2.1 dX2_aLead_141 ?_
              refine bd hf (fun K19 h_K19 hf => ?_)
              refine sX2_70 FX hw h_K19 dX2_aLead_142 (fun H locs hw => ?_)
              exact hret () _ (congrArg (fun z => z.1) (Option.some.inj hf)) (congrArg (fun z => (M, z.2.1, z.2.2.1, z.2.2.2.1)) (Option.some.inj hf)) hw dX2_aLead_145
            refine lv_if_eq (tgt := 106) FX.1 FX.2.1 dX2_aLead_92 (by decide) (fun c_92 => ?_) (fun c_92 => ?_)
            · have hf := it_pos c_92 hf
              exact hK106 _ _ _ _ _ hf hw (lv_sub hl [0, 1] rfl)
            · have hf := it_neg c_92 hf
              refine lv_aload_n FX.1 FX.2.1 dX2_aLead_95 rfl (lv_at hl 1 rfl) ?_
              refine lv_aload_n FX.1 FX.2.1 dX2_aLead_96 rfl (lv_at hl 0 rfl) ?_
              refine lv_iconst (v := 0) FX.1 FX.2.1 dX2_aLead_97 (by decide) ?_
              refine lv_bipush (v := 16) FX.1 FX.2.1 dX2_aLead_98 (by decide) ?_
              refine bd hf (fun t20 h_t20 hf => ?_)
              refine fU_i (As := [.int 0, .int 16]) (rest := [.ref p1]) FX hw (wX1_passed h_t20) (va_cwU (owner := "CableDrawer$Scan") 2 FX.2.2.2.2 (lw_U q860 q861 q863 q864 q135 q865) rfl rfl rfl rfl ⟨by decide, by decide, by decide +kernel⟩ ⟨Nat.le_of_ble_eq_true rfl, Nat.le_of_ble_eq_true rfl⟩) (fx_obj hw (o := (217, 1, 200, 17)) (by decide)) rfl rfl hl.1 rfl (lv_room (Nat.le_of_ble_eq_true rfl)) dX2_aLead_100 ⟨Nat.zero_le _, Nat.zero_le _⟩ (fun hn H locs hw => ?_) (fun v21 hv_100 H locs hw => ?_)
              · have hf := it_pos hn hf
                refine vy_cast rfl rfl ?_
                exact hthr _ (congrArg (fun z => z.1) (Option.some.inj hf)) (congrArg (fun z => (M, z.2.1, z.2.2.1, z.2.2.2.1)) (Option.some.inj hf)) hw
              · have hf := it_neg (by rw [hv_100]; exact fun h => by cases h) hf
                have hf := bsome hf hv_100
                refine bd hf (fun K22 h_K22 hf => ?_)
                refine sX2_130 FX hw h_K22 dX2_aLead_103 (fun H locs hw => ?_)
                exact hK106 _ _ _ _ _ hf hw (lv_sub hl [0, 1] rfl)
          refine lv_if_eq (tgt := 86) FX.1 FX.2.1 dX2_aLead_71 (by decide) (fun c_71 => ?_) (fun c_71 => ?_)
          · have hf := it_pos c_71 hf
            exact hK86 _ _ _ _ _ hf hw (lv_sub hl [0, 1] rfl)
          · have hf := it_neg c_71 hf
            refine lv_aload_n FX.1 FX.2.1 dX2_aLead_74 rfl (lv_at hl 1 rfl) ?_
            refine lv_aload_n FX.1 FX.2.1 dX2_aLead_75 rfl (lv_at hl 0 rfl) ?_
            refine lv_iconst (v := 0) FX.1 FX.2.1 dX2_aLead_76 (by decide) ?_
            refine lv_sipush (v := 999) FX.1 FX.2.1 dX2_aLead_77 (by decide) ?_
            refine bd hf (fun t23 h_t23 hf => ?_)
            refine fU_i (As := [.int 0, .int 999]) (rest := [.ref p1]) FX hw (wX1_passed h_t23) (va_cwU (owner := "CableDrawer$Scan") 2 FX.2.2.2.2 (lw_U q860 q861 q863 q864 q135 q865) rfl rfl rfl rfl ⟨by decide, by decide, by decide +kernel⟩ ⟨Nat.le_of_ble_eq_true rfl, Nat.le_of_ble_eq_true rfl⟩) (fx_obj hw (o := (217, 1, 200, 17)) (by decide)) rfl rfl hl.1 rfl (lv_room (Nat.le_of_ble_eq_true rfl)) dX2_aLead_80 ⟨Nat.zero_le _, Nat.zero_le _⟩ (fun hn H locs hw => ?_) (fun v24 hv_80 H locs hw => ?_)
            · have hf := it_pos hn hf
              refine vy_cast rfl rfl ?_
              exact hthr _ (congrArg (fun z => z.1) (Option.some.inj hf)) (congrArg (fun z => (M, z.2.1, z.2.2.1, z.2.2.2.1)) (Option.some.inj hf)) hw
            · have hf := it_neg (by rw [hv_80]; exact fun h => by cases h) hf
              have hf := bsome hf hv_80
              refine bd hf (fun K25 h_K25 hf => ?_)
              refine sX2_127 FX hw h_K25 dX2_aLead_83 (fun H locs hw => ?_)
              exact hK86 _ _ _ _ _ hf hw (lv_sub hl [0, 1] rfl)
        refine lv_if_eq (tgt := 65) FX.1 FX.2.1 dX2_aLead_40 (by decide) (fun c_40 => ?_) (fun c_40 => ?_)
        · have hf := it_pos c_40 hf
          exact hK65 _ _ _ _ _ hf hw (lv_sub hl [0, 1] rfl)
        · have hf := it_neg c_40 hf
          refine lv_aload_n FX.1 FX.2.1 dX2_aLead_43 rfl (lv_at hl 1 rfl) ?_
          refine lv_aload_n FX.1 FX.2.1 dX2_aLead_44 rfl (lv_at hl 0 rfl) ?_
          refine lv_iconst (v := 1) FX.1 FX.2.1 dX2_aLead_45 (by decide) ?_
          refine lv_bipush (v := 9) FX.1 FX.2.1 dX2_aLead_46 (by decide) ?_
          refine bd hf (fun t26 h_t26 hf => ?_)
          refine fU_i (As := [.int 1, .int 9]) (rest := [.ref p1]) FX hw (wX1_passed h_t26) (va_cwU (owner := "CableDrawer$Scan") 2 FX.2.2.2.2 (lw_U q860 q861 q863 q864 q135 q865) rfl rfl rfl rfl ⟨by decide, by decide, by decide +kernel⟩ ⟨Nat.le_of_ble_eq_true rfl, Nat.le_of_ble_eq_true rfl⟩) (fx_obj hw (o := (217, 1, 200, 17)) (by decide)) rfl rfl hl.1 rfl (lv_room (Nat.le_of_ble_eq_true rfl)) dX2_aLead_48 ⟨Nat.zero_le _, Nat.zero_le _⟩ (fun hn H locs hw => ?_) (fun v27 hv_48 H locs hw => ?_)
          · have hf := it_pos hn hf
            refine vy_cast rfl rfl ?_
            exact hthr _ (congrArg (fun z => z.1) (Option.some.inj hf)) (congrArg (fun z => (M, z.2.1, z.2.2.1, z.2.2.2.1)) (Option.some.inj hf)) hw
          · have hf := it_neg (by rw [hv_48]; exact fun h => by cases h) hf
            have hf := bsome hf hv_48
            refine bd hf (fun K28 h_K28 hf => ?_)
            refine sX2_121 FX hw h_K28 dX2_aLead_51 (fun H locs hw => ?_)
            refine lv_aload_n FX.1 FX.2.1 dX2_aLead_54 rfl (lv_at hl 1 rfl) ?_
            refine lv_aload_n FX.1 FX.2.1 dX2_aLead_55 rfl (lv_at hl 0 rfl) ?_
            refine lv_iconst (v := 1) FX.1 FX.2.1 dX2_aLead_56 (by decide) ?_
            refine lv_bipush (v := 9) FX.1 FX.2.1 dX2_aLead_57 (by decide) ?_
            refine bd hf (fun t29 h_t29 hf => ?_)
            refine fU_i (As := [.int 1, .int 9]) (rest := [.ref p1]) FX hw (wX1_passed h_t29) (va_cwU (owner := "CableDrawer$Scan") 2 FX.2.2.2.2 (lw_U q860 q861 q863 q864 q135 q865) rfl rfl rfl rfl ⟨by decide, by decide, by decide +kernel⟩ ⟨Nat.le_of_ble_eq_true rfl, Nat.le_of_ble_eq_true rfl⟩) (fx_obj hw (o := (217, 1, 200, 17)) (by decide)) rfl rfl hl.1 rfl (lv_room (Nat.le_of_ble_eq_true rfl)) dX2_aLead_59 ⟨Nat.zero_le _, Nat.zero_le _⟩ (fun hn H locs hw => ?_) (fun v30 hv_59 H locs hw => ?_)
            · have hf := it_pos hn hf
              refine vy_cast rfl rfl ?_
              exact hthr _ (congrArg (fun z => z.1) (Option.some.inj hf)) (congrArg (fun z => (M, z.2.1, z.2.2.1, z.2.2.2.1)) (Option.some.inj hf)) hw
            · have hf := it_neg (by rw [hv_59]; exact fun h => by cases h) hf
              have hf := bsome hf hv_59
              refine bd hf (fun K31 h_K31 hf => ?_)
              refine sX2_124 FX hw h_K31 dX2_aLead_62 (fun H locs hw => ?_)
              exact hK65 _ _ _ _ _ hf hw (lv_sub hl [0, 1] rfl)
      refine lv_if_eq (tgt := 35) FX.1 FX.2.1 dX2_aLead_21 (by decide) (fun c_21 => ?_) (fun c_21 => ?_)
      · have hf := it_pos c_21 hf
        exact hK35 _ _ _ _ _ hf hw (lv_sub hl [0, 1] rfl)
      · have hf := it_neg c_21 hf
        refine lv_aload_n FX.1 FX.2.1 dX2_aLead_24 rfl (lv_at hl 1 rfl) ?_
        refine lv_aload_n FX.1 FX.2.1 dX2_aLead_25 rfl (lv_at hl 0 rfl) ?_
        refine lv_iconst (v := 0) FX.1 FX.2.1 dX2_aLead_26 (by decide) ?_
        refine lv_bipush (v := 9) FX.1 FX.2.1 dX2_aLead_27 (by decide) ?_
        refine bd hf (fun t32 h_t32 hf => ?_)
        refine fU_i (As := [.int 0, .int 9]) (rest := [.ref p1]) FX hw (wX1_passed h_t32) (va_cwU (owner := "CableDrawer$Scan") 2 FX.2.2.2.2 (lw_U q860 q861 q863 q864 q135 q865) rfl rfl rfl rfl ⟨by decide, by decide, by decide +kernel⟩ ⟨Nat.le_of_ble_eq_true rfl, Nat.le_of_ble_eq_true rfl⟩) (fx_obj hw (o := (217, 1, 200, 17)) (by decide)) rfl rfl hl.1 rfl (lv_room (Nat.le_of_ble_eq_true rfl)) dX2_aLead_29 ⟨Nat.zero_le _, Nat.zero_le _⟩ (fun hn H locs hw => ?_) (fun v33 hv_29 H locs hw => ?_)
        · have hf := it_pos hn hf
          refine vy_cast rfl rfl ?_
          exact hthr _ (congrArg (fun z => z.1) (Option.some.inj hf)) (congrArg (fun z => (M, z.2.1, z.2.2.1, z.2.2.2.1)) (Option.some.inj hf)) hw
        · have hf := it_neg (by rw [hv_29]; exact fun h => by cases h) hf
          have hf := bsome hf hv_29
          refine bd hf (fun K34 h_K34 hf => ?_)
          refine sX2_118 FX hw h_K34 dX2_aLead_32 (fun H locs hw => ?_)
          exact hK35 _ _ _ _ _ hf hw (lv_sub hl [0, 1] rfl)
abbrev rmX2_known : Room := { frames := 7, cells := 0, slots := 0, locals := 351 }
set_option maxHeartbeats 4000000 in
theorem wX2_known {l : Launch} {G : GT} {M C : FS} {K : KT} {t : (Option Int32 × FS)} (hf : fX2_known C K = some t) : FtI l yX2_known (ws_ yX2_known cX2_known 2 (some .int)) rmX2_known G [.ref (G.2.2.2 217)] (M, C, K.1, K.2.1) t.1 (M, t.2, K.1, K.2.1) 0 0 := by
  refine xkI (ty := .int) (by decide) (Nat.le_of_ble_eq_true rfl) (fun p e s m a0 below meth c Q FX hw hname hret hthr ls hl => ?_)
  have hl : lv_has ls 2 [(0, .ref (G.2.2.2 217))] := hl
  unfold fX2_known at hf
  refine lv_aload_n FX.1 FX.2.1 dX2_known_0 rfl (lv_at hl 0 rfl) ?_
  refine gX2_35 FX hw dX2_known_1 ?_
  refine bd hf (fun a1 h_a1 hf => ?_)
  rw [show va_rf (C.2.2.1 213) = .ref a1 from congrArg va_rf h_a1]
  refine lv_aload_n FX.1 FX.2.1 dX2_known_4 rfl (lv_at hl 0 rfl) ?_
  refine bd hf (fun t2 h_t2 hf => ?_)
  refine fU_l (As := []) (rest := [.ref a1]) FX hw (wX1_name h_t2) (va_cwU (owner := "CableDrawer$Scan") 0 FX.2.2.2.2 (lw_U q784 q785 q787 q788 q135 q789) rfl rfl rfl rfl ⟨by decide, by decide, by decide +kernel⟩ ⟨Nat.le_of_ble_eq_true rfl, Nat.le_of_ble_eq_true rfl⟩) (fx_obj hw (o := (217, 1, 200, 17)) (by decide)) rfl rfl hl.1 rfl (lv_room (Nat.le_of_ble_eq_true rfl)) dX2_known_5 ⟨Nat.zero_le _, Nat.zero_le _⟩ (fun hn H locs hw => ?_) (fun v3 hv_5 H locs hw => ?_)
  · have hf := it_pos hn hf
    refine vy_cast rfl rfl ?_
    exact hthr _ (congrArg (fun z => z.1) (Option.some.inj hf)) (congrArg (fun z => (M, z.2, K.1, K.2.1)) (Option.some.inj hf)) hw
  · have hf := it_neg (by rw [hv_5]; exact fun h => by cases h) hf
    have hf := bsome hf hv_5
    refine bd hf (fun g4 h_g4 hf => ?_)
    refine bd hf (fun t5 h_t5 hf => ?_)
    obtain ⟨fs_g4, he_g4⟩ := dC_some (gC_some h_g4)
    refine clV_i0 (As := [.long v3]) (rest := []) FX hw (wX4_lead h_t5) (cwV 1 FX.2.2.2.2 (lw_V q792 q793 q794 q141 q795) rfl rfl rfl (by decide +kernel) ⟨Nat.le_of_ble_eq_true rfl, Nat.le_of_ble_eq_true rfl⟩) (dyn_he hw he_g4) rfl rfl hl.1 rfl (lv_room (Nat.le_of_ble_eq_true rfl)) dX2_known_8 ⟨rfl, rfl⟩ ⟨Nat.zero_le _, Nat.zero_le _⟩ (fun H locs hw => ?_)
    refine lv_istore_n (lv' := [(1, .int t5), (0, .ref (G.2.2.2 217))]) FX.1 FX.2.1 dX2_known_11 rfl hl (by decide) rfl (fun ls hl => ?_)
    refine lv_iload_n FX.1 FX.2.1 dX2_known_12 rfl (lv_at hl 0 rfl) ?_
    refine lv_iconst (v := (-1)) FX.1 FX.2.1 dX2_known_13 (by decide) ?_
    refine lv_icmp_ne (tgt := 23) FX.1 FX.2.1 dX2_known_14 (by decide) (fun c_14 => ?_) (fun c_14 => ?_)
    · have hf := it_neg c_14 hf
      refine lv_aload_n FX.1 FX.2.1 dX2_known_23 rfl (lv_at hl 1 rfl) ?_
      refine bd hf (fun t6 h_t6 hf => ?_)
      refine clU_v0 (As := []) (rest := []) FX hw (wX1_next h_t6) (va_cwU (owner := "CableDrawer$Scan") 0 FX.2.2.2.2 (lw_U q774 q775 q777 q666 q135 q669) rfl rfl rfl rfl ⟨by decide, by decide, by decide +kernel⟩ ⟨Nat.le_of_ble_eq_true rfl, Nat.le_of_ble_eq_true rfl⟩) (fx_obj hw (o := (217, 1, 200, 17)) (by decide)) rfl rfl hl.1 rfl (lv_room (Nat.le_of_ble_eq_true rfl)) dX2_known_24 ⟨rfl, rfl⟩ ⟨Nat.zero_le _, Nat.zero_le _⟩ (fun H locs hw => ?_)
      refine lv_iload_n FX.1 FX.2.1 dX2_known_27 rfl (lv_at hl 0 rfl) ?_
      exact hret t5 _ rfl (congrArg (fun z => z.1) (Option.some.inj hf)) (congrArg (fun z => (M, z.2, K.1, K.2.1)) (Option.some.inj hf)) hw dX2_known_28
    · have hf := it_pos c_14 hf
      refine lv_aload_n FX.1 FX.2.1 dX2_known_17 rfl (lv_at hl 1 rfl) ?_
      refine lv_iconst (v := 3) FX.1 FX.2.1 dX2_known_18 (by decide) ?_
      refine bd hf (fun t7 h_t7 hf => ?_)
      refine clU_q0 (As := [.int 3]) (rest := []) FX hw (wX1_fail h_t7) (va_cwU (owner := "CableDrawer$Scan") 1 FX.2.2.2.2 (lw_U q770 q771 q773 q762 q135 q765) rfl rfl rfl rfl ⟨by decide, by decide, by decide +kernel⟩ ⟨Nat.le_of_ble_eq_true rfl, Nat.le_of_ble_eq_true rfl⟩) (fx_obj hw (o := (217, 1, 200, 17)) (by decide)) rfl rfl hl.1 rfl (lv_room (Nat.le_of_ble_eq_true rfl)) dX2_known_19 ⟨rfl, rfl⟩ ⟨Nat.zero_le _, Nat.zero_le _⟩ (fun H locs hw => ?_)
      refine vy_athrow FX.1 FX.2.1 dX2_known_22 ?_
      refine vy_cast rfl rfl ?_
      exact hthr _ (congrArg (fun z => z.1) (Option.some.inj hf)) (congrArg (fun z => (M, z.2, K.1, K.2.1)) (Option.some.inj hf)) hw
abbrev rmX2_crosses : Room := { frames := 8, cells := 0, slots := 0, locals := 372 }
set_option maxHeartbeats 4000000 in
theorem wX2_crosses {l : Launch} {G : GT} {M C : FS} {K : KT} {p1 : Int32} {t : (Option Int32 × FS)} (hf : fX2_crosses C K p1 = some t) : FtI l yX2_crosses (ws_ yX2_crosses cX2_crosses 3 (some .int)) rmX2_crosses G [.ref (G.2.2.2 217), .int p1] (M, C, K.1, K.2.1) t.1 (M, t.2, K.1, K.2.1) 0 0 := by
  refine xkI (ty := .int) (by decide) (Nat.le_of_ble_eq_true rfl) (fun p e s m a0 below meth c Q FX hw hname hret hthr ls hl => ?_)
  have hl : lv_has ls 3 [(0, .ref (G.2.2.2 217)), (1, .int p1)] := hl
  unfold fX2_crosses at hf
  refine lv_aload_n FX.1 FX.2.1 dX2_crosses_0 rfl (lv_at hl 0 rfl) ?_
  refine gX2_35 FX hw dX2_crosses_1 ?_
  refine bd hf (fun a1 h_a1 hf => ?_)
  rw [show va_rf (C.2.2.1 213) = .ref a1 from congrArg va_rf h_a1]
  refine lv_aload_n FX.1 FX.2.1 dX2_crosses_4 rfl (lv_at hl 0 rfl) ?_
  refine bd hf (fun t2 h_t2 hf => ?_)
  refine fU_l (As := []) (rest := [.ref a1]) FX hw (wX1_name h_t2) (va_cwU (owner := "CableDrawer$Scan") 0 FX.2.2.2.2 (lw_U q784 q785 q787 q788 q135 q789) rfl rfl rfl rfl ⟨by decide, by decide, by decide +kernel⟩ ⟨Nat.le_of_ble_eq_true rfl, Nat.le_of_ble_eq_true rfl⟩) (fx_obj hw (o := (217, 1, 200, 17)) (by decide)) rfl rfl hl.1 rfl (lv_room (Nat.le_of_ble_eq_true rfl)) dX2_crosses_5 ⟨Nat.zero_le _, Nat.zero_le _⟩ (fun hn H locs hw => ?_) (fun v3 hv_5 H locs hw => ?_)
  · have hf := it_pos hn hf
    refine vy_cast rfl rfl ?_
    exact hthr _ (congrArg (fun z => z.1) (Option.some.inj hf)) (congrArg (fun z => (M, z.2, K.1, K.2.1)) (Option.some.inj hf)) hw
  · have hf := it_neg (by rw [hv_5]; exact fun h => by cases h) hf
    have hf := bsome hf hv_5
    refine bd hf (fun g4 h_g4 hf => ?_)
    refine bd hf (fun t5 h_t5 hf => ?_)
    obtain ⟨fs_g4, he_g4⟩ := dC_some (gC_some h_g4)
    refine clV_i0 (As := [.long v3]) (rest := []) FX hw (wX4_lead h_t5) (cwV 1 FX.2.2.2.2 (lw_V q792 q793 q794 q141 q795) rfl rfl rfl (by decide +kernel) ⟨Nat.le_of_ble_eq_true rfl, Nat.le_of_ble_eq_true rfl⟩) (dyn_he hw he_g4) rfl rfl hl.1 rfl (lv_room (Nat.le_of_ble_eq_true rfl)) dX2_crosses_8 ⟨rfl, rfl⟩ ⟨Nat.zero_le _, Nat.zero_le _⟩ (fun H locs hw => ?_)
    refine lv_istore_n (lv' := [(2, .int t5), (0, .ref (G.2.2.2 217)), (1, .int p1)]) FX.1 FX.2.1 dX2_crosses_11 rfl hl (by decide) rfl (fun ls hl => ?_)
    refine lv_iload_n FX.1 FX.2.1 dX2_crosses_12 rfl (lv_at hl 0 rfl) ?_
    refine lv_iconst (v := (-1)) FX.1 FX.2.1 dX2_crosses_13 (by decide) ?_
    have hK43 : ∀ (H : Heap) (locs : List Loc) (ls : Array Slot) , fX2_crosses_J43 K t2  = some t → WS G (M, t2.2, K.1, K.2.1) s H locs → lv_has ls 3 [(0, .ref (G.2.2.2 217))] → W p l e rmX2_crosses s m a0 below meth c H locs 0 0 Q (F0 m 43 ls []) := by
      intro  H locs ls hf hw hl
      unfold fX2_crosses_J43 at hf
      refine lv_aload_n FX.1 FX.2.1 dX2_crosses_43 rfl (lv_at hl 0 rfl) ?_
      refine bd hf (fun t6 h_t6 hf => ?_)
      refine fV_i (As := []) (rest := []) FX hw (wX2_known h_t6) (cwV 0 FX.2.2.2.2 (lw_V q883 q885 qs13 q136 q886) rfl rfl rfl (by decide +kernel) ⟨Nat.le_of_ble_eq_true rfl, Nat.le_of_ble_eq_true rfl⟩) (fx_obj hw (o := (217, 1, 200, 17)) (by decide)) rfl rfl hl.1 rfl (lv_room (Nat.le_of_ble_eq_true rfl)) dX2_crosses_44 ⟨Nat.zero_le _, Nat.zero_le _⟩ (fun hn H locs hw => ?_) (fun v7 hv_44 H locs hw => ?_)
      · have hf := it_pos hn hf
        refine vy_cast rfl rfl ?_
        exact hthr _ (congrArg (fun z => z.1) (Option.some.inj hf)) (congrArg (fun z => (M, z.2, K.1, K.2.1)) (Option.some.inj hf)) hw
      · have hf := it_neg (by rw [hv_44]; exact fun h => by cases h) hf
        have hf := bsome hf hv_44
        exact hret v7 _ rfl (congrArg (fun z => z.1) (Option.some.inj hf)) (congrArg (fun z => (M, z.2, K.1, K.2.1)) (Option.some.inj hf)) hw dX2_crosses_47
    refine lv_icmp_eq (tgt := 43) FX.1 FX.2.1 dX2_crosses_14 (by decide) (fun c_14 => ?_) (fun c_14 => ?_)
    · have hf := it_pos c_14 hf
      exact hK43  _ _ _ hf hw (lv_sub hl [1] rfl)
    · have hf := it_neg c_14 hf
      refine lv_aload_n FX.1 FX.2.1 dX2_crosses_17 rfl (lv_at hl 1 rfl) ?_
      refine gX2_35 FX hw dX2_crosses_18 ?_
      refine bd hf (fun a8 h_a8 hf => ?_)
      rw [show va_rf (t2.2.2.2.1 213) = .ref a8 from congrArg va_rf h_a8]
      refine bd hf (fun a9 h_a9 hf => ?_)
      refine gX2_137 FX hw h_a9 dX2_crosses_21 ?_
      refine lv_iload_n FX.1 FX.2.1 dX2_crosses_24 rfl (lv_at hl 0 rfl) ?_
      refine bd hf (fun a10 h_a10 hf => ?_)
      refine ei_aald 5 rfl FX hw h_a10 dX2_crosses_25 ?_
      refine bd hf (fun v11 h_v11 hf => ?_)
      refine gX2_133 FX hw h_v11 dX2_crosses_26 ?_
      refine lv_if_ne (tgt := 37) FX.1 FX.2.1 dX2_crosses_29 (by decide) (fun c_29 => ?_) (fun c_29 => ?_)
      · have hf := it_neg c_29 hf
        refine lv_aload_n FX.1 FX.2.1 dX2_crosses_37 rfl (lv_at hl 1 rfl) ?_
        refine lv_iconst (v := 5) FX.1 FX.2.1 dX2_crosses_38 (by decide) ?_
        refine bd hf (fun t12 h_t12 hf => ?_)
        refine clU_q0 (As := [.int 5]) (rest := []) FX hw (wX1_fail h_t12) (va_cwU (owner := "CableDrawer$Scan") 1 FX.2.2.2.2 (lw_U q770 q771 q773 q762 q135 q765) rfl rfl rfl rfl ⟨by decide, by decide, by decide +kernel⟩ ⟨Nat.le_of_ble_eq_true rfl, Nat.le_of_ble_eq_true rfl⟩) (fx_obj hw (o := (217, 1, 200, 17)) (by decide)) rfl rfl hl.1 rfl (lv_room (Nat.le_of_ble_eq_true rfl)) dX2_crosses_39 ⟨rfl, rfl⟩ ⟨Nat.zero_le _, Nat.zero_le _⟩ (fun H locs hw => ?_)
        refine vy_athrow FX.1 FX.2.1 dX2_crosses_42 ?_
        refine vy_cast rfl rfl ?_
        exact hthr _ (congrArg (fun z => z.1) (Option.some.inj hf)) (congrArg (fun z => (M, z.2, K.1, K.2.1)) (Option.some.inj hf)) hw
      · have hf := it_pos c_29 hf
        refine lv_iload_n FX.1 FX.2.1 dX2_crosses_32 rfl (lv_at hl 0 rfl) ?_
        refine lv_iload_n FX.1 FX.2.1 dX2_crosses_33 rfl (lv_at hl 2 rfl) ?_
        refine lv_icmp_ne (tgt := 43) FX.1 FX.2.1 dX2_crosses_34 (by decide) (fun c_34 => ?_) (fun c_34 => ?_)
        · have hf := it_neg c_34 hf
          exact hK43  _ _ _ hf hw (lv_sub hl [1] rfl)
        · have hf := it_pos c_34 hf
          refine lv_aload_n FX.1 FX.2.1 dX2_crosses_37 rfl (lv_at hl 1 rfl) ?_
          refine lv_iconst (v := 5) FX.1 FX.2.1 dX2_crosses_38 (by decide) ?_
          refine bd hf (fun t13 h_t13 hf => ?_)
          refine clU_q0 (As := [.int 5]) (rest := []) FX hw (wX1_fail h_t13) (va_cwU (owner := "CableDrawer$Scan") 1 FX.2.2.2.2 (lw_U q770 q771 q773 q762 q135 q765) rfl rfl rfl rfl ⟨by decide, by decide, by decide +kernel⟩ ⟨Nat.le_of_ble_eq_true rfl, Nat.le_of_ble_eq_true rfl⟩) (fx_obj hw (o := (217, 1, 200, 17)) (by decide)) rfl rfl hl.1 rfl (lv_room (Nat.le_of_ble_eq_true rfl)) dX2_crosses_39 ⟨rfl, rfl⟩ ⟨Nat.zero_le _, Nat.zero_le _⟩ (fun H locs hw => ?_)
          refine vy_athrow FX.1 FX.2.1 dX2_crosses_42 ?_
          refine vy_cast rfl rfl ?_
          exact hthr _ (congrArg (fun z => z.1) (Option.some.inj hf)) (congrArg (fun z => (M, z.2, K.1, K.2.1)) (Option.some.inj hf)) hw
abbrev rmX2_aCrossing (K : KT) : Room := { frames := 9, cells := K.2.2.1, slots := K.2.2.2, locals := 394 }
set_option maxHeartbeats 4000000 in
theorem wX2_aCrossing {l : Launch} {G : GT} {M C : FS} {K : KT} {t : (Option Unit × FS × KT)} (hf : fX2_aCrossing C K = some t) : FtV l yX2_aCrossing (ws_ yX2_aCrossing cX2_aCrossing 5 none) (rmX2_aCrossing K) G [.ref (G.2.2.2 217)] (M, C, K.1, K.2.1) t.1 (M, t.2.1, t.2.2.1, t.2.2.2.1) (K.2.2.1 - t.2.2.2.2.1) (K.2.2.2 - t.2.2.2.2.2) := by
  refine xkV (by decide) (Nat.le_of_ble_eq_true rfl) (fun p e s m a0 below meth c Q FX hw hname hret hthr ls hl => ?_)
  have hl : lv_has ls 5 [(0, .ref (G.2.2.2 217))] := hl
  unfold fX2_aCrossing at hf
  have hm : Cn K K 0 0 := Cn.rf
  refine lv_aload_n FX.1 FX.2.1 dX2_aCrossing_0 rfl (lv_at hl 0 rfl) ?_
  refine lv_iconst (v := (-1)) FX.1 FX.2.1 dX2_aCrossing_1 (by decide) ?_
  refine bd hf (fun t1 h_t1 hf => ?_)
  refine fV_i (As := [.int (-1)]) (rest := []) FX hw (wX2_crosses h_t1) (cwV 1 FX.2.2.2.2 (lw_V q879 q881 qs12 q136 q882) rfl rfl rfl (by decide +kernel) ⟨Nat.le_of_ble_eq_true rfl, Nat.le_of_ble_eq_true rfl⟩) (fx_obj hw (o := (217, 1, 200, 17)) (by decide)) rfl rfl hl.1 rfl (lv_room (Nat.le_of_ble_eq_true rfl)) dX2_aCrossing_2 hm.le (fun hn H locs hw => ?_) (fun v2 hv_2 H locs hw => ?_)
  · have hf := it_pos hn hf
    have hk : K = t.2.2 := congrArg (fun z => z.2.2) (Option.some.inj hf)
    have hm : Cn K t.2.2 0 0 := hk ▸ hm
    refine vy_cast hm.end_.1 hm.end_.2 ?_
    exact hthr _ (congrArg (fun z => z.1) (Option.some.inj hf)) (congrArg (fun z => (M, z.2.1, z.2.2.1, z.2.2.2.1)) (Option.some.inj hf)) hw
  · have hf := it_neg (by rw [hv_2]; exact fun h => by cases h) hf
    have hf := bsome hf hv_2
    refine lv_istore_n (lv' := [(1, .int v2), (0, .ref (G.2.2.2 217))]) FX.1 FX.2.1 dX2_aCrossing_5 rfl hl (by decide) rfl (fun ls hl => ?_)
    refine lv_aload_n FX.1 FX.2.1 dX2_aCrossing_6 rfl (lv_at hl 1 rfl) ?_
    refine lv_iload_n FX.1 FX.2.1 dX2_aCrossing_7 rfl (lv_at hl 0 rfl) ?_
    refine bd hf (fun t3 h_t3 hf => ?_)
    refine fV_i (As := [.int v2]) (rest := []) FX hw (wX2_crosses h_t3) (cwV 1 FX.2.2.2.2 (lw_V q879 q881 qs12 q136 q882) rfl rfl rfl (by decide +kernel) ⟨Nat.le_of_ble_eq_true rfl, Nat.le_of_ble_eq_true rfl⟩) (fx_obj hw (o := (217, 1, 200, 17)) (by decide)) rfl rfl hl.1 rfl (lv_room (Nat.le_of_ble_eq_true rfl)) dX2_aCrossing_8 hm.le (fun hn H locs hw => ?_) (fun v4 hv_8 H locs hw => ?_)
    · have hf := it_pos hn hf
      have hk : K = t.2.2 := congrArg (fun z => z.2.2) (Option.some.inj hf)
      have hm : Cn K t.2.2 0 0 := hk ▸ hm
      refine vy_cast hm.end_.1 hm.end_.2 ?_
      exact hthr _ (congrArg (fun z => z.1) (Option.some.inj hf)) (congrArg (fun z => (M, z.2.1, z.2.2.1, z.2.2.2.1)) (Option.some.inj hf)) hw
    · have hf := it_neg (by rw [hv_8]; exact fun h => by cases h) hf
      have hf := bsome hf hv_8
      refine lv_istore_n (lv' := [(2, .int v4), (1, .int v2), (0, .ref (G.2.2.2 217))]) FX.1 FX.2.1 dX2_aCrossing_11 rfl hl (by decide) rfl (fun ls hl => ?_)
      refine lv_aload_n FX.1 FX.2.1 dX2_aCrossing_12 rfl (lv_at hl 2 rfl) ?_
      refine bd hf (fun t5 h_t5 hf => ?_)
      refine clU_i0 (As := []) (rest := []) FX hw (wX1_key h_t5) (va_cwU (owner := "CableDrawer$Scan") 0 FX.2.2.2.2 (lw_U q740 q741 q743 q744 q135 q745) rfl rfl rfl rfl ⟨by decide, by decide, by decide +kernel⟩ ⟨Nat.le_of_ble_eq_true rfl, Nat.le_of_ble_eq_true rfl⟩) (fx_obj hw (o := (217, 1, 200, 17)) (by decide)) rfl rfl hl.1 rfl (lv_room (Nat.le_of_ble_eq_true rfl)) dX2_aCrossing_13 ⟨rfl, rfl⟩ hm.le (fun H locs hw => ?_)
      refine lv_istore_n (lv' := [(3, .int t5), (2, .int v4), (1, .int v2), (0, .ref (G.2.2.2 217))]) FX.1 FX.2.1 dX2_aCrossing_16 rfl hl (by decide) rfl (fun ls hl => ?_)
      refine lv_iload_n FX.1 FX.2.1 dX2_aCrossing_17 rfl (lv_at hl 0 rfl) ?_
      refine lv_bipush (v := 8) FX.1 FX.2.1 dX2_aCrossing_18 (by decide) ?_
      have hK34 : ∀ (y0_34 : Int32) (H : Heap) (locs : List Loc) (ls : Array Slot) (nc ns : Nat) , fX2_aCrossing_J34 K v2 t3 v4 t5 y0_34 = some t → Cn K K nc ns → WS G (M, t3.2, K.1, K.2.1) s H locs → lv_has ls 5 [(0, .ref (G.2.2.2 217)), (1, .int v2), (2, .int v4), (3, .int t5)] → W p l e (rmX2_aCrossing K) s m a0 below meth c H locs nc ns Q (F0 m 34 ls [.int y0_34]) := by
        intro y0_34 H locs ls nc ns hf hm hw hl
        unfold fX2_aCrossing_J34 at hf
        refine lv_istore (lv' := [(4, .int y0_34), (0, .ref (G.2.2.2 217)), (1, .int v2), (2, .int v4), (3, .int t5)]) FX.1 FX.2.1 dX2_aCrossing_34 hl (by decide) rfl (fun ls hl => ?_)
        refine lv_iload FX.1 FX.2.1 dX2_aCrossing_36 (lv_at hl 0 rfl) ?_
        have hK45 : ∀ (C_45 : FS) (H : Heap) (locs : List Loc) (ls : Array Slot) (nc ns : Nat) , fX2_aCrossing_J45 K v2 v4 t5 y0_34 C_45 = some t → Cn K K nc ns → WS G (M, C_45, K.1, K.2.1) s H locs → lv_has ls 5 [(0, .ref (G.2.2.2 217)), (1, .int v2), (2, .int v4), (3, .int t5), (4, .int y0_34)] → W p l e (rmX2_aCrossing K) s m a0 below meth c H locs nc ns Q (F0 m 45 ls []) := by
          intro C_45 H locs ls nc ns hf hm hw hl
          unfold fX2_aCrossing_J45 at hf
          refine lv_aload_n FX.1 FX.2.1 dX2_aCrossing_45 rfl (lv_at hl 0 rfl) ?_
          refine gX2_35 FX hw dX2_aCrossing_46 ?_
          refine bd hf (fun a6 h_a6 hf => ?_)
          rw [show va_rf (C_45.2.2.1 213) = .ref a6 from congrArg va_rf h_a6]
          refine lv_iload_n FX.1 FX.2.1 dX2_aCrossing_49 rfl (lv_at hl 1 rfl) ?_
          refine lv_iload_n FX.1 FX.2.1 dX2_aCrossing_50 rfl (lv_at hl 2 rfl) ?_
          refine lv_iload FX.1 FX.2.1 dX2_aCrossing_51 (lv_at hl 4 rfl) ?_
          refine lv_if_eq (tgt := 65) FX.1 FX.2.1 dX2_aCrossing_53 (by decide) (fun c_53 => ?_) (fun c_53 => ?_)
          · have hf := it_pos c_53 hf
            refine lv_iconst (v := 0) FX.1 FX.2.1 dX2_aCrossing_65 (by decide) ?_
            refine bd hf (fun g7 h_g7 hf => ?_)
            refine bd hf (fun t8 h_t8 hf => ?_)
            refine bd hf (fun g9 h_g9 hf => ?_)
            obtain ⟨fs_g7, he_g7⟩ := dC_some (gC_some h_g7)
            refine xlV_v (As := [.int v2, .int v4, .int 0]) (rest := []) FX hw (wX4_adds h_t8) (cwV 3 FX.2.2.2.2 (lw_V q887 q888 q889 q141 q890) rfl rfl rfl (by decide +kernel) ⟨Nat.le_of_ble_eq_true rfl, Nat.le_of_ble_eq_true rfl⟩) (dyn_he hw he_g7) rfl rfl hl.1 rfl (lv_room (Nat.le_of_ble_eq_true rfl)) dX2_aCrossing_66 hm.roomC (fun H locs hw => ?_)
            have hm := hm.sM h_g9
            have hk : t8 = t.2.2 := congrArg (fun z => z.2.2) (Option.some.inj hf)
            have hm : Cn K t.2.2 (nc + (K.2.2.1 - t8.2.2.1)) (ns + (K.2.2.2 - t8.2.2.2)) := hk ▸ hm
            refine w_cast hm.end_.1 hm.end_.2 ?_
            exact hret () _ (congrArg (fun z => z.1) (Option.some.inj hf)) (congrArg (fun z => (M, z.2.1, z.2.2.1, z.2.2.2.1)) (Option.some.inj hf)) hw dX2_aCrossing_69
          · have hf := it_neg c_53 hf
            refine lv_iload_n FX.1 FX.2.1 dX2_aCrossing_56 rfl (lv_at hl 3 rfl) ?_
            refine lv_bipush (v := 8) FX.1 FX.2.1 dX2_aCrossing_57 (by decide) ?_
            refine lv_isub FX.1 FX.2.1 dX2_aCrossing_59 ?_
            refine lv_iconst (v := 1) FX.1 FX.2.1 dX2_aCrossing_60 (by decide) ?_
            refine lv_iadd FX.1 FX.2.1 dX2_aCrossing_61 ?_
            refine lv_goto (tgt := 66) FX.1 FX.2.1 dX2_aCrossing_62 (by decide) ?_
            refine bd hf (fun g10 h_g10 hf => ?_)
            refine bd hf (fun t11 h_t11 hf => ?_)
            refine bd hf (fun g12 h_g12 hf => ?_)
            obtain ⟨fs_g10, he_g10⟩ := dC_some (gC_some h_g10)
            refine xlV_v (As := [.int v2, .int v4, .int ((t5 - 8) + 1)]) (rest := []) FX hw (wX4_adds h_t11) (cwV 3 FX.2.2.2.2 (lw_V q887 q888 q889 q141 q890) rfl rfl rfl (by decide +kernel) ⟨Nat.le_of_ble_eq_true rfl, Nat.le_of_ble_eq_true rfl⟩) (dyn_he hw he_g10) rfl rfl hl.1 rfl (lv_room (Nat.le_of_ble_eq_true rfl)) dX2_aCrossing_66 hm.roomC (fun H locs hw => ?_)
            have hm := hm.sM h_g12
            have hk : t11 = t.2.2 := congrArg (fun z => z.2.2) (Option.some.inj hf)
            have hm : Cn K t.2.2 (nc + (K.2.2.1 - t11.2.2.1)) (ns + (K.2.2.2 - t11.2.2.2)) := hk ▸ hm
            refine w_cast hm.end_.1 hm.end_.2 ?_
            exact hret () _ (congrArg (fun z => z.1) (Option.some.inj hf)) (congrArg (fun z => (M, z.2.1, z.2.2.1, z.2.2.2.1)) (Option.some.inj hf)) hw dX2_aCrossing_69
        refine lv_if_eq (tgt := 45) FX.1 FX.2.1 dX2_aCrossing_38 (by decide) (fun c_38 => ?_) (fun c_38 => ?_)
        · have hf := it_pos c_38 hf
          exact hK45 _ _ _ _ _ _ hf hm hw (lv_sub hl [1, 2, 3, 4, 0] rfl)
        · have hf := it_neg c_38 hf
          refine lv_aload_n FX.1 FX.2.1 dX2_aCrossing_41 rfl (lv_at hl 1 rfl) ?_
          refine bd hf (fun t13 h_t13 hf => ?_)
          refine clU_v0 (As := []) (rest := []) FX hw (wX1_next h_t13) (va_cwU (owner := "CableDrawer$Scan") 0 FX.2.2.2.2 (lw_U q774 q775 q777 q666 q135 q669) rfl rfl rfl rfl ⟨by decide, by decide, by decide +kernel⟩ ⟨Nat.le_of_ble_eq_true rfl, Nat.le_of_ble_eq_true rfl⟩) (fx_obj hw (o := (217, 1, 200, 17)) (by decide)) rfl rfl hl.1 rfl (lv_room (Nat.le_of_ble_eq_true rfl)) dX2_aCrossing_42 ⟨rfl, rfl⟩ hm.le (fun H locs hw => ?_)
          exact hK45 _ _ _ _ _ _ hf hm hw (lv_sub hl [1, 2, 3, 4, 0] rfl)
      refine lv_icmp_lt (tgt := 33) FX.1 FX.2.1 dX2_aCrossing_20 (by decide) (fun c_20 => ?_) (fun c_20 => ?_)
      · have hf := it_pos c_20 hf
        refine lv_iconst (v := 0) FX.1 FX.2.1 dX2_aCrossing_33 (by decide) ?_
        exact hK34 _ _ _ _ _ _ hf hm hw (lv_sub hl [3, 2, 1, 0] rfl)
      · have hf := it_neg c_20 hf
        refine lv_iload_n FX.1 FX.2.1 dX2_aCrossing_23 rfl (lv_at hl 0 rfl) ?_
        refine lv_bipush (v := 10) FX.1 FX.2.1 dX2_aCrossing_24 (by decide) ?_
        refine lv_icmp_gt (tgt := 33) FX.1 FX.2.1 dX2_aCrossing_26 (by decide) (fun c_26 => ?_) (fun c_26 => ?_)
        · have hf := it_pos c_26 hf
          refine lv_iconst (v := 0) FX.1 FX.2.1 dX2_aCrossing_33 (by decide) ?_
          exact hK34 _ _ _ _ _ _ hf hm hw (lv_sub hl [3, 2, 1, 0] rfl)
        · have hf := it_neg c_26 hf
          refine lv_iconst (v := 1) FX.1 FX.2.1 dX2_aCrossing_29 (by decide) ?_
          refine lv_goto (tgt := 34) FX.1 FX.2.1 dX2_aCrossing_30 (by decide) ?_
          exact hK34 _ _ _ _ _ _ hf hm hw (lv_sub hl [3, 2, 1, 0] rfl)
abbrev rmX2_aLook : Room := { frames := 8, cells := 0, slots := 0, locals := 372 }
set_option maxHeartbeats 4000000 in
theorem wX2_aLook {l : Launch} {G : GT} {M C : FS} {K : KT} {t : (Option Unit × FS × KT)} (hf : fX2_aLook C K = some t) : FtV l yX2_aLook (ws_ yX2_aLook cX2_aLook 3 none) rmX2_aLook G [.ref (G.2.2.2 217)] (M, C, K.1, K.2.1) t.1 (M, t.2.1, t.2.2.1, t.2.2.2.1) 0 0 := by
  refine xkV (by decide) (Nat.le_of_ble_eq_true rfl) (fun p e s m a0 below meth c Q FX hw hname hret hthr ls hl => ?_)
  have hl : lv_has ls 3 [(0, .ref (G.2.2.2 217))] := hl
  unfold fX2_aLook at hf
  refine lv_iconst (v := 0) FX.1 FX.2.1 dX2_aLook_0 (by decide) ?_
  refine lv_istore_n (lv' := [(1, .int 0), (0, .ref (G.2.2.2 217))]) FX.1 FX.2.1 dX2_aLook_1 rfl hl (by decide) rfl (fun ls hl => ?_)
  refine bd hf (fun u2 ht hf => ?_)
  obtain ⟨n, hn⟩ := lp_iff.mp ht
  have hR2 : ∀ v, Sum.inl v = u2 → _ := fun v he => ell hf he
  have hX2 : ∀ (t2_1 : Int32) (Ct2 : FS) (H : Heap) (locs : List Loc) (ls : Array Slot) , Sum.inr (t2_1, Ct2) = u2 → WS G (M, Ct2, K.1, K.2.1) s H locs → lv_has ls 3 [(0, .ref (G.2.2.2 217)), (1, .int t2_1)] → W p l e rmX2_aLook s m a0 below meth c H locs 0 0 Q (F0 m 58 ls []) := by
    intro t2_1 Ct2 H locs ls he hw hl
    have hf := elr hf he
    have hf : fX2_aLook_X2 K t2_1 Ct2 = some t := hf
    unfold fX2_aLook_X2 at hf
    refine lv_aload_n FX.1 FX.2.1 dX2_aLook_58 rfl (lv_at hl 0 rfl) ?_
    refine gX2_35 FX hw dX2_aLook_59 ?_
    refine bd hf (fun a10 h_a10 hf => ?_)
    rw [show va_rf (Ct2.2.2.1 213) = .ref a10 from congrArg va_rf h_a10]
    refine bd hf (fun a11 h_a11 hf => ?_)
    refine gX2_155 FX hw h_a11 dX2_aLook_62 ?_
    refine lv_aload_n FX.1 FX.2.1 dX2_aLook_65 rfl (lv_at hl 0 rfl) ?_
    refine gX2_35 FX hw dX2_aLook_66 ?_
    refine bd hf (fun a12 h_a12 hf => ?_)
    rw [show va_rf (Ct2.2.2.1 213) = .ref a12 from congrArg va_rf h_a12]
    refine bd hf (fun v13 h_v13 hf => ?_)
    refine gX2_76 FX hw h_v13 dX2_aLook_69 ?_
    refine lv_iload_n FX.1 FX.2.1 dX2_aLook_72 rfl (lv_at hl 1 rfl) ?_
    refine bd hf (fun K14 h_K14 hf => ?_)
    refine ei_ast FX hw h_K14 dX2_aLook_73 (fun H locs hw => ?_)
    refine lv_aload_n FX.1 FX.2.1 dX2_aLook_74 rfl (lv_at hl 0 rfl) ?_
    refine gX2_35 FX hw dX2_aLook_75 ?_
    refine bd hf (fun a15 h_a15 hf => ?_)
    rw [show va_rf (Ct2.2.2.1 213) = .ref a15 from congrArg va_rf h_a15]
    refine lv_dup FX.1 FX.2.1 dX2_aLook_78 rfl ?_
    refine bd hf (fun v16 h_v16 hf => ?_)
    refine gX2_76 FX hw h_v16 dX2_aLook_79 ?_
    refine lv_iconst (v := 1) FX.1 FX.2.1 dX2_aLook_82 (by decide) ?_
    refine lv_iadd FX.1 FX.2.1 dX2_aLook_83 ?_
    refine bd hf (fun K17 h_K17 hf => ?_)
    refine sX2_76 FX hw h_K17 dX2_aLook_84 (fun H locs hw => ?_)
    exact hret () _ (congrArg (fun z => z.1) (Option.some.inj hf)) (congrArg (fun z => (M, z.2.1, z.2.2.1, z.2.2.2.1)) (Option.some.inj hf)) hw dX2_aLook_87
  have hL2 : ∀ (n : Nat) (z2_1 : Int32) (Cz2 : FS) (H : Heap) (locs : List Loc) (ls : Array Slot) , lpN (fun z => fX2_aLook_L2 K z.1 z.2) n (z2_1, Cz2) = some u2 → WS G (M, Cz2, K.1, K.2.1) s H locs → lv_has ls 3 [(0, .ref (G.2.2.2 217)), (1, .int z2_1)] → W p l e rmX2_aLook s m a0 below meth c H locs 0 0 Q (F0 m 2 ls []) := by
    intro n
    induction n with
    | zero => intro z2_1 Cz2 H locs ls hz; cases hz
    | succ n ih =>
      intro z2_1 Cz2 H locs ls hz hw hl
      refine bd (show (fX2_aLook_L2 K z2_1 Cz2).bind _ = some u2 from hz) (fun x2 hf hk2 => ?_)
      unfold fX2_aLook_L2 at hf
      refine lv_aload_n FX.1 FX.2.1 dX2_aLook_2 rfl (lv_at hl 0 rfl) ?_
      refine gX2_35 FX hw dX2_aLook_3 ?_
      refine bd hf (fun a1 h_a1 hf => ?_)
      rw [show va_rf (Cz2.2.2.1 213) = .ref a1 from congrArg va_rf h_a1]
      refine lv_aload_n FX.1 FX.2.1 dX2_aLook_6 rfl (lv_at hl 0 rfl) ?_
      refine bd hf (fun t2 h_t2 hf => ?_)
      refine fU_l (As := []) (rest := [.ref a1]) FX hw (wX1_name h_t2) (va_cwU (owner := "CableDrawer$Scan") 0 FX.2.2.2.2 (lw_U q784 q785 q787 q788 q135 q789) rfl rfl rfl rfl ⟨by decide, by decide, by decide +kernel⟩ ⟨Nat.le_of_ble_eq_true rfl, Nat.le_of_ble_eq_true rfl⟩) (fx_obj hw (o := (217, 1, 200, 17)) (by decide)) rfl rfl hl.1 rfl (lv_room (Nat.le_of_ble_eq_true rfl)) dX2_aLook_7 ⟨Nat.zero_le _, Nat.zero_le _⟩ (fun hn H locs hw => ?_) (fun v3 hv_7 H locs hw => ?_)
      · have hf := it_pos hn hf
        have hf := hR2 _ (lpe hf hk2)
        refine vy_cast rfl rfl ?_
        exact hthr _ (congrArg (fun z => z.1) (Option.some.inj hf)) (congrArg (fun z => (M, z.2.1, z.2.2.1, z.2.2.2.1)) (Option.some.inj hf)) hw
      · have hf := it_neg (by rw [hv_7]; exact fun h => by cases h) hf
        have hf := bsome hf hv_7
        refine bd hf (fun g4 h_g4 hf => ?_)
        refine bd hf (fun t5 h_t5 hf => ?_)
        obtain ⟨fs_g4, he_g4⟩ := dC_some (gC_some h_g4)
        refine clV_i0 (As := [.long v3]) (rest := []) FX hw (wX4_lead h_t5) (cwV 1 FX.2.2.2.2 (lw_V q792 q793 q794 q141 q795) rfl rfl rfl (by decide +kernel) ⟨Nat.le_of_ble_eq_true rfl, Nat.le_of_ble_eq_true rfl⟩) (dyn_he hw he_g4) rfl rfl hl.1 rfl (lv_room (Nat.le_of_ble_eq_true rfl)) dX2_aLook_10 ⟨rfl, rfl⟩ ⟨Nat.zero_le _, Nat.zero_le _⟩ (fun H locs hw => ?_)
        refine lv_istore_n (lv' := [(2, .int t5), (0, .ref (G.2.2.2 217)), (1, .int z2_1)]) FX.1 FX.2.1 dX2_aLook_13 rfl hl (by decide) rfl (fun ls hl => ?_)
        refine lv_iload_n FX.1 FX.2.1 dX2_aLook_14 rfl (lv_at hl 0 rfl) ?_
        refine lv_iconst (v := (-1)) FX.1 FX.2.1 dX2_aLook_15 (by decide) ?_
        have hK34 : ∀ (H : Heap) (locs : List Loc) (ls : Array Slot) , fX2_aLook_J34 K z2_1 t2  = some x2 → WS G (M, t2.2, K.1, K.2.1) s H locs → lv_has ls 3 [(0, .ref (G.2.2.2 217)), (1, .int z2_1)] → W p l e rmX2_aLook s m a0 below meth c H locs 0 0 Q (F0 m 34 ls []) := by
          intro  H locs ls hf hw hl
          unfold fX2_aLook_J34 at hf
          refine lv_iload_n FX.1 FX.2.1 dX2_aLook_34 rfl (lv_at hl 1 rfl) ?_
          refine lv_iconst (v := 1) FX.1 FX.2.1 dX2_aLook_35 (by decide) ?_
          refine lv_aload_n FX.1 FX.2.1 dX2_aLook_36 rfl (lv_at hl 0 rfl) ?_
          refine bd hf (fun t6 h_t6 hf => ?_)
          refine fV_i (As := []) (rest := [.int 1, .int z2_1]) FX hw (wX2_known h_t6) (cwV 0 FX.2.2.2.2 (lw_V q883 q885 qs13 q136 q886) rfl rfl rfl (by decide +kernel) ⟨Nat.le_of_ble_eq_true rfl, Nat.le_of_ble_eq_true rfl⟩) (fx_obj hw (o := (217, 1, 200, 17)) (by decide)) rfl rfl hl.1 rfl (lv_room (Nat.le_of_ble_eq_true rfl)) dX2_aLook_37 ⟨Nat.zero_le _, Nat.zero_le _⟩ (fun hn H locs hw => ?_) (fun v7 hv_37 H locs hw => ?_)
          · have hf := it_pos hn hf
            have hf := hR2 _ (lpe hf hk2)
            refine vy_cast rfl rfl ?_
            exact hthr _ (congrArg (fun z => z.1) (Option.some.inj hf)) (congrArg (fun z => (M, z.2.1, z.2.2.1, z.2.2.2.1)) (Option.some.inj hf)) hw
          · have hf := it_neg (by rw [hv_37]; exact fun h => by cases h) hf
            have hf := bsome hf hv_37
            refine lv_ishl FX.1 FX.2.1 dX2_aLook_40 ?_
            refine lv_ior FX.1 FX.2.1 dX2_aLook_41 ?_
            refine lv_istore_n (lv' := [(1, .int (z2_1 ||| (1 <<< (v7 &&& 31)))), (0, .ref (G.2.2.2 217))]) FX.1 FX.2.1 dX2_aLook_42 rfl hl (by decide) rfl (fun ls hl => ?_)
            refine lv_aload_n FX.1 FX.2.1 dX2_aLook_43 rfl (lv_at hl 1 rfl) ?_
            refine lv_bipush (v := 59) FX.1 FX.2.1 dX2_aLook_44 (by decide) ?_
            refine bd hf (fun t8 h_t8 hf => ?_)
            refine clU_i0 (As := [.int 59]) (rest := []) FX hw (wX1_is h_t8) (va_cwU (owner := "CableDrawer$Scan") 1 FX.2.2.2.2 (lw_U q945 q946 q948 q949 q135 q950) rfl rfl rfl rfl ⟨by decide, by decide, by decide +kernel⟩ ⟨Nat.le_of_ble_eq_true rfl, Nat.le_of_ble_eq_true rfl⟩) (fx_obj hw (o := (217, 1, 200, 17)) (by decide)) rfl rfl hl.1 rfl (lv_room (Nat.le_of_ble_eq_true rfl)) dX2_aLook_46 ⟨rfl, rfl⟩ ⟨Nat.zero_le _, Nat.zero_le _⟩ (fun H locs hw => ?_)
            refine lv_if_eq (tgt := 55) FX.1 FX.2.1 dX2_aLook_49 (by decide) (fun c_49 => ?_) (fun c_49 => ?_)
            · have hf := it_pos c_49 hf
              refine lv_goto (tgt := 2) FX.1 FX.2.1 dX2_aLook_55 (by decide) ?_
              exact ih _ _ _ _ _ (lpc hf hk2) hw (lv_sub hl [1, 0] rfl)
            · have hf := it_neg c_49 hf
              refine lv_goto (tgt := 58) FX.1 FX.2.1 dX2_aLook_52 (by decide) ?_
              exact hX2 _ _ _ _ _ (lpe hf hk2) hw (lv_sub hl [1, 0] rfl)
        refine lv_icmp_eq (tgt := 34) FX.1 FX.2.1 dX2_aLook_16 (by decide) (fun c_16 => ?_) (fun c_16 => ?_)
        · have hf := it_pos c_16 hf
          exact hK34  _ _ _ hf hw (lv_sub hl [1, 2] rfl)
        · have hf := it_neg c_16 hf
          refine lv_iload_n FX.1 FX.2.1 dX2_aLook_19 rfl (lv_at hl 2 rfl) ?_
          refine lv_iload_n FX.1 FX.2.1 dX2_aLook_20 rfl (lv_at hl 0 rfl) ?_
          refine lv_ishr FX.1 FX.2.1 dX2_aLook_21 ?_
          refine lv_iconst (v := 1) FX.1 FX.2.1 dX2_aLook_22 (by decide) ?_
          refine lv_iand FX.1 FX.2.1 dX2_aLook_23 ?_
          refine lv_iconst (v := 1) FX.1 FX.2.1 dX2_aLook_24 (by decide) ?_
          refine lv_icmp_ne (tgt := 34) FX.1 FX.2.1 dX2_aLook_25 (by decide) (fun c_25 => ?_) (fun c_25 => ?_)
          · have hf := it_neg c_25 hf
            exact hK34  _ _ _ hf hw (lv_sub hl [1, 2] rfl)
          · have hf := it_pos c_25 hf
            refine lv_aload_n FX.1 FX.2.1 dX2_aLook_28 rfl (lv_at hl 1 rfl) ?_
            refine lv_iconst (v := 5) FX.1 FX.2.1 dX2_aLook_29 (by decide) ?_
            refine bd hf (fun t9 h_t9 hf => ?_)
            refine clU_q0 (As := [.int 5]) (rest := []) FX hw (wX1_fail h_t9) (va_cwU (owner := "CableDrawer$Scan") 1 FX.2.2.2.2 (lw_U q770 q771 q773 q762 q135 q765) rfl rfl rfl rfl ⟨by decide, by decide, by decide +kernel⟩ ⟨Nat.le_of_ble_eq_true rfl, Nat.le_of_ble_eq_true rfl⟩) (fx_obj hw (o := (217, 1, 200, 17)) (by decide)) rfl rfl hl.1 rfl (lv_room (Nat.le_of_ble_eq_true rfl)) dX2_aLook_30 ⟨rfl, rfl⟩ ⟨Nat.zero_le _, Nat.zero_le _⟩ (fun H locs hw => ?_)
            refine vy_athrow FX.1 FX.2.1 dX2_aLook_33 ?_
            have hf := hR2 _ (lpe hf hk2)
            refine vy_cast rfl rfl ?_
            exact hthr _ (congrArg (fun z => z.1) (Option.some.inj hf)) (congrArg (fun z => (M, z.2.1, z.2.2.1, z.2.2.2.1)) (Option.some.inj hf)) hw
  exact hL2 n _ _ _ _ _ hn hw (lv_sub hl [1, 0] rfl)
abbrev rmX2_part (K : KT) : Room := { frames := 10, cells := K.2.2.1, slots := K.2.2.2, locals := 418 }
set_option maxHeartbeats 4000000 in
theorem wX2_part {l : Launch} {G : GT} {M C : FS} {K : KT} {t : (Option Unit × FS × KT)} (hf : fX2_part C K = some t) : FtV l yX2_part (ws_ yX2_part cX2_part 2 none) (rmX2_part K) G [.ref (G.2.2.2 217)] (M, C, K.1, K.2.1) t.1 (M, t.2.1, t.2.2.1, t.2.2.2.1) (K.2.2.1 - t.2.2.2.2.1) (K.2.2.2 - t.2.2.2.2.2) := by
  refine xkV (by decide) (Nat.le_of_ble_eq_true rfl) (fun p e s m a0 below meth c Q FX hw hname hret hthr ls hl => ?_)
  have hl : lv_has ls 2 [(0, .ref (G.2.2.2 217))] := hl
  unfold fX2_part at hf
  have hm : Cn K K 0 0 := Cn.rf
  refine lv_aload_n FX.1 FX.2.1 dX2_part_0 rfl (lv_at hl 0 rfl) ?_
  refine bd hf (fun t1 h_t1 hf => ?_)
  refine clU_i0 (As := []) (rest := []) FX hw (wX1_key h_t1) (va_cwU (owner := "CableDrawer$Scan") 0 FX.2.2.2.2 (lw_U q740 q741 q743 q744 q135 q745) rfl rfl rfl rfl ⟨by decide, by decide, by decide +kernel⟩ ⟨Nat.le_of_ble_eq_true rfl, Nat.le_of_ble_eq_true rfl⟩) (fx_obj hw (o := (217, 1, 200, 17)) (by decide)) rfl rfl hl.1 rfl (lv_room (Nat.le_of_ble_eq_true rfl)) dX2_part_1 ⟨rfl, rfl⟩ hm.le (fun H locs hw => ?_)
  refine lv_istore_n (lv' := [(1, .int t1), (0, .ref (G.2.2.2 217))]) FX.1 FX.2.1 dX2_part_4 rfl hl (by decide) rfl (fun ls hl => ?_)
  refine lv_aload_n FX.1 FX.2.1 dX2_part_5 rfl (lv_at hl 1 rfl) ?_
  refine lv_iload_n FX.1 FX.2.1 dX2_part_6 rfl (lv_at hl 0 rfl) ?_
  have hK20 : ∀ (y1_20 : Int32) (H : Heap) (locs : List Loc) (ls : Array Slot) (nc ns : Nat) , fX2_part_J20 C K t1 y1_20 = some t → Cn K K nc ns → WS G (M, C, K.1, K.2.1) s H locs → lv_has ls 2 [(0, .ref (G.2.2.2 217)), (1, .int t1)] → W p l e (rmX2_part K) s m a0 below meth c H locs nc ns Q (F0 m 20 ls [.int y1_20, .ref (G.2.2.2 217)]) := by
    intro y1_20 H locs ls nc ns hf hm hw hl
    unfold fX2_part_J20 at hf
    refine bd hf (fun t2 h_t2 hf => ?_)
    refine fU_v (As := [.int y1_20]) (rest := []) FX hw (wX1_need h_t2) (va_cwU (owner := "CableDrawer$Scan") 1 FX.2.2.2.2 (lw_U q755 q756 q758 q759 q135 q760) rfl rfl rfl rfl ⟨by decide, by decide, by decide +kernel⟩ ⟨Nat.le_of_ble_eq_true rfl, Nat.le_of_ble_eq_true rfl⟩) (fx_obj hw (o := (217, 1, 200, 17)) (by decide)) rfl rfl hl.1 rfl (lv_room (Nat.le_of_ble_eq_true rfl)) dX2_part_20 hm.le (fun hn H locs hw => ?_) (fun v_20 hv_20 H locs hw => ?_)
    · have hf := it_pos hn hf
      have hk : K = t.2.2 := congrArg (fun z => z.2.2) (Option.some.inj hf)
      have hm : Cn K t.2.2 nc ns := hk ▸ hm
      refine vy_cast hm.end_.1 hm.end_.2 ?_
      exact hthr _ (congrArg (fun z => z.1) (Option.some.inj hf)) (congrArg (fun z => (M, z.2.1, z.2.2.1, z.2.2.2.1)) (Option.some.inj hf)) hw
    · have hf := it_neg (by rw [hv_20]; exact fun h => by cases h) hf
      refine lv_iload_n FX.1 FX.2.1 dX2_part_23 rfl (lv_at hl 1 rfl) ?_
      have hK39 : ∀ (H : Heap) (locs : List Loc) (ls : Array Slot) (nc ns : Nat) , fX2_part_J39 K t1 t2  = some t → Cn K K nc ns → WS G (M, t2.2, K.1, K.2.1) s H locs → lv_has ls 2 [(0, .ref (G.2.2.2 217)), (1, .int t1)] → W p l e (rmX2_part K) s m a0 below meth c H locs nc ns Q (F0 m 39 ls []) := by
        intro  H locs ls nc ns hf hm hw hl
        unfold fX2_part_J39 at hf
        refine lv_iload_n FX.1 FX.2.1 dX2_part_39 rfl (lv_at hl 1 rfl) ?_
        refine lv_iconst (v := 1) FX.1 FX.2.1 dX2_part_40 (by decide) ?_
        have hK56 : ∀ (H : Heap) (locs : List Loc) (ls : Array Slot) (nc ns : Nat) , fX2_part_J56 K t1 t2  = some t → Cn K K nc ns → WS G (M, t2.2, K.1, K.2.1) s H locs → lv_has ls 2 [(0, .ref (G.2.2.2 217)), (1, .int t1)] → W p l e (rmX2_part K) s m a0 below meth c H locs nc ns Q (F0 m 56 ls []) := by
          intro  H locs ls nc ns hf hm hw hl
          unfold fX2_part_J56 at hf
          refine lv_iload_n FX.1 FX.2.1 dX2_part_56 rfl (lv_at hl 1 rfl) ?_
          refine lv_iconst (v := 2) FX.1 FX.2.1 dX2_part_57 (by decide) ?_
          have hK79 : ∀ (H : Heap) (locs : List Loc) (ls : Array Slot) (nc ns : Nat) , fX2_part_J79 K t1 t2  = some t → Cn K K nc ns → WS G (M, t2.2, K.1, K.2.1) s H locs → lv_has ls 2 [(0, .ref (G.2.2.2 217)), (1, .int t1)] → W p l e (rmX2_part K) s m a0 below meth c H locs nc ns Q (F0 m 79 ls []) := by
            intro  H locs ls nc ns hf hm hw hl
            unfold fX2_part_J79 at hf
            refine lv_aload_n FX.1 FX.2.1 dX2_part_79 rfl (lv_at hl 0 rfl) ?_
            refine bd hf (fun t3 h_t3 hf => ?_)
            refine clU_v0 (As := []) (rest := []) FX hw (wX1_next h_t3) (va_cwU (owner := "CableDrawer$Scan") 0 FX.2.2.2.2 (lw_U q774 q775 q777 q666 q135 q669) rfl rfl rfl rfl ⟨by decide, by decide, by decide +kernel⟩ ⟨Nat.le_of_ble_eq_true rfl, Nat.le_of_ble_eq_true rfl⟩) (fx_obj hw (o := (217, 1, 200, 17)) (by decide)) rfl rfl hl.1 rfl (lv_room (Nat.le_of_ble_eq_true rfl)) dX2_part_80 ⟨rfl, rfl⟩ hm.le (fun H locs hw => ?_)
            refine lv_iload_n FX.1 FX.2.1 dX2_part_83 rfl (lv_at hl 1 rfl) ?_
            by_cases c_84_0 : t1 = 0
            · have hf := it_pos c_84_0 hf
              refine lv_lookup (off := 28) (tgt := 112) FX.1 FX.2.1 dX2_part_84 (by decide) (by rw [c_84_0]; decide) (by decide) ?_
              refine lv_aload_n FX.1 FX.2.1 dX2_part_112 rfl (lv_at hl 0 rfl) ?_
              refine bd hf (fun K4 h_K4 hf => ?_)
              refine nX2_79 FX hw h_K4 (hm.roomO h_K4) dX2_part_113 (fun H hw => ?_)
              have hm : Cn K K4 (nc + 1) (ns + 9) := hm.sO h_K4
              refine lv_dup FX.1 FX.2.1 dX2_part_116 rfl ?_
              refine lv_aload_n FX.1 FX.2.1 dX2_part_117 rfl (lv_at hl 0 rfl) ?_
              refine bd hf (fun t5 h_t5 hf => ?_)
              refine fV_l (As := []) (rest := [.ref K.2.1, .ref K.2.1, .ref (G.2.2.2 217)]) FX hw (wX2_newName h_t5) (cwV 0 FX.2.2.2.2 (lw_V q780 q782 qs7 q136 q783) rfl rfl rfl (by decide +kernel) ⟨Nat.le_of_ble_eq_true rfl, Nat.le_of_ble_eq_true rfl⟩) (fx_obj hw (o := (217, 1, 200, 17)) (by decide)) rfl rfl hl.1 rfl (lv_room (Nat.le_of_ble_eq_true rfl)) dX2_part_118 hm.le (fun hn H locs hw => ?_) (fun v6 hv_118 H locs hw => ?_)
              · have hf := it_pos hn hf
                have hk : K4 = t.2.2 := congrArg (fun z => z.2.2) (Option.some.inj hf)
                have hm : Cn K t.2.2 (nc + 1) (ns + 9) := hk ▸ hm
                refine vy_cast hm.end_.1 hm.end_.2 ?_
                exact hthr _ (congrArg (fun z => z.1) (Option.some.inj hf)) (congrArg (fun z => (M, z.2.1, z.2.2.1, z.2.2.2.1)) (Option.some.inj hf)) hw
              · have hf := it_neg (by rw [hv_118]; exact fun h => by cases h) hf
                have hf := bsome hf hv_118
                refine bd hf (fun t7 h_t7 hf => ?_)
                refine bd hf (fun g8 h_g8 hf => ?_)
                refine clI_v0 (As := [.long v6]) (rest := [.ref K.2.1, .ref (G.2.2.2 217)]) FX hw (wX7_init h_t7) (cwI 1 FX.2.2.2.2 (lw_meth q802) rfl rfl rfl (FX.2.2.2.2 _ q154) (FX.2.2.2.2 _ q800) (FX.2.2.2.2 _ q801) rfl (by decide +kernel) ⟨Nat.le_of_ble_eq_true rfl, Nat.le_of_ble_eq_true rfl⟩) rfl hl.1 rfl (lv_room (Nat.le_of_ble_eq_true rfl)) dX2_part_121 ⟨rfl, rfl⟩ hm.le (fun H locs hw => ?_)
                have hm := hm.sG h_g8
                refine bd hf (fun t9 h_t9 hf => ?_)
                refine bd hf (fun g10 h_g10 hf => ?_)
                refine fV_v (As := [.ref K.2.1]) (rest := []) FX hw (wX2_aLead h_t9) (cwV 1 FX.2.2.2.2 (lw_V q852 q854 qs8 q136 q855) rfl rfl rfl (by decide +kernel) ⟨Nat.le_of_ble_eq_true rfl, Nat.le_of_ble_eq_true rfl⟩) (fx_obj hw (o := (217, 1, 200, 17)) (by decide)) rfl rfl hl.1 rfl (lv_room (Nat.le_of_ble_eq_true rfl)) dX2_part_124 hm.le (fun hn H locs hw => ?_) (fun v_124 hv_124 H locs hw => ?_)
                · have hf := it_pos hn hf
                  have hm := hm.sG h_g10
                  have hk : t9.2.2 = t.2.2 := congrArg (fun z => z.2.2) (Option.some.inj hf)
                  have hm : Cn K t.2.2 (nc + 1) (ns + 9) := hk ▸ hm
                  refine vy_cast hm.end_.1 hm.end_.2 ?_
                  exact hthr _ (congrArg (fun z => z.1) (Option.some.inj hf)) (congrArg (fun z => (M, z.2.1, z.2.2.1, z.2.2.2.1)) (Option.some.inj hf)) hw
                · have hf := it_neg (by rw [hv_124]; exact fun h => by cases h) hf
                  have hm := hm.sG h_g10
                  refine lv_goto (tgt := 160) FX.1 FX.2.1 dX2_part_127 (by decide) ?_
                  have hk : t9.2.2 = t.2.2 := congrArg (fun z => z.2.2) (Option.some.inj hf)
                  have hm : Cn K t.2.2 (nc + 1) (ns + 9) := hk ▸ hm
                  refine w_cast hm.end_.1 hm.end_.2 ?_
                  exact hret () _ (congrArg (fun z => z.1) (Option.some.inj hf)) (congrArg (fun z => (M, z.2.1, z.2.2.1, z.2.2.2.1)) (Option.some.inj hf)) hw dX2_part_160
            · have hf := it_neg c_84_0 hf
              by_cases c_84_1 : t1 = 1
              · have hf := it_pos c_84_1 hf
                refine lv_lookup (off := 46) (tgt := 130) FX.1 FX.2.1 dX2_part_84 (by decide) (by rw [c_84_1]; decide) (by decide) ?_
                refine lv_aload_n FX.1 FX.2.1 dX2_part_130 rfl (lv_at hl 0 rfl) ?_
                refine bd hf (fun t11 h_t11 hf => ?_)
                refine bd hf (fun g12 h_g12 hf => ?_)
                refine fV_v (As := []) (rest := []) FX hw (wX2_aCrossing h_t11) (cwV 0 FX.2.2.2.2 (lw_V q875 q877 qs11 q136 q878) rfl rfl rfl (by decide +kernel) ⟨Nat.le_of_ble_eq_true rfl, Nat.le_of_ble_eq_true rfl⟩) (fx_obj hw (o := (217, 1, 200, 17)) (by decide)) rfl rfl hl.1 rfl (lv_room (Nat.le_of_ble_eq_true rfl)) dX2_part_131 hm.roomC (fun hn H locs hw => ?_) (fun v_131 hv_131 H locs hw => ?_)
                · have hf := it_pos hn hf
                  have hm := hm.sM h_g12
                  have hk : t11.2.2 = t.2.2 := congrArg (fun z => z.2.2) (Option.some.inj hf)
                  have hm : Cn K t.2.2 (nc + (K.2.2.1 - t11.2.2.2.2.1)) (ns + (K.2.2.2 - t11.2.2.2.2.2)) := hk ▸ hm
                  refine vy_cast hm.end_.1 hm.end_.2 ?_
                  exact hthr _ (congrArg (fun z => z.1) (Option.some.inj hf)) (congrArg (fun z => (M, z.2.1, z.2.2.1, z.2.2.2.1)) (Option.some.inj hf)) hw
                · have hf := it_neg (by rw [hv_131]; exact fun h => by cases h) hf
                  have hm := hm.sM h_g12
                  refine lv_goto (tgt := 160) FX.1 FX.2.1 dX2_part_134 (by decide) ?_
                  have hk : t11.2.2 = t.2.2 := congrArg (fun z => z.2.2) (Option.some.inj hf)
                  have hm : Cn K t.2.2 (nc + (K.2.2.1 - t11.2.2.2.2.1)) (ns + (K.2.2.2 - t11.2.2.2.2.2)) := hk ▸ hm
                  refine w_cast hm.end_.1 hm.end_.2 ?_
                  exact hret () _ (congrArg (fun z => z.1) (Option.some.inj hf)) (congrArg (fun z => (M, z.2.1, z.2.2.1, z.2.2.2.1)) (Option.some.inj hf)) hw dX2_part_160
              · have hf := it_neg c_84_1 hf
                refine lv_lookup (off := 53) (tgt := 137) FX.1 FX.2.1 dX2_part_84 (by decide) ((lv_osw c_84_0 rfl).trans ((lv_osw c_84_1 rfl).trans rfl)) (by decide) ?_
                refine lv_aload_n FX.1 FX.2.1 dX2_part_137 rfl (lv_at hl 0 rfl) ?_
                refine gX2_35 FX hw dX2_part_138 ?_
                refine bd hf (fun a13 h_a13 hf => ?_)
                rw [show va_rf (t3.2.2.1 213) = .ref a13 from congrArg va_rf h_a13]
                refine bd hf (fun a14 h_a14 hf => ?_)
                refine gX2_94 FX hw h_a14 dX2_part_141 ?_
                refine lv_aload_n FX.1 FX.2.1 dX2_part_144 rfl (lv_at hl 0 rfl) ?_
                refine gX2_35 FX hw dX2_part_145 ?_
                refine bd hf (fun a15 h_a15 hf => ?_)
                rw [show va_rf (t3.2.2.1 213) = .ref a15 from congrArg va_rf h_a15]
                refine bd hf (fun v16 h_v16 hf => ?_)
                refine gX2_76 FX hw h_v16 dX2_part_148 ?_
                refine lv_aload_n FX.1 FX.2.1 dX2_part_151 rfl (lv_at hl 0 rfl) ?_
                refine bd hf (fun t17 h_t17 hf => ?_)
                refine fV_l (As := []) (rest := [.int v16, .ref a14]) FX hw (wX2_newName h_t17) (cwV 0 FX.2.2.2.2 (lw_V q780 q782 qs7 q136 q783) rfl rfl rfl (by decide +kernel) ⟨Nat.le_of_ble_eq_true rfl, Nat.le_of_ble_eq_true rfl⟩) (fx_obj hw (o := (217, 1, 200, 17)) (by decide)) rfl rfl hl.1 rfl (lv_room (Nat.le_of_ble_eq_true rfl)) dX2_part_152 hm.le (fun hn H locs hw => ?_) (fun v18 hv_152 H locs hw => ?_)
                · have hf := it_pos hn hf
                  have hk : K = t.2.2 := congrArg (fun z => z.2.2) (Option.some.inj hf)
                  have hm : Cn K t.2.2 nc ns := hk ▸ hm
                  refine vy_cast hm.end_.1 hm.end_.2 ?_
                  exact hthr _ (congrArg (fun z => z.1) (Option.some.inj hf)) (congrArg (fun z => (M, z.2.1, z.2.2.1, z.2.2.2.1)) (Option.some.inj hf)) hw
                · have hf := it_neg (by rw [hv_152]; exact fun h => by cases h) hf
                  have hf := bsome hf hv_152
                  refine bd hf (fun K19 h_K19 hf => ?_)
                  refine ei_last FX hw h_K19 dX2_part_155 (fun H locs hw => ?_)
                  have hm := hm.keep (ke_wL h_K19)
                  refine lv_aload_n FX.1 FX.2.1 dX2_part_156 rfl (lv_at hl 0 rfl) ?_
                  refine bd hf (fun t20 h_t20 hf => ?_)
                  refine bd hf (fun g21 h_g21 hf => ?_)
                  refine fV_v (As := []) (rest := []) FX hw (wX2_aLook h_t20) (cwV 0 FX.2.2.2.2 (lw_V q941 q943 qs14 q136 q944) rfl rfl rfl (by decide +kernel) ⟨Nat.le_of_ble_eq_true rfl, Nat.le_of_ble_eq_true rfl⟩) (fx_obj hw (o := (217, 1, 200, 17)) (by decide)) rfl rfl hl.1 rfl (lv_room (Nat.le_of_ble_eq_true rfl)) dX2_part_157 hm.le (fun hn H locs hw => ?_) (fun v_157 hv_157 H locs hw => ?_)
                  · have hf := it_pos hn hf
                    have hm := hm.sG h_g21
                    have hk : t20.2.2 = t.2.2 := congrArg (fun z => z.2.2) (Option.some.inj hf)
                    have hm : Cn K t.2.2 nc ns := hk ▸ hm
                    refine vy_cast hm.end_.1 hm.end_.2 ?_
                    exact hthr _ (congrArg (fun z => z.1) (Option.some.inj hf)) (congrArg (fun z => (M, z.2.1, z.2.2.1, z.2.2.2.1)) (Option.some.inj hf)) hw
                  · have hf := it_neg (by rw [hv_157]; exact fun h => by cases h) hf
                    have hm := hm.sG h_g21
                    have hk : t20.2.2 = t.2.2 := congrArg (fun z => z.2.2) (Option.some.inj hf)
                    have hm : Cn K t.2.2 nc ns := hk ▸ hm
                    refine w_cast hm.end_.1 hm.end_.2 ?_
                    exact hret () _ (congrArg (fun z => z.1) (Option.some.inj hf)) (congrArg (fun z => (M, z.2.1, z.2.2.1, z.2.2.2.1)) (Option.some.inj hf)) hw dX2_part_160
          refine lv_icmp_ne (tgt := 79) FX.1 FX.2.1 dX2_part_58 (by decide) (fun c_58 => ?_) (fun c_58 => ?_)
          · have hf := it_neg c_58 hf
            exact hK79  _ _ _ _ _ hf hm hw (lv_sub hl [0, 1] rfl)
          · have hf := it_pos c_58 hf
            refine lv_aload_n FX.1 FX.2.1 dX2_part_61 rfl (lv_at hl 0 rfl) ?_
            refine gX2_35 FX hw dX2_part_62 ?_
            refine bd hf (fun a22 h_a22 hf => ?_)
            rw [show va_rf (t2.2.2.2.1 213) = .ref a22 from congrArg va_rf h_a22]
            refine bd hf (fun v23 h_v23 hf => ?_)
            refine gX2_76 FX hw h_v23 dX2_part_65 ?_
            refine lv_iconst (v := 3) FX.1 FX.2.1 dX2_part_68 (by decide) ?_
            refine lv_icmp_ne (tgt := 79) FX.1 FX.2.1 dX2_part_69 (by decide) (fun c_69 => ?_) (fun c_69 => ?_)
            · have hf := it_neg c_69 hf
              exact hK79  _ _ _ _ _ hf hm hw (lv_sub hl [0, 1] rfl)
            · have hf := it_pos c_69 hf
              refine lv_aload_n FX.1 FX.2.1 dX2_part_72 rfl (lv_at hl 0 rfl) ?_
              refine lv_bipush (v := 6) FX.1 FX.2.1 dX2_part_73 (by decide) ?_
              refine bd hf (fun t24 h_t24 hf => ?_)
              refine clU_q0 (As := [.int 6]) (rest := []) FX hw (wX1_fail h_t24) (va_cwU (owner := "CableDrawer$Scan") 1 FX.2.2.2.2 (lw_U q770 q771 q773 q762 q135 q765) rfl rfl rfl rfl ⟨by decide, by decide, by decide +kernel⟩ ⟨Nat.le_of_ble_eq_true rfl, Nat.le_of_ble_eq_true rfl⟩) (fx_obj hw (o := (217, 1, 200, 17)) (by decide)) rfl rfl hl.1 rfl (lv_room (Nat.le_of_ble_eq_true rfl)) dX2_part_75 ⟨rfl, rfl⟩ hm.le (fun H locs hw => ?_)
              refine vy_athrow FX.1 FX.2.1 dX2_part_78 ?_
              have hk : K = t.2.2 := congrArg (fun z => z.2.2) (Option.some.inj hf)
              have hm : Cn K t.2.2 nc ns := hk ▸ hm
              refine vy_cast hm.end_.1 hm.end_.2 ?_
              exact hthr _ (congrArg (fun z => z.1) (Option.some.inj hf)) (congrArg (fun z => (M, z.2.1, z.2.2.1, z.2.2.2.1)) (Option.some.inj hf)) hw
        refine lv_icmp_ne (tgt := 56) FX.1 FX.2.1 dX2_part_41 (by decide) (fun c_41 => ?_) (fun c_41 => ?_)
        · have hf := it_neg c_41 hf
          exact hK56  _ _ _ _ _ hf hm hw (lv_sub hl [0, 1] rfl)
        · have hf := it_pos c_41 hf
          refine lv_aload_n FX.1 FX.2.1 dX2_part_44 rfl (lv_at hl 0 rfl) ?_
          refine gX2_35 FX hw dX2_part_45 ?_
          refine bd hf (fun a25 h_a25 hf => ?_)
          rw [show va_rf (t2.2.2.2.1 213) = .ref a25 from congrArg va_rf h_a25]
          refine bd hf (fun v26 h_v26 hf => ?_)
          refine gX2_73 FX hw h_v26 dX2_part_48 ?_
          refine lv_bipush (v := 24) FX.1 FX.2.1 dX2_part_51 (by decide) ?_
          refine lv_icmp_eq (tgt := 72) FX.1 FX.2.1 dX2_part_53 (by decide) (fun c_53 => ?_) (fun c_53 => ?_)
          · have hf := it_pos c_53 hf
            refine lv_aload_n FX.1 FX.2.1 dX2_part_72 rfl (lv_at hl 0 rfl) ?_
            refine lv_bipush (v := 6) FX.1 FX.2.1 dX2_part_73 (by decide) ?_
            refine bd hf (fun t27 h_t27 hf => ?_)
            refine clU_q0 (As := [.int 6]) (rest := []) FX hw (wX1_fail h_t27) (va_cwU (owner := "CableDrawer$Scan") 1 FX.2.2.2.2 (lw_U q770 q771 q773 q762 q135 q765) rfl rfl rfl rfl ⟨by decide, by decide, by decide +kernel⟩ ⟨Nat.le_of_ble_eq_true rfl, Nat.le_of_ble_eq_true rfl⟩) (fx_obj hw (o := (217, 1, 200, 17)) (by decide)) rfl rfl hl.1 rfl (lv_room (Nat.le_of_ble_eq_true rfl)) dX2_part_75 ⟨rfl, rfl⟩ hm.le (fun H locs hw => ?_)
            refine vy_athrow FX.1 FX.2.1 dX2_part_78 ?_
            have hk : K = t.2.2 := congrArg (fun z => z.2.2) (Option.some.inj hf)
            have hm : Cn K t.2.2 nc ns := hk ▸ hm
            refine vy_cast hm.end_.1 hm.end_.2 ?_
            exact hthr _ (congrArg (fun z => z.1) (Option.some.inj hf)) (congrArg (fun z => (M, z.2.1, z.2.2.1, z.2.2.2.1)) (Option.some.inj hf)) hw
          · have hf := it_neg c_53 hf
            exact hK56  _ _ _ _ _ hf hm hw (lv_sub hl [0, 1] rfl)
      refine lv_if_ne (tgt := 39) FX.1 FX.2.1 dX2_part_24 (by decide) (fun c_24 => ?_) (fun c_24 => ?_)
      · have hf := it_neg c_24 hf
        exact hK39  _ _ _ _ _ hf hm hw (lv_sub hl [0, 1] rfl)
      · have hf := it_pos c_24 hf
        refine lv_aload_n FX.1 FX.2.1 dX2_part_27 rfl (lv_at hl 0 rfl) ?_
        refine gX2_35 FX hw dX2_part_28 ?_
        refine bd hf (fun a28 h_a28 hf => ?_)
        rw [show va_rf (t2.2.2.2.1 213) = .ref a28 from congrArg va_rf h_a28]
        refine bd hf (fun v29 h_v29 hf => ?_)
        refine gX2_70 FX hw h_v29 dX2_part_31 ?_
        refine lv_bipush (v := 8) FX.1 FX.2.1 dX2_part_34 (by decide) ?_
        refine lv_icmp_eq (tgt := 72) FX.1 FX.2.1 dX2_part_36 (by decide) (fun c_36 => ?_) (fun c_36 => ?_)
        · have hf := it_pos c_36 hf
          refine lv_aload_n FX.1 FX.2.1 dX2_part_72 rfl (lv_at hl 0 rfl) ?_
          refine lv_bipush (v := 6) FX.1 FX.2.1 dX2_part_73 (by decide) ?_
          refine bd hf (fun t30 h_t30 hf => ?_)
          refine clU_q0 (As := [.int 6]) (rest := []) FX hw (wX1_fail h_t30) (va_cwU (owner := "CableDrawer$Scan") 1 FX.2.2.2.2 (lw_U q770 q771 q773 q762 q135 q765) rfl rfl rfl rfl ⟨by decide, by decide, by decide +kernel⟩ ⟨Nat.le_of_ble_eq_true rfl, Nat.le_of_ble_eq_true rfl⟩) (fx_obj hw (o := (217, 1, 200, 17)) (by decide)) rfl rfl hl.1 rfl (lv_room (Nat.le_of_ble_eq_true rfl)) dX2_part_75 ⟨rfl, rfl⟩ hm.le (fun H locs hw => ?_)
          refine vy_athrow FX.1 FX.2.1 dX2_part_78 ?_
          have hk : K = t.2.2 := congrArg (fun z => z.2.2) (Option.some.inj hf)
          have hm : Cn K t.2.2 nc ns := hk ▸ hm
          refine vy_cast hm.end_.1 hm.end_.2 ?_
          exact hthr _ (congrArg (fun z => z.1) (Option.some.inj hf)) (congrArg (fun z => (M, z.2.1, z.2.2.1, z.2.2.2.1)) (Option.some.inj hf)) hw
        · have hf := it_neg c_36 hf
          exact hK39  _ _ _ _ _ hf hm hw (lv_sub hl [0, 1] rfl)
  refine lv_if_lt (tgt := 19) FX.1 FX.2.1 dX2_part_7 (by decide) (fun c_7 => ?_) (fun c_7 => ?_)
  · have hf := it_pos c_7 hf
    refine lv_iconst (v := 0) FX.1 FX.2.1 dX2_part_19 (by decide) ?_
    exact hK20 _ _ _ _ _ _ hf hm hw (lv_sub hl [1, 0] rfl)
  · have hf := it_neg c_7 hf
    refine lv_iload_n FX.1 FX.2.1 dX2_part_10 rfl (lv_at hl 0 rfl) ?_
    refine lv_iconst (v := 2) FX.1 FX.2.1 dX2_part_11 (by decide) ?_
    refine lv_icmp_gt (tgt := 19) FX.1 FX.2.1 dX2_part_12 (by decide) (fun c_12 => ?_) (fun c_12 => ?_)
    · have hf := it_pos c_12 hf
      refine lv_iconst (v := 0) FX.1 FX.2.1 dX2_part_19 (by decide) ?_
      exact hK20 _ _ _ _ _ _ hf hm hw (lv_sub hl [1, 0] rfl)
    · have hf := it_neg c_12 hf
      refine lv_iconst (v := 1) FX.1 FX.2.1 dX2_part_15 (by decide) ?_
      refine lv_goto (tgt := 20) FX.1 FX.2.1 dX2_part_16 (by decide) ?_
      exact hK20 _ _ _ _ _ _ hf hm hw (lv_sub hl [1, 0] rfl)
abbrev rmX2_drawer (K : KT) : Room := { frames := 11, cells := K.2.2.1, slots := K.2.2.2, locals := 439 }
set_option maxHeartbeats 4000000 in
theorem wX2_drawer {l : Launch} {G : GT} {M C : FS} {K : KT} {p1 : Int32} {t : (Option Nat × FS × KT)} (hf : fX2_drawer C K p1 = some t) : FtQ l yX2_drawer (ws_ yX2_drawer cX2_drawer 2 (some (.object "CableDrawer$Drawer"))) (rmX2_drawer K) G [.ref (G.2.2.2 217), .int p1] (M, C, K.1, K.2.1) t.1 (M, t.2.1, t.2.2.1, t.2.2.2.1) (K.2.2.1 - t.2.2.2.2.1) (K.2.2.2 - t.2.2.2.2.2) := by
  refine xkQ (by decide) (Nat.le_of_ble_eq_true rfl) (Or.inl ⟨_, rfl⟩) (fun p e s m a0 below meth c Q FX hw hname hret hthr ls hl => ?_)
  have hl : lv_has ls 2 [(0, .ref (G.2.2.2 217)), (1, .int p1)] := hl
  unfold fX2_drawer at hf
  have hm : Cn K K 0 0 := Cn.rf
  refine lv_aload_n FX.1 FX.2.1 dX2_drawer_0 rfl (lv_at hl 0 rfl) ?_
  refine bd hf (fun K1 h_K1 hf => ?_)
  refine nX2_44 FX hw h_K1 (hm.roomO h_K1) dX2_drawer_1 (fun H hw => ?_)
  have hm : Cn K K1 (0 + 1) (0 + 11) := hm.sO h_K1
  refine lv_dup FX.1 FX.2.1 dX2_drawer_4 rfl ?_
  refine lv_aload_n FX.1 FX.2.1 dX2_drawer_5 rfl (lv_at hl 0 rfl) ?_
  refine gX2_19 FX hw dX2_drawer_6 ?_
  refine bd hf (fun a2 h_a2 hf => ?_)
  rw [show va_rf (C.2.2.1 216) = .ref a2 from congrArg va_rf h_a2]
  refine bd hf (fun t3 h_t3 hf => ?_)
  refine bd hf (fun g4 h_g4 hf => ?_)
  refine xlI_v (As := [.ref a2]) (rest := [.ref K.2.1, .ref (G.2.2.2 217)]) FX hw (wX4_init h_t3) (cwI 1 FX.2.2.2.2 (lw_meth q340) rfl rfl rfl (FX.2.2.2.2 _ q141) (FX.2.2.2.2 _ q658) (FX.2.2.2.2 _ q339) rfl (by decide +kernel) ⟨Nat.le_of_ble_eq_true rfl, Nat.le_of_ble_eq_true rfl⟩) rfl hl.1 rfl (lv_room (Nat.le_of_ble_eq_true rfl)) dX2_drawer_9 hm.roomC (fun H locs hw => ?_)
  have hm := hm.sM h_g4
  refine bd hf (fun C5 h_C5 hf => ?_)
  refine sX2_35 (v := (some K.2.1)) FX hw dX2_drawer_12 (fun H locs hw => ?_)
  rw [Option.some.inj h_C5] at hw
  refine lv_aload_n FX.1 FX.2.1 dX2_drawer_15 rfl (lv_at hl 0 rfl) ?_
  refine lv_iload_n FX.1 FX.2.1 dX2_drawer_16 rfl (lv_at hl 1 rfl) ?_
  refine bd hf (fun t6 h_t6 hf => ?_)
  refine clU_v0 (As := [.int p1]) (rest := []) FX hw (wX1_begin h_t6) (va_cwU (owner := "CableDrawer$Scan") 1 FX.2.2.2.2 (lw_U q659 q660 q662 q663 q135 q664) rfl rfl rfl rfl ⟨by decide, by decide, by decide +kernel⟩ ⟨Nat.le_of_ble_eq_true rfl, Nat.le_of_ble_eq_true rfl⟩) (fx_obj hw (o := (217, 1, 200, 17)) (by decide)) rfl rfl hl.1 rfl (lv_room (Nat.le_of_ble_eq_true rfl)) dX2_drawer_17 ⟨rfl, rfl⟩ hm.le (fun H locs hw => ?_)
  refine bd hf (fun u20 ht hf => ?_)
  obtain ⟨n, hn⟩ := lp_iff.mp ht
  have hR20 : ∀ v, Sum.inl v = u20 → _ := fun v he => ell hf he
  have hX20 : ∀ (Ct20 : FS) (Kt20 : KT) (H : Heap) (locs : List Loc) (ls : Array Slot) (nc ns : Nat) , Sum.inr (Ct20, Kt20) = u20 → Cn K Kt20 nc ns → WS G (M, Ct20, Kt20.1, Kt20.2.1) s H locs → lv_has ls 2 [(0, .ref (G.2.2.2 217))] → W p l e (rmX2_drawer K) s m a0 below meth c H locs nc ns Q (F0 m 38 ls []) := by
    intro Ct20 Kt20 H locs ls nc ns he hm hw hl
    have hf := elr hf he
    have hf : fX2_drawer_X20 Ct20 Kt20 = some t := hf
    unfold fX2_drawer_X20 at hf
    refine lv_aload_n FX.1 FX.2.1 dX2_drawer_38 rfl (lv_at hl 0 rfl) ?_
    refine gX2_35 FX hw dX2_drawer_39 ?_
    refine bd hf (fun a10 h_a10 hf => ?_)
    rw [show va_rf (Ct20.2.2.1 213) = .ref a10 from congrArg va_rf h_a10]
    have hk : Kt20 = t.2.2 := congrArg (fun z => z.2.2) (Option.some.inj hf)
    have hm : Cn K t.2.2 nc ns := hk ▸ hm
    refine w_cast hm.end_.1 hm.end_.2 ?_
    exact hret a10 _ (congrArg (fun z => z.1) (Option.some.inj hf)) (congrArg (fun z => (M, z.2.1, z.2.2.1, z.2.2.2.1)) (Option.some.inj hf)) hw dX2_drawer_42
  have hL20 : ∀ (n : Nat) (Cz20 : FS) (Kz20 : KT) (H : Heap) (locs : List Loc) (ls : Array Slot) (nc ns : Nat) , lpN (fun z => fX2_drawer_L20 z.1 z.2) n (Cz20, Kz20) = some u20 → Cn K Kz20 nc ns → WS G (M, Cz20, Kz20.1, Kz20.2.1) s H locs → lv_has ls 2 [(0, .ref (G.2.2.2 217))] → W p l e (rmX2_drawer K) s m a0 below meth c H locs nc ns Q (F0 m 20 ls []) := by
    intro n
    induction n with
    | zero => intro Cz20 Kz20 H locs ls nc ns hz; cases hz
    | succ n ih =>
      intro Cz20 Kz20 H locs ls nc ns hz hm hw hl
      refine bd (show (fX2_drawer_L20 Cz20 Kz20).bind _ = some u20 from hz) (fun x20 hf hk20 => ?_)
      unfold fX2_drawer_L20 at hf
      refine lv_aload_n FX.1 FX.2.1 dX2_drawer_20 rfl (lv_at hl 0 rfl) ?_
      refine gX2_60 FX hw dX2_drawer_21 ?_
      refine lv_if_eq (tgt := 38) FX.1 FX.2.1 dX2_drawer_24 (by decide) (fun c_24 => ?_) (fun c_24 => ?_)
      · have hf := it_pos c_24 hf
        exact hX20 _ _ _ _ _ _ _ (lpe hf hk20) hm hw (lv_sub hl [0] rfl)
      · have hf := it_neg c_24 hf
        refine lv_aload_n FX.1 FX.2.1 dX2_drawer_27 rfl (lv_at hl 0 rfl) ?_
        refine bd hf (fun t7 h_t7 hf => ?_)
        refine bd hf (fun g8 h_g8 hf => ?_)
        refine fV_v (As := []) (rest := []) FX hw (wX2_part h_t7) (cwV 0 FX.2.2.2.2 (lw_V q736 q738 qs6 q136 q739) rfl rfl rfl (by decide +kernel) ⟨Nat.le_of_ble_eq_true rfl, Nat.le_of_ble_eq_true rfl⟩) (fx_obj hw (o := (217, 1, 200, 17)) (by decide)) rfl rfl hl.1 rfl (lv_room (Nat.le_of_ble_eq_true rfl)) dX2_drawer_28 hm.roomC (fun hn H locs hw => ?_) (fun v_28 hv_28 H locs hw => ?_)
        · have hf := it_pos hn hf
          have hm := hm.sM h_g8
          have hf := hR20 _ (lpe hf hk20)
          have hk : t7.2.2 = t.2.2 := congrArg (fun z => z.2.2) (Option.some.inj hf)
          have hm : Cn K t.2.2 (nc + (Kz20.2.2.1 - t7.2.2.2.2.1)) (ns + (Kz20.2.2.2 - t7.2.2.2.2.2)) := hk ▸ hm
          refine vy_cast hm.end_.1 hm.end_.2 ?_
          exact hthr _ (congrArg (fun z => z.1) (Option.some.inj hf)) (congrArg (fun z => (M, z.2.1, z.2.2.1, z.2.2.2.1)) (Option.some.inj hf)) hw
        · have hf := it_neg (by rw [hv_28]; exact fun h => by cases h) hf
          have hm := hm.sM h_g8
          refine lv_aload_n FX.1 FX.2.1 dX2_drawer_31 rfl (lv_at hl 0 rfl) ?_
          refine bd hf (fun t9 h_t9 hf => ?_)
          refine fU_v (As := []) (rest := []) FX hw (wX1_closes h_t9) (va_cwU (owner := "CableDrawer$Scan") 0 FX.2.2.2.2 (lw_U q951 q952 q954 q955 q135 q956) rfl rfl rfl rfl ⟨by decide, by decide, by decide +kernel⟩ ⟨Nat.le_of_ble_eq_true rfl, Nat.le_of_ble_eq_true rfl⟩) (fx_obj hw (o := (217, 1, 200, 17)) (by decide)) rfl rfl hl.1 rfl (lv_room (Nat.le_of_ble_eq_true rfl)) dX2_drawer_32 hm.le (fun hn H locs hw => ?_) (fun v_32 hv_32 H locs hw => ?_)
          · have hf := it_pos hn hf
            have hf := hR20 _ (lpe hf hk20)
            have hk : t7.2.2 = t.2.2 := congrArg (fun z => z.2.2) (Option.some.inj hf)
            have hm : Cn K t.2.2 (nc + (Kz20.2.2.1 - t7.2.2.2.2.1)) (ns + (Kz20.2.2.2 - t7.2.2.2.2.2)) := hk ▸ hm
            refine vy_cast hm.end_.1 hm.end_.2 ?_
            exact hthr _ (congrArg (fun z => z.1) (Option.some.inj hf)) (congrArg (fun z => (M, z.2.1, z.2.2.1, z.2.2.2.1)) (Option.some.inj hf)) hw
          · have hf := it_neg (by rw [hv_32]; exact fun h => by cases h) hf
            refine lv_goto (tgt := 20) FX.1 FX.2.1 dX2_drawer_35 (by decide) ?_
            exact ih _ _ _ _ _ _ _ (lpc hf hk20) hm hw (lv_sub hl [0] rfl)
  exact hL20 n _ _ _ _ _ _ _ hn hm hw (lv_sub hl [0] rfl)
abbrev rmX2_test : Room := { frames := 8, cells := 0, slots := 0, locals := 372 }
set_option maxHeartbeats 4000000 in
theorem wX2_test {l : Launch} {G : GT} {M C : FS} {K : KT} {p1 : Nat} {t : (Option Unit × FS × KT)} (hf : fX2_test C K p1 = some t) : FtV l yX2_test (ws_ yX2_test cX2_test 2 none) rmX2_test G [.ref (G.2.2.2 217), .ref p1] (M, C, K.1, K.2.1) t.1 (M, t.2.1, t.2.2.1, t.2.2.2.1) 0 0 := by
  refine xkV (by decide) (Nat.le_of_ble_eq_true rfl) (fun p e s m a0 below meth c Q FX hw hname hret hthr ls hl => ?_)
  have hl : lv_has ls 2 [(0, .ref (G.2.2.2 217)), (1, .ref p1)] := hl
  unfold fX2_test at hf
  refine lv_aload_n FX.1 FX.2.1 dX2_test_0 rfl (lv_at hl 1 rfl) ?_
  refine lv_aload_n FX.1 FX.2.1 dX2_test_1 rfl (lv_at hl 0 rfl) ?_
  refine bd hf (fun t1 h_t1 hf => ?_)
  refine clU_i0 (As := []) (rest := [.ref p1]) FX hw (wX1_key h_t1) (va_cwU (owner := "CableDrawer$Scan") 0 FX.2.2.2.2 (lw_U q740 q741 q743 q744 q135 q745) rfl rfl rfl rfl ⟨by decide, by decide, by decide +kernel⟩ ⟨Nat.le_of_ble_eq_true rfl, Nat.le_of_ble_eq_true rfl⟩) (fx_obj hw (o := (217, 1, 200, 17)) (by decide)) rfl rfl hl.1 rfl (lv_room (Nat.le_of_ble_eq_true rfl)) dX2_test_2 ⟨rfl, rfl⟩ ⟨Nat.zero_le _, Nat.zero_le _⟩ (fun H locs hw => ?_)
  refine bd hf (fun K2 h_K2 hf => ?_)
  refine sX2_176 FX hw h_K2 dX2_test_5 (fun H locs hw => ?_)
  refine lv_aload_n FX.1 FX.2.1 dX2_test_8 rfl (lv_at hl 0 rfl) ?_
  refine lv_aload_n FX.1 FX.2.1 dX2_test_9 rfl (lv_at hl 1 rfl) ?_
  refine bd hf (fun v3 h_v3 hf => ?_)
  refine gX2_176 FX hw h_v3 dX2_test_10 ?_
  refine lv_bipush (v := 22) FX.1 FX.2.1 dX2_test_13 (by decide) ?_
  have hK40 : ∀ (y1_40 : Int32) (H : Heap) (locs : List Loc) (ls : Array Slot) , fX2_test_J40 C p1 K2 y1_40 = some t → WS G (M, C, K2.1, K2.2.1) s H locs → lv_has ls 2 [(0, .ref (G.2.2.2 217)), (1, .ref p1)] → W p l e rmX2_test s m a0 below meth c H locs 0 0 Q (F0 m 40 ls [.int y1_40, .ref (G.2.2.2 217)]) := by
    intro y1_40 H locs ls hf hw hl
    unfold fX2_test_J40 at hf
    refine bd hf (fun t4 h_t4 hf => ?_)
    refine fU_v (As := [.int y1_40]) (rest := []) FX hw (wX1_need h_t4) (va_cwU (owner := "CableDrawer$Scan") 1 FX.2.2.2.2 (lw_U q755 q756 q758 q759 q135 q760) rfl rfl rfl rfl ⟨by decide, by decide, by decide +kernel⟩ ⟨Nat.le_of_ble_eq_true rfl, Nat.le_of_ble_eq_true rfl⟩) (fx_obj hw (o := (217, 1, 200, 17)) (by decide)) rfl rfl hl.1 rfl (lv_room (Nat.le_of_ble_eq_true rfl)) dX2_test_40 ⟨Nat.zero_le _, Nat.zero_le _⟩ (fun hn H locs hw => ?_) (fun v_40 hv_40 H locs hw => ?_)
    · have hf := it_pos hn hf
      refine vy_cast rfl rfl ?_
      exact hthr _ (congrArg (fun z => z.1) (Option.some.inj hf)) (congrArg (fun z => (M, z.2.1, z.2.2.1, z.2.2.2.1)) (Option.some.inj hf)) hw
    · have hf := it_neg (by rw [hv_40]; exact fun h => by cases h) hf
      refine lv_aload_n FX.1 FX.2.1 dX2_test_43 rfl (lv_at hl 0 rfl) ?_
      refine bd hf (fun t5 h_t5 hf => ?_)
      refine clU_v0 (As := []) (rest := []) FX hw (wX1_next h_t5) (va_cwU (owner := "CableDrawer$Scan") 0 FX.2.2.2.2 (lw_U q774 q775 q777 q666 q135 q669) rfl rfl rfl rfl ⟨by decide, by decide, by decide +kernel⟩ ⟨Nat.le_of_ble_eq_true rfl, Nat.le_of_ble_eq_true rfl⟩) (fx_obj hw (o := (217, 1, 200, 17)) (by decide)) rfl rfl hl.1 rfl (lv_room (Nat.le_of_ble_eq_true rfl)) dX2_test_44 ⟨rfl, rfl⟩ ⟨Nat.zero_le _, Nat.zero_le _⟩ (fun H locs hw => ?_)
      refine lv_aload_n FX.1 FX.2.1 dX2_test_47 rfl (lv_at hl 1 rfl) ?_
      refine bd hf (fun v6 h_v6 hf => ?_)
      refine gX2_176 FX hw h_v6 dX2_test_48 ?_
      refine lv_bipush (v := 23) FX.1 FX.2.1 dX2_test_51 (by decide) ?_
      refine lv_icmp_ne (tgt := 65) FX.1 FX.2.1 dX2_test_53 (by decide) (fun c_53 => ?_) (fun c_53 => ?_)
      · have hf := it_neg c_53 hf
        refine lv_aload_n FX.1 FX.2.1 dX2_test_65 rfl (lv_at hl 0 rfl) ?_
        refine lv_aload_n FX.1 FX.2.1 dX2_test_66 rfl (lv_at hl 0 rfl) ?_
        refine lv_bipush (v := 60) FX.1 FX.2.1 dX2_test_67 (by decide) ?_
        refine bd hf (fun t7 h_t7 hf => ?_)
        refine clU_i0 (As := [.int 60]) (rest := [.ref (G.2.2.2 217)]) FX hw (wX1_is h_t7) (va_cwU (owner := "CableDrawer$Scan") 1 FX.2.2.2.2 (lw_U q945 q946 q948 q949 q135 q950) rfl rfl rfl rfl ⟨by decide, by decide, by decide +kernel⟩ ⟨Nat.le_of_ble_eq_true rfl, Nat.le_of_ble_eq_true rfl⟩) (fx_obj hw (o := (217, 1, 200, 17)) (by decide)) rfl rfl hl.1 rfl (lv_room (Nat.le_of_ble_eq_true rfl)) dX2_test_69 ⟨rfl, rfl⟩ ⟨Nat.zero_le _, Nat.zero_le _⟩ (fun H locs hw => ?_)
        have hK98 : ∀ (y1_98 : Int32) (H : Heap) (locs : List Loc) (ls : Array Slot) , fX2_test_J98 p1 K2 t5 y1_98 = some t → WS G (M, t5, K2.1, K2.2.1) s H locs → lv_has ls 2 [(0, .ref (G.2.2.2 217)), (1, .ref p1)] → W p l e rmX2_test s m a0 below meth c H locs 0 0 Q (F0 m 98 ls [.int y1_98, .ref (G.2.2.2 217)]) := by
          intro y1_98 H locs ls hf hw hl
          unfold fX2_test_J98 at hf
          refine bd hf (fun t8 h_t8 hf => ?_)
          refine fU_v (As := [.int y1_98]) (rest := []) FX hw (wX1_need h_t8) (va_cwU (owner := "CableDrawer$Scan") 1 FX.2.2.2.2 (lw_U q755 q756 q758 q759 q135 q760) rfl rfl rfl rfl ⟨by decide, by decide, by decide +kernel⟩ ⟨Nat.le_of_ble_eq_true rfl, Nat.le_of_ble_eq_true rfl⟩) (fx_obj hw (o := (217, 1, 200, 17)) (by decide)) rfl rfl hl.1 rfl (lv_room (Nat.le_of_ble_eq_true rfl)) dX2_test_98 ⟨Nat.zero_le _, Nat.zero_le _⟩ (fun hn H locs hw => ?_) (fun v_98 hv_98 H locs hw => ?_)
          · have hf := it_pos hn hf
            refine vy_cast rfl rfl ?_
            exact hthr _ (congrArg (fun z => z.1) (Option.some.inj hf)) (congrArg (fun z => (M, z.2.1, z.2.2.1, z.2.2.2.1)) (Option.some.inj hf)) hw
          · have hf := it_neg (by rw [hv_98]; exact fun h => by cases h) hf
            refine lv_aload_n FX.1 FX.2.1 dX2_test_101 rfl (lv_at hl 1 rfl) ?_
            refine lv_aload_n FX.1 FX.2.1 dX2_test_102 rfl (lv_at hl 0 rfl) ?_
            refine gX2_180 FX hw dX2_test_103 ?_
            refine bd hf (fun K9 h_K9 hf => ?_)
            refine sX2_183 FX hw h_K9 dX2_test_106 (fun H locs hw => ?_)
            refine lv_aload_n FX.1 FX.2.1 dX2_test_109 rfl (lv_at hl 0 rfl) ?_
            refine bd hf (fun t10 h_t10 hf => ?_)
            refine clU_v0 (As := []) (rest := []) FX hw (wX1_next h_t10) (va_cwU (owner := "CableDrawer$Scan") 0 FX.2.2.2.2 (lw_U q774 q775 q777 q666 q135 q669) rfl rfl rfl rfl ⟨by decide, by decide, by decide +kernel⟩ ⟨Nat.le_of_ble_eq_true rfl, Nat.le_of_ble_eq_true rfl⟩) (fx_obj hw (o := (217, 1, 200, 17)) (by decide)) rfl rfl hl.1 rfl (lv_room (Nat.le_of_ble_eq_true rfl)) dX2_test_110 ⟨rfl, rfl⟩ ⟨Nat.zero_le _, Nat.zero_le _⟩ (fun H locs hw => ?_)
            refine lv_aload_n FX.1 FX.2.1 dX2_test_113 rfl (lv_at hl 1 rfl) ?_
            refine lv_aload_n FX.1 FX.2.1 dX2_test_114 rfl (lv_at hl 0 rfl) ?_
            refine lv_iconst (v := 0) FX.1 FX.2.1 dX2_test_115 (by decide) ?_
            refine lv_aload_n FX.1 FX.2.1 dX2_test_116 rfl (lv_at hl 1 rfl) ?_
            refine bd hf (fun v11 h_v11 hf => ?_)
            refine gX2_176 FX hw h_v11 dX2_test_117 ?_
            refine lv_bipush (v := 22) FX.1 FX.2.1 dX2_test_120 (by decide) ?_
            have hK132 : ∀ (y3_132 : Int32) (H : Heap) (locs : List Loc) (ls : Array Slot) , fX2_test_J132 p1 K9 t10 y3_132 = some t → WS G (M, t10, K9.1, K9.2.1) s H locs → lv_has ls 2 [] → W p l e rmX2_test s m a0 below meth c H locs 0 0 Q (F0 m 132 ls [.int y3_132, .int 0, .ref (G.2.2.2 217), .ref p1]) := by
              intro y3_132 H locs ls hf hw hl
              unfold fX2_test_J132 at hf
              refine bd hf (fun t12 h_t12 hf => ?_)
              refine fU_i (As := [.int 0, .int y3_132]) (rest := [.ref p1]) FX hw (wX1_passed h_t12) (va_cwU (owner := "CableDrawer$Scan") 2 FX.2.2.2.2 (lw_U q860 q861 q863 q864 q135 q865) rfl rfl rfl rfl ⟨by decide, by decide, by decide +kernel⟩ ⟨Nat.le_of_ble_eq_true rfl, Nat.le_of_ble_eq_true rfl⟩) (fx_obj hw (o := (217, 1, 200, 17)) (by decide)) rfl rfl hl.1 rfl (lv_room (Nat.le_of_ble_eq_true rfl)) dX2_test_132 ⟨Nat.zero_le _, Nat.zero_le _⟩ (fun hn H locs hw => ?_) (fun v13 hv_132 H locs hw => ?_)
              · have hf := it_pos hn hf
                refine vy_cast rfl rfl ?_
                exact hthr _ (congrArg (fun z => z.1) (Option.some.inj hf)) (congrArg (fun z => (M, z.2.1, z.2.2.1, z.2.2.2.1)) (Option.some.inj hf)) hw
              · have hf := it_neg (by rw [hv_132]; exact fun h => by cases h) hf
                have hf := bsome hf hv_132
                refine bd hf (fun K14 h_K14 hf => ?_)
                refine sX2_186 FX hw h_K14 dX2_test_135 (fun H locs hw => ?_)
                exact hret () _ (congrArg (fun z => z.1) (Option.some.inj hf)) (congrArg (fun z => (M, z.2.1, z.2.2.1, z.2.2.2.1)) (Option.some.inj hf)) hw dX2_test_138
            refine lv_icmp_ne (tgt := 130) FX.1 FX.2.1 dX2_test_122 (by decide) (fun c_122 => ?_) (fun c_122 => ?_)
            · have hf := it_neg c_122 hf
              refine lv_bipush (v := 24) FX.1 FX.2.1 dX2_test_130 (by decide) ?_
              exact hK132 _ _ _ _ hf hw (lv_sub hl [] rfl)
            · have hf := it_pos c_122 hf
              refine lv_bipush (v := 8) FX.1 FX.2.1 dX2_test_125 (by decide) ?_
              refine lv_goto (tgt := 132) FX.1 FX.2.1 dX2_test_127 (by decide) ?_
              exact hK132 _ _ _ _ hf hw (lv_sub hl [] rfl)
        refine lv_if_ne (tgt := 93) FX.1 FX.2.1 dX2_test_72 (by decide) (fun c_72 => ?_) (fun c_72 => ?_)
        · have hf := it_neg c_72 hf
          refine lv_iconst (v := 1) FX.1 FX.2.1 dX2_test_93 (by decide) ?_
          refine lv_goto (tgt := 98) FX.1 FX.2.1 dX2_test_94 (by decide) ?_
          exact hK98 _ _ _ _ hf hw (lv_sub hl [0, 1] rfl)
        · have hf := it_pos c_72 hf
          refine lv_aload_n FX.1 FX.2.1 dX2_test_75 rfl (lv_at hl 0 rfl) ?_
          refine lv_bipush (v := 62) FX.1 FX.2.1 dX2_test_76 (by decide) ?_
          refine bd hf (fun t15 h_t15 hf => ?_)
          refine clU_i0 (As := [.int 62]) (rest := [.ref (G.2.2.2 217)]) FX hw (wX1_is h_t15) (va_cwU (owner := "CableDrawer$Scan") 1 FX.2.2.2.2 (lw_U q945 q946 q948 q949 q135 q950) rfl rfl rfl rfl ⟨by decide, by decide, by decide +kernel⟩ ⟨Nat.le_of_ble_eq_true rfl, Nat.le_of_ble_eq_true rfl⟩) (fx_obj hw (o := (217, 1, 200, 17)) (by decide)) rfl rfl hl.1 rfl (lv_room (Nat.le_of_ble_eq_true rfl)) dX2_test_78 ⟨rfl, rfl⟩ ⟨Nat.zero_le _, Nat.zero_le _⟩ (fun H locs hw => ?_)
          refine lv_if_ne (tgt := 93) FX.1 FX.2.1 dX2_test_81 (by decide) (fun c_81 => ?_) (fun c_81 => ?_)
          · have hf := it_neg c_81 hf
            refine lv_iconst (v := 1) FX.1 FX.2.1 dX2_test_93 (by decide) ?_
            refine lv_goto (tgt := 98) FX.1 FX.2.1 dX2_test_94 (by decide) ?_
            exact hK98 _ _ _ _ hf hw (lv_sub hl [0, 1] rfl)
          · have hf := it_pos c_81 hf
            refine lv_aload_n FX.1 FX.2.1 dX2_test_84 rfl (lv_at hl 0 rfl) ?_
            refine lv_bipush (v := 61) FX.1 FX.2.1 dX2_test_85 (by decide) ?_
            refine bd hf (fun t16 h_t16 hf => ?_)
            refine clU_i0 (As := [.int 61]) (rest := [.ref (G.2.2.2 217)]) FX hw (wX1_is h_t16) (va_cwU (owner := "CableDrawer$Scan") 1 FX.2.2.2.2 (lw_U q945 q946 q948 q949 q135 q950) rfl rfl rfl rfl ⟨by decide, by decide, by decide +kernel⟩ ⟨Nat.le_of_ble_eq_true rfl, Nat.le_of_ble_eq_true rfl⟩) (fx_obj hw (o := (217, 1, 200, 17)) (by decide)) rfl rfl hl.1 rfl (lv_room (Nat.le_of_ble_eq_true rfl)) dX2_test_87 ⟨rfl, rfl⟩ ⟨Nat.zero_le _, Nat.zero_le _⟩ (fun H locs hw => ?_)
            refine lv_if_eq (tgt := 97) FX.1 FX.2.1 dX2_test_90 (by decide) (fun c_90 => ?_) (fun c_90 => ?_)
            · have hf := it_pos c_90 hf
              refine lv_iconst (v := 0) FX.1 FX.2.1 dX2_test_97 (by decide) ?_
              exact hK98 _ _ _ _ hf hw (lv_sub hl [0, 1] rfl)
            · have hf := it_neg c_90 hf
              refine lv_iconst (v := 1) FX.1 FX.2.1 dX2_test_93 (by decide) ?_
              refine lv_goto (tgt := 98) FX.1 FX.2.1 dX2_test_94 (by decide) ?_
              exact hK98 _ _ _ _ hf hw (lv_sub hl [0, 1] rfl)
      · have hf := it_pos c_53 hf
        refine lv_aload_n FX.1 FX.2.1 dX2_test_56 rfl (lv_at hl 1 rfl) ?_
        refine lv_aload_n FX.1 FX.2.1 dX2_test_57 rfl (lv_at hl 0 rfl) ?_
        refine bd hf (fun t17 h_t17 hf => ?_)
        refine fV_i (As := []) (rest := [.ref p1]) FX hw (wX2_known h_t17) (cwV 0 FX.2.2.2.2 (lw_V q883 q885 qs13 q136 q886) rfl rfl rfl (by decide +kernel) ⟨Nat.le_of_ble_eq_true rfl, Nat.le_of_ble_eq_true rfl⟩) (fx_obj hw (o := (217, 1, 200, 17)) (by decide)) rfl rfl hl.1 rfl (lv_room (Nat.le_of_ble_eq_true rfl)) dX2_test_58 ⟨Nat.zero_le _, Nat.zero_le _⟩ (fun hn H locs hw => ?_) (fun v18 hv_58 H locs hw => ?_)
        · have hf := it_pos hn hf
          refine vy_cast rfl rfl ?_
          exact hthr _ (congrArg (fun z => z.1) (Option.some.inj hf)) (congrArg (fun z => (M, z.2.1, z.2.2.1, z.2.2.2.1)) (Option.some.inj hf)) hw
        · have hf := it_neg (by rw [hv_58]; exact fun h => by cases h) hf
          have hf := bsome hf hv_58
          refine bd hf (fun K19 h_K19 hf => ?_)
          refine sX2_179 FX hw h_K19 dX2_test_61 (fun H locs hw => ?_)
          exact hret () _ (congrArg (fun z => z.1) (Option.some.inj hf)) (congrArg (fun z => (M, z.2.1, z.2.2.1, z.2.2.2.1)) (Option.some.inj hf)) hw dX2_test_64
  refine lv_icmp_eq (tgt := 35) FX.1 FX.2.1 dX2_test_15 (by decide) (fun c_15 => ?_) (fun c_15 => ?_)
  · have hf := it_pos c_15 hf
    refine lv_iconst (v := 1) FX.1 FX.2.1 dX2_test_35 (by decide) ?_
    refine lv_goto (tgt := 40) FX.1 FX.2.1 dX2_test_36 (by decide) ?_
    exact hK40 _ _ _ _ hf hw (lv_sub hl [0, 1] rfl)
  · have hf := it_neg c_15 hf
    refine lv_aload_n FX.1 FX.2.1 dX2_test_18 rfl (lv_at hl 1 rfl) ?_
    refine bd hf (fun v20 h_v20 hf => ?_)
    refine gX2_176 FX hw h_v20 dX2_test_19 ?_
    refine lv_iconst (v := 1) FX.1 FX.2.1 dX2_test_22 (by decide) ?_
    refine lv_icmp_eq (tgt := 35) FX.1 FX.2.1 dX2_test_23 (by decide) (fun c_23 => ?_) (fun c_23 => ?_)
    · have hf := it_pos c_23 hf
      refine lv_iconst (v := 1) FX.1 FX.2.1 dX2_test_35 (by decide) ?_
      refine lv_goto (tgt := 40) FX.1 FX.2.1 dX2_test_36 (by decide) ?_
      exact hK40 _ _ _ _ hf hw (lv_sub hl [0, 1] rfl)
    · have hf := it_neg c_23 hf
      refine lv_aload_n FX.1 FX.2.1 dX2_test_26 rfl (lv_at hl 1 rfl) ?_
      refine bd hf (fun v21 h_v21 hf => ?_)
      refine gX2_176 FX hw h_v21 dX2_test_27 ?_
      refine lv_bipush (v := 23) FX.1 FX.2.1 dX2_test_30 (by decide) ?_
      refine lv_icmp_ne (tgt := 39) FX.1 FX.2.1 dX2_test_32 (by decide) (fun c_32 => ?_) (fun c_32 => ?_)
      · have hf := it_neg c_32 hf
        refine lv_iconst (v := 0) FX.1 FX.2.1 dX2_test_39 (by decide) ?_
        exact hK40 _ _ _ _ hf hw (lv_sub hl [0, 1] rfl)
      · have hf := it_pos c_32 hf
        refine lv_iconst (v := 1) FX.1 FX.2.1 dX2_test_35 (by decide) ?_
        refine lv_goto (tgt := 40) FX.1 FX.2.1 dX2_test_36 (by decide) ?_
        exact hK40 _ _ _ _ hf hw (lv_sub hl [0, 1] rfl)
abbrev rmX2_step (K : KT) : Room := { frames := 9, cells := K.2.2.1, slots := K.2.2.2, locals := 393 }
set_option maxHeartbeats 4000000 in
theorem wX2_step {l : Launch} {G : GT} {M C : FS} {K : KT} {t : (Option Unit × FS × KT)} (hf : fX2_step C K = some t) : FtV l yX2_step (ws_ yX2_step cX2_step 4 none) (rmX2_step K) G [.ref (G.2.2.2 217)] (M, C, K.1, K.2.1) t.1 (M, t.2.1, t.2.2.1, t.2.2.2.1) (K.2.2.1 - t.2.2.2.2.1) (K.2.2.2 - t.2.2.2.2.2) := by
  refine xkV (by decide) (Nat.le_of_ble_eq_true rfl) (fun p e s m a0 below meth c Q FX hw hname hret hthr ls hl => ?_)
  have hl : lv_has ls 4 [(0, .ref (G.2.2.2 217))] := hl
  unfold fX2_step at hf
  have hm : Cn K K 0 0 := Cn.rf
  refine lv_aload_n FX.1 FX.2.1 dX2_step_0 rfl (lv_at hl 0 rfl) ?_
  refine bd hf (fun t1 h_t1 hf => ?_)
  refine clU_i0 (As := []) (rest := []) FX hw (wX1_key h_t1) (va_cwU (owner := "CableDrawer$Scan") 0 FX.2.2.2.2 (lw_U q740 q741 q743 q744 q135 q745) rfl rfl rfl rfl ⟨by decide, by decide, by decide +kernel⟩ ⟨Nat.le_of_ble_eq_true rfl, Nat.le_of_ble_eq_true rfl⟩) (fx_obj hw (o := (217, 1, 200, 17)) (by decide)) rfl rfl hl.1 rfl (lv_room (Nat.le_of_ble_eq_true rfl)) dX2_step_1 ⟨rfl, rfl⟩ hm.le (fun H locs hw => ?_)
  refine lv_istore_n (lv' := [(1, .int t1), (0, .ref (G.2.2.2 217))]) FX.1 FX.2.1 dX2_step_4 rfl hl (by decide) rfl (fun ls hl => ?_)
  refine lv_iload_n FX.1 FX.2.1 dX2_step_5 rfl (lv_at hl 0 rfl) ?_
  refine lv_bipush (v := 18) FX.1 FX.2.1 dX2_step_6 (by decide) ?_
  have hK22 : ∀ (y0_22 : Int32) (H : Heap) (locs : List Loc) (ls : Array Slot) (nc ns : Nat) , fX2_step_J22 C K t1 y0_22 = some t → Cn K K nc ns → WS G (M, C, K.1, K.2.1) s H locs → lv_has ls 4 [(0, .ref (G.2.2.2 217)), (1, .int t1)] → W p l e (rmX2_step K) s m a0 below meth c H locs nc ns Q (F0 m 22 ls [.int y0_22]) := by
    intro y0_22 H locs ls nc ns hf hm hw hl
    unfold fX2_step_J22 at hf
    refine lv_istore_n (lv' := [(2, .int y0_22), (0, .ref (G.2.2.2 217)), (1, .int t1)]) FX.1 FX.2.1 dX2_step_22 rfl hl (by decide) rfl (fun ls hl => ?_)
    refine lv_aload_n FX.1 FX.2.1 dX2_step_23 rfl (lv_at hl 1 rfl) ?_
    refine lv_iload_n FX.1 FX.2.1 dX2_step_24 rfl (lv_at hl 2 rfl) ?_
    refine lv_bipush (v := 12) FX.1 FX.2.1 dX2_step_25 (by decide) ?_
    have hK54 : ∀ (y1_54 : Int32) (H : Heap) (locs : List Loc) (ls : Array Slot) (nc ns : Nat) , fX2_step_J54 C K t1 y0_22 y1_54 = some t → Cn K K nc ns → WS G (M, C, K.1, K.2.1) s H locs → lv_has ls 4 [(0, .ref (G.2.2.2 217)), (1, .int t1), (2, .int y0_22)] → W p l e (rmX2_step K) s m a0 below meth c H locs nc ns Q (F0 m 54 ls [.int y1_54, .ref (G.2.2.2 217)]) := by
      intro y1_54 H locs ls nc ns hf hm hw hl
      unfold fX2_step_J54 at hf
      refine bd hf (fun t2 h_t2 hf => ?_)
      refine fU_v (As := [.int y1_54]) (rest := []) FX hw (wX1_need h_t2) (va_cwU (owner := "CableDrawer$Scan") 1 FX.2.2.2.2 (lw_U q755 q756 q758 q759 q135 q760) rfl rfl rfl rfl ⟨by decide, by decide, by decide +kernel⟩ ⟨Nat.le_of_ble_eq_true rfl, Nat.le_of_ble_eq_true rfl⟩) (fx_obj hw (o := (217, 1, 200, 17)) (by decide)) rfl rfl hl.1 rfl (lv_room (Nat.le_of_ble_eq_true rfl)) dX2_step_54 hm.le (fun hn H locs hw => ?_) (fun v_54 hv_54 H locs hw => ?_)
      · have hf := it_pos hn hf
        have hk : K = t.2.2 := congrArg (fun z => z.2.2) (Option.some.inj hf)
        have hm : Cn K t.2.2 nc ns := hk ▸ hm
        refine vy_cast hm.end_.1 hm.end_.2 ?_
        exact hthr _ (congrArg (fun z => z.1) (Option.some.inj hf)) (congrArg (fun z => (M, z.2.1, z.2.2.1, z.2.2.2.1)) (Option.some.inj hf)) hw
      · have hf := it_neg (by rw [hv_54]; exact fun h => by cases h) hf
        refine lv_iload_n FX.1 FX.2.1 dX2_step_57 rfl (lv_at hl 1 rfl) ?_
        refine lv_bipush (v := 21) FX.1 FX.2.1 dX2_step_58 (by decide) ?_
        have hK79 : ∀ (H : Heap) (locs : List Loc) (ls : Array Slot) (nc ns : Nat) , fX2_step_J79 K t1 y0_22 t2  = some t → Cn K K nc ns → WS G (M, t2.2, K.1, K.2.1) s H locs → lv_has ls 4 [(0, .ref (G.2.2.2 217)), (1, .int t1), (2, .int y0_22)] → W p l e (rmX2_step K) s m a0 below meth c H locs nc ns Q (F0 m 79 ls []) := by
          intro  H locs ls nc ns hf hm hw hl
          unfold fX2_step_J79 at hf
          refine lv_iload_n FX.1 FX.2.1 dX2_step_79 rfl (lv_at hl 2 rfl) ?_
          have hK98 : ∀ (H : Heap) (locs : List Loc) (ls : Array Slot) (nc ns : Nat) , fX2_step_J98 K t1 y0_22 t2  = some t → Cn K K nc ns → WS G (M, t2.2, K.1, K.2.1) s H locs → lv_has ls 4 [(0, .ref (G.2.2.2 217)), (1, .int t1), (2, .int y0_22)] → W p l e (rmX2_step K) s m a0 below meth c H locs nc ns Q (F0 m 98 ls []) := by
            intro  H locs ls nc ns hf hm hw hl
            unfold fX2_step_J98 at hf
            refine bd hf (fun K3 h_K3 hf => ?_)
            refine nX2_158 FX hw h_K3 (hm.roomO h_K3) dX2_step_98 (fun H hw => ?_)
            have hm : Cn K K3 (nc + 1) (ns + 7) := hm.sO h_K3
            refine lv_dup FX.1 FX.2.1 dX2_step_101 rfl ?_
            refine lv_iload_n FX.1 FX.2.1 dX2_step_102 rfl (lv_at hl 1 rfl) ?_
            refine bd hf (fun t4 h_t4 hf => ?_)
            refine bd hf (fun g5 h_g5 hf => ?_)
            refine clI_v0 (As := [.int t1]) (rest := [.ref K.2.1]) FX hw (wX13_init h_t4) (cwI 1 FX.2.2.2.2 (lw_meth q983) rfl rfl rfl (FX.2.2.2.2 _ q160) (FX.2.2.2.2 _ q981) (FX.2.2.2.2 _ q982) rfl (by decide +kernel) ⟨Nat.le_of_ble_eq_true rfl, Nat.le_of_ble_eq_true rfl⟩) rfl hl.1 rfl (lv_room (Nat.le_of_ble_eq_true rfl)) dX2_step_103 ⟨rfl, rfl⟩ hm.le (fun H locs hw => ?_)
            have hm := hm.sG h_g5
            refine lv_astore_n (lv' := [(3, .ref K.2.1), (0, .ref (G.2.2.2 217)), (1, .int t1), (2, .int y0_22)]) FX.1 FX.2.1 dX2_step_106 rfl hl (by decide) rfl (fun ls hl => ?_)
            refine lv_aload_n FX.1 FX.2.1 dX2_step_107 rfl (lv_at hl 1 rfl) ?_
            refine bd hf (fun t6 h_t6 hf => ?_)
            refine clU_v0 (As := []) (rest := []) FX hw (wX1_next h_t6) (va_cwU (owner := "CableDrawer$Scan") 0 FX.2.2.2.2 (lw_U q774 q775 q777 q666 q135 q669) rfl rfl rfl rfl ⟨by decide, by decide, by decide +kernel⟩ ⟨Nat.le_of_ble_eq_true rfl, Nat.le_of_ble_eq_true rfl⟩) (fx_obj hw (o := (217, 1, 200, 17)) (by decide)) rfl rfl hl.1 rfl (lv_room (Nat.le_of_ble_eq_true rfl)) dX2_step_108 ⟨rfl, rfl⟩ hm.le (fun H locs hw => ?_)
            refine lv_iload_n FX.1 FX.2.1 dX2_step_111 rfl (lv_at hl 2 rfl) ?_
            have hK243 : ∀ (C_243 : FS) (K_243 : KT) (H : Heap) (locs : List Loc) (ls : Array Slot) (nc ns : Nat) , fX2_step_J243 K t1 y0_22 C_243 K_243 = some t → Cn K K_243 nc ns → WS G (M, C_243, K_243.1, K_243.2.1) s H locs → lv_has ls 4 [(0, .ref (G.2.2.2 217)), (1, .int t1), (2, .int y0_22), (3, .ref K.2.1)] → W p l e (rmX2_step K) s m a0 below meth c H locs nc ns Q (F0 m 243 ls []) := by
              intro C_243 K_243 H locs ls nc ns hf hm hw hl
              unfold fX2_step_J243 at hf
              refine lv_aload_n FX.1 FX.2.1 dX2_step_243 rfl (lv_at hl 0 rfl) ?_
              refine bd hf (fun t7 h_t7 hf => ?_)
              refine fU_v (As := []) (rest := []) FX hw (wX1_closes h_t7) (va_cwU (owner := "CableDrawer$Scan") 0 FX.2.2.2.2 (lw_U q951 q952 q954 q955 q135 q956) rfl rfl rfl rfl ⟨by decide, by decide, by decide +kernel⟩ ⟨Nat.le_of_ble_eq_true rfl, Nat.le_of_ble_eq_true rfl⟩) (fx_obj hw (o := (217, 1, 200, 17)) (by decide)) rfl rfl hl.1 rfl (lv_room (Nat.le_of_ble_eq_true rfl)) dX2_step_244 hm.le (fun hn H locs hw => ?_) (fun v_244 hv_244 H locs hw => ?_)
              · have hf := it_pos hn hf
                have hk : K_243 = t.2.2 := congrArg (fun z => z.2.2) (Option.some.inj hf)
                have hm : Cn K t.2.2 nc ns := hk ▸ hm
                refine vy_cast hm.end_.1 hm.end_.2 ?_
                exact hthr _ (congrArg (fun z => z.1) (Option.some.inj hf)) (congrArg (fun z => (M, z.2.1, z.2.2.1, z.2.2.2.1)) (Option.some.inj hf)) hw
              · have hf := it_neg (by rw [hv_244]; exact fun h => by cases h) hf
                refine lv_iload_n FX.1 FX.2.1 dX2_step_247 rfl (lv_at hl 2 rfl) ?_
                have hK274 : ∀ (C_274 : FS) (H : Heap) (locs : List Loc) (ls : Array Slot) (nc ns : Nat) , fX2_step_J274 K t1 K_243 C_274 = some t → Cn K K_243 nc ns → WS G (M, C_274, K_243.1, K_243.2.1) s H locs → lv_has ls 4 [(0, .ref (G.2.2.2 217)), (1, .int t1), (3, .ref K.2.1)] → W p l e (rmX2_step K) s m a0 below meth c H locs nc ns Q (F0 m 274 ls []) := by
                  intro C_274 H locs ls nc ns hf hm hw hl
                  unfold fX2_step_J274 at hf
                  refine lv_aload_n FX.1 FX.2.1 dX2_step_274 rfl (lv_at hl 0 rfl) ?_
                  refine lv_dup FX.1 FX.2.1 dX2_step_275 rfl ?_
                  refine gX2_167 FX hw dX2_step_276 ?_
                  refine lv_iload_n FX.1 FX.2.1 dX2_step_279 rfl (lv_at hl 1 rfl) ?_
                  refine lv_bipush (v := 21) FX.1 FX.2.1 dX2_step_280 (by decide) ?_
                  have hK290 : ∀ (y2_290 : Int32) (H : Heap) (locs : List Loc) (ls : Array Slot) (nc ns : Nat) , fX2_step_J290 K K_243 C_274 y2_290 = some t → Cn K K_243 nc ns → WS G (M, C_274, K_243.1, K_243.2.1) s H locs → lv_has ls 4 [(0, .ref (G.2.2.2 217)), (3, .ref K.2.1)] → W p l e (rmX2_step K) s m a0 below meth c H locs nc ns Q (F0 m 290 ls [.int y2_290, .int (C_274.1 211), .ref (G.2.2.2 217)]) := by
                    intro y2_290 H locs ls nc ns hf hm hw hl
                    unfold fX2_step_J290 at hf
                    refine lv_iadd FX.1 FX.2.1 dX2_step_290 ?_
                    refine bd hf (fun C8 h_C8 hf => ?_)
                    refine sX2_167 FX hw dX2_step_291 (fun H locs hw => ?_)
                    rw [Option.some.inj h_C8] at hw
                    refine lv_aload_n FX.1 FX.2.1 dX2_step_294 rfl (lv_at hl 0 rfl) ?_
                    refine gX2_160 FX hw dX2_step_295 ?_
                    refine bd hf (fun a9 h_a9 hf => ?_)
                    rw [show va_rf (C8.2.2.1 214) = .ref a9 from congrArg va_rf h_a9]
                    refine lv_aload_n FX.1 FX.2.1 dX2_step_298 rfl (lv_at hl 0 rfl) ?_
                    refine gX2_164 FX hw dX2_step_299 ?_
                    refine lv_aload_n FX.1 FX.2.1 dX2_step_302 rfl (lv_at hl 1 rfl) ?_
                    refine bd hf (fun K10 h_K10 hf => ?_)
                    refine ei_rast FX hw h_K10 dX2_step_303 (fun H locs hw => ?_)
                    have hm := hm.keep (ke_wR h_K10)
                    refine lv_aload_n FX.1 FX.2.1 dX2_step_304 rfl (lv_at hl 0 rfl) ?_
                    refine lv_dup FX.1 FX.2.1 dX2_step_305 rfl ?_
                    refine gX2_164 FX hw dX2_step_306 ?_
                    refine lv_iconst (v := 1) FX.1 FX.2.1 dX2_step_309 (by decide) ?_
                    refine lv_iadd FX.1 FX.2.1 dX2_step_310 ?_
                    refine bd hf (fun C11 h_C11 hf => ?_)
                    refine sX2_164 FX hw dX2_step_311 (fun H locs hw => ?_)
                    rw [Option.some.inj h_C11] at hw
                    have hk : K10 = t.2.2 := congrArg (fun z => z.2.2) (Option.some.inj hf)
                    have hm : Cn K t.2.2 nc ns := hk ▸ hm
                    refine w_cast hm.end_.1 hm.end_.2 ?_
                    exact hret () _ (congrArg (fun z => z.1) (Option.some.inj hf)) (congrArg (fun z => (M, z.2.1, z.2.2.1, z.2.2.2.1)) (Option.some.inj hf)) hw dX2_step_314
                  refine lv_icmp_ne (tgt := 289) FX.1 FX.2.1 dX2_step_282 (by decide) (fun c_282 => ?_) (fun c_282 => ?_)
                  · have hf := it_neg c_282 hf
                    refine lv_iconst (v := 1) FX.1 FX.2.1 dX2_step_289 (by decide) ?_
                    exact hK290 _ _ _ _ _ _ hf hm hw (lv_sub hl [0, 2] rfl)
                  · have hf := it_pos c_282 hf
                    refine lv_iconst (v := 0) FX.1 FX.2.1 dX2_step_285 (by decide) ?_
                    refine lv_goto (tgt := 290) FX.1 FX.2.1 dX2_step_286 (by decide) ?_
                    exact hK290 _ _ _ _ _ _ hf hm hw (lv_sub hl [0, 2] rfl)
                refine lv_if_eq (tgt := 274) FX.1 FX.2.1 dX2_step_248 (by decide) (fun c_248 => ?_) (fun c_248 => ?_)
                · have hf := it_pos c_248 hf
                  exact hK274 _ _ _ _ _ _ hf hm hw (lv_sub hl [0, 1, 3] rfl)
                · have hf := it_neg c_248 hf
                  refine lv_aload_n FX.1 FX.2.1 dX2_step_251 rfl (lv_at hl 0 rfl) ?_
                  refine gX2_13 FX hw dX2_step_252 ?_
                  refine lv_aload_n FX.1 FX.2.1 dX2_step_255 rfl (lv_at hl 0 rfl) ?_
                  refine gX2_170 FX hw dX2_step_256 ?_
                  refine lv_aload_n FX.1 FX.2.1 dX2_step_259 rfl (lv_at hl 0 rfl) ?_
                  refine gX2_164 FX hw dX2_step_260 ?_
                  refine bd hf (fun C12 h_C12 hf => ?_)
                  refine as215 FX hw h_C12 dX2_step_263 (fun H locs hw => ?_)
                  refine lv_aload_n FX.1 FX.2.1 dX2_step_264 rfl (lv_at hl 0 rfl) ?_
                  refine lv_dup FX.1 FX.2.1 dX2_step_265 rfl ?_
                  refine gX2_170 FX hw dX2_step_266 ?_
                  refine lv_iconst (v := 1) FX.1 FX.2.1 dX2_step_269 (by decide) ?_
                  refine lv_iadd FX.1 FX.2.1 dX2_step_270 ?_
                  refine bd hf (fun C13 h_C13 hf => ?_)
                  refine sX2_170 FX hw dX2_step_271 (fun H locs hw => ?_)
                  rw [Option.some.inj h_C13] at hw
                  exact hK274 _ _ _ _ _ _ hf hm hw (lv_sub hl [0, 1, 3] rfl)
            have hK168 : ∀ (H : Heap) (locs : List Loc) (ls : Array Slot) (nc ns : Nat) , fX2_step_J168 K t1 y0_22 t4 t6  = some t → Cn K t4 nc ns → WS G (M, t6, t4.1, t4.2.1) s H locs → lv_has ls 4 [(0, .ref (G.2.2.2 217)), (1, .int t1), (2, .int y0_22), (3, .ref K.2.1)] → W p l e (rmX2_step K) s m a0 below meth c H locs nc ns Q (F0 m 168 ls []) := by
              intro  H locs ls nc ns hf hm hw hl
              unfold fX2_step_J168 at hf
              refine lv_aload_n FX.1 FX.2.1 dX2_step_168 rfl (lv_at hl 3 rfl) ?_
              refine lv_aload_n FX.1 FX.2.1 dX2_step_169 rfl (lv_at hl 0 rfl) ?_
              refine lv_iconst (v := 1) FX.1 FX.2.1 dX2_step_170 (by decide) ?_
              refine lv_bipush (v := 99) FX.1 FX.2.1 dX2_step_171 (by decide) ?_
              refine bd hf (fun t14 h_t14 hf => ?_)
              refine fU_i (As := [.int 1, .int 99]) (rest := [.ref K.2.1]) FX hw (wX1_passed h_t14) (va_cwU (owner := "CableDrawer$Scan") 2 FX.2.2.2.2 (lw_U q860 q861 q863 q864 q135 q865) rfl rfl rfl rfl ⟨by decide, by decide, by decide +kernel⟩ ⟨Nat.le_of_ble_eq_true rfl, Nat.le_of_ble_eq_true rfl⟩) (fx_obj hw (o := (217, 1, 200, 17)) (by decide)) rfl rfl hl.1 rfl (lv_room (Nat.le_of_ble_eq_true rfl)) dX2_step_173 hm.le (fun hn H locs hw => ?_) (fun v15 hv_173 H locs hw => ?_)
              · have hf := it_pos hn hf
                have hk : t4 = t.2.2 := congrArg (fun z => z.2.2) (Option.some.inj hf)
                have hm : Cn K t.2.2 nc ns := hk ▸ hm
                refine vy_cast hm.end_.1 hm.end_.2 ?_
                exact hthr _ (congrArg (fun z => z.1) (Option.some.inj hf)) (congrArg (fun z => (M, z.2.1, z.2.2.1, z.2.2.2.1)) (Option.some.inj hf)) hw
              · have hf := it_neg (by rw [hv_173]; exact fun h => by cases h) hf
                have hf := bsome hf hv_173
                refine bd hf (fun K16 h_K16 hf => ?_)
                refine sX2_179 FX hw h_K16 dX2_step_176 (fun H locs hw => ?_)
                have hm := hm.keep (ke_uV h_K16)
                refine lv_goto (tgt := 243) FX.1 FX.2.1 dX2_step_179 (by decide) ?_
                exact hK243 _ _ _ _ _ _ _ hf hm hw (lv_sub hl [0, 1, 2, 3] rfl)
            have hK182 : ∀ (H : Heap) (locs : List Loc) (ls : Array Slot) (nc ns : Nat) , fX2_step_J182 K t1 y0_22 t4 t6  = some t → Cn K t4 nc ns → WS G (M, t6, t4.1, t4.2.1) s H locs → lv_has ls 4 [(0, .ref (G.2.2.2 217)), (1, .int t1), (2, .int y0_22), (3, .ref K.2.1)] → W p l e (rmX2_step K) s m a0 below meth c H locs nc ns Q (F0 m 182 ls []) := by
              intro  H locs ls nc ns hf hm hw hl
              unfold fX2_step_J182 at hf
              refine lv_aload_n FX.1 FX.2.1 dX2_step_182 rfl (lv_at hl 3 rfl) ?_
              refine lv_aload_n FX.1 FX.2.1 dX2_step_183 rfl (lv_at hl 0 rfl) ?_
              refine bd hf (fun t17 h_t17 hf => ?_)
              refine fV_i (As := []) (rest := [.ref K.2.1]) FX hw (wX2_known h_t17) (cwV 0 FX.2.2.2.2 (lw_V q883 q885 qs13 q136 q886) rfl rfl rfl (by decide +kernel) ⟨Nat.le_of_ble_eq_true rfl, Nat.le_of_ble_eq_true rfl⟩) (fx_obj hw (o := (217, 1, 200, 17)) (by decide)) rfl rfl hl.1 rfl (lv_room (Nat.le_of_ble_eq_true rfl)) dX2_step_184 hm.le (fun hn H locs hw => ?_) (fun v18 hv_184 H locs hw => ?_)
              · have hf := it_pos hn hf
                have hk : t4 = t.2.2 := congrArg (fun z => z.2.2) (Option.some.inj hf)
                have hm : Cn K t.2.2 nc ns := hk ▸ hm
                refine vy_cast hm.end_.1 hm.end_.2 ?_
                exact hthr _ (congrArg (fun z => z.1) (Option.some.inj hf)) (congrArg (fun z => (M, z.2.1, z.2.2.1, z.2.2.2.1)) (Option.some.inj hf)) hw
              · have hf := it_neg (by rw [hv_184]; exact fun h => by cases h) hf
                have hf := bsome hf hv_184
                refine bd hf (fun K19 h_K19 hf => ?_)
                refine sX2_179 FX hw h_K19 dX2_step_187 (fun H locs hw => ?_)
                have hm := hm.keep (ke_uV h_K19)
                refine lv_goto (tgt := 243) FX.1 FX.2.1 dX2_step_190 (by decide) ?_
                exact hK243 _ _ _ _ _ _ _ hf hm hw (lv_sub hl [0, 1, 2, 3] rfl)
            by_cases c_112 : t1 < 12 ∨ 21 < t1
            · have hf := it_pos c_112 hf
              refine lv_tableOut (tgt := 243) FX.1 FX.2.1 dX2_step_112 (sw_out (lo := 12) (hi := 21) rfl rfl c_112) (by decide) ?_
              exact hK243 _ _ _ _ _ _ _ hf hm hw (lv_sub hl [1, 2, 3, 0] rfl)
            · have hf := it_neg c_112 hf
              by_cases c_112_12 : t1 = 12
              · have hf := it_pos c_112_12 hf
                refine lv_tableIn (off := 56) (tgt := 168) FX.1 FX.2.1 dX2_step_112 (by rw [c_112_12]; decide) (by rw [c_112_12]; decide) (by rw [c_112_12]; rfl) (by decide) ?_
                exact hK168  _ _ _ _ _ hf hm hw (lv_sub hl [1, 2, 3, 0] rfl)
              · have hf := it_neg c_112_12 hf
                by_cases c_112_13 : t1 = 13
                · have hf := it_pos c_112_13 hf
                  refine lv_tableIn (off := 70) (tgt := 182) FX.1 FX.2.1 dX2_step_112 (by rw [c_112_13]; decide) (by rw [c_112_13]; decide) (by rw [c_112_13]; rfl) (by decide) ?_
                  exact hK182  _ _ _ _ _ hf hm hw (lv_sub hl [1, 2, 3, 0] rfl)
                · have hf := it_neg c_112_13 hf
                  by_cases c_112_14 : t1 = 14
                  · have hf := it_pos c_112_14 hf
                    refine lv_tableIn (off := 131) (tgt := 243) FX.1 FX.2.1 dX2_step_112 (by rw [c_112_14]; decide) (by rw [c_112_14]; decide) (by rw [c_112_14]; rfl) (by decide) ?_
                    exact hK243 _ _ _ _ _ _ _ hf hm hw (lv_sub hl [1, 2, 3, 0] rfl)
                  · have hf := it_neg c_112_14 hf
                    by_cases c_112_15 : t1 = 15
                    · have hf := it_pos c_112_15 hf
                      refine lv_tableIn (off := 70) (tgt := 182) FX.1 FX.2.1 dX2_step_112 (by rw [c_112_15]; decide) (by rw [c_112_15]; decide) (by rw [c_112_15]; rfl) (by decide) ?_
                      exact hK182  _ _ _ _ _ hf hm hw (lv_sub hl [1, 2, 3, 0] rfl)
                    · have hf := it_neg c_112_15 hf
                      by_cases c_112_16 : t1 = 16
                      · have hf := it_pos c_112_16 hf
                        refine lv_tableIn (off := 70) (tgt := 182) FX.1 FX.2.1 dX2_step_112 (by rw [c_112_16]; decide) (by rw [c_112_16]; decide) (by rw [c_112_16]; rfl) (by decide) ?_
                        exact hK182  _ _ _ _ _ hf hm hw (lv_sub hl [1, 2, 3, 0] rfl)
                      · have hf := it_neg c_112_16 hf
                        by_cases c_112_17 : t1 = 17
                        · have hf := it_pos c_112_17 hf
                          refine lv_tableIn (off := 70) (tgt := 182) FX.1 FX.2.1 dX2_step_112 (by rw [c_112_17]; decide) (by rw [c_112_17]; decide) (by rw [c_112_17]; rfl) (by decide) ?_
                          exact hK182  _ _ _ _ _ hf hm hw (lv_sub hl [1, 2, 3, 0] rfl)
                        · have hf := it_neg c_112_17 hf
                          by_cases c_112_18 : t1 = 18
                          · have hf := it_pos c_112_18 hf
                            refine lv_tableIn (off := 81) (tgt := 193) FX.1 FX.2.1 dX2_step_112 (by rw [c_112_18]; decide) (by rw [c_112_18]; decide) (by rw [c_112_18]; rfl) (by decide) ?_
                            refine lv_aload_n FX.1 FX.2.1 dX2_step_193 rfl (lv_at hl 1 rfl) ?_
                            refine lv_aload_n FX.1 FX.2.1 dX2_step_194 rfl (lv_at hl 0 rfl) ?_
                            refine bd hf (fun t20 h_t20 hf => ?_)
                            refine bd hf (fun g21 h_g21 hf => ?_)
                            refine fV_v (As := [.ref K.2.1]) (rest := []) FX hw (wX2_test h_t20) (cwV 1 FX.2.2.2.2 (lw_V q1013 q1015 qs18 q136 q1016) rfl rfl rfl (by decide +kernel) ⟨Nat.le_of_ble_eq_true rfl, Nat.le_of_ble_eq_true rfl⟩) (fx_obj hw (o := (217, 1, 200, 17)) (by decide)) rfl rfl hl.1 rfl (lv_room (Nat.le_of_ble_eq_true rfl)) dX2_step_195 hm.le (fun hn H locs hw => ?_) (fun v_195 hv_195 H locs hw => ?_)
                            · have hf := it_pos hn hf
                              have hm := hm.sG h_g21
                              have hk : t20.2.2 = t.2.2 := congrArg (fun z => z.2.2) (Option.some.inj hf)
                              have hm : Cn K t.2.2 (nc + 1) (ns + 7) := hk ▸ hm
                              refine vy_cast hm.end_.1 hm.end_.2 ?_
                              exact hthr _ (congrArg (fun z => z.1) (Option.some.inj hf)) (congrArg (fun z => (M, z.2.1, z.2.2.1, z.2.2.2.1)) (Option.some.inj hf)) hw
                            · have hf := it_neg (by rw [hv_195]; exact fun h => by cases h) hf
                              have hm := hm.sG h_g21
                              refine lv_goto (tgt := 243) FX.1 FX.2.1 dX2_step_198 (by decide) ?_
                              exact hK243 _ _ _ _ _ _ _ hf hm hw (lv_sub hl [1, 2, 3, 0] rfl)
                          · have hf := it_neg c_112_18 hf
                            by_cases c_112_19 : t1 = 19
                            · have hf := it_pos c_112_19 hf
                              refine lv_tableIn (off := 56) (tgt := 168) FX.1 FX.2.1 dX2_step_112 (by rw [c_112_19]; decide) (by rw [c_112_19]; decide) (by rw [c_112_19]; rfl) (by decide) ?_
                              exact hK168  _ _ _ _ _ hf hm hw (lv_sub hl [1, 2, 3, 0] rfl)
                            · have hf := it_neg c_112_19 hf
                              by_cases c_112_20 : t1 = 20
                              · have hf := it_pos c_112_20 hf
                                refine lv_tableIn (off := 131) (tgt := 243) FX.1 FX.2.1 dX2_step_112 (by rw [c_112_20]; decide) (by rw [c_112_20]; decide) (by rw [c_112_20]; rfl) (by decide) ?_
                                exact hK243 _ _ _ _ _ _ _ hf hm hw (lv_sub hl [1, 2, 3, 0] rfl)
                              · have hf := it_neg c_112_20 hf
                                by_cases c_112_21 : t1 = 21
                                · have hf := it_pos c_112_21 hf
                                  refine lv_tableIn (off := 89) (tgt := 201) FX.1 FX.2.1 dX2_step_112 (by rw [c_112_21]; decide) (by rw [c_112_21]; decide) (by rw [c_112_21]; rfl) (by decide) ?_
                                  refine lv_aload_n FX.1 FX.2.1 dX2_step_201 rfl (lv_at hl 1 rfl) ?_
                                  refine lv_dup FX.1 FX.2.1 dX2_step_202 rfl ?_
                                  refine gX2_170 FX hw dX2_step_203 ?_
                                  refine lv_iconst (v := 1) FX.1 FX.2.1 dX2_step_206 (by decide) ?_
                                  refine lv_isub FX.1 FX.2.1 dX2_step_207 ?_
                                  refine bd hf (fun C22 h_C22 hf => ?_)
                                  refine sX2_170 FX hw dX2_step_208 (fun H locs hw => ?_)
                                  rw [Option.some.inj h_C22] at hw
                                  refine lv_aload_n FX.1 FX.2.1 dX2_step_211 rfl (lv_at hl 0 rfl) ?_
                                  refine lv_aload_n FX.1 FX.2.1 dX2_step_212 rfl (lv_at hl 1 rfl) ?_
                                  refine gX2_13 FX hw dX2_step_213 ?_
                                  refine lv_aload_n FX.1 FX.2.1 dX2_step_216 rfl (lv_at hl 1 rfl) ?_
                                  refine gX2_170 FX hw dX2_step_217 ?_
                                  refine bd hf (fun v23 h_v23 hf => ?_)
                                  refine al215 FX hw h_v23 dX2_step_220 ?_
                                  refine bd hf (fun K24 h_K24 hf => ?_)
                                  refine sX2_192 FX hw h_K24 dX2_step_221 (fun H locs hw => ?_)
                                  have hm := hm.keep (ke_uV h_K24)
                                  refine lv_aload_n FX.1 FX.2.1 dX2_step_224 rfl (lv_at hl 1 rfl) ?_
                                  refine gX2_160 FX hw dX2_step_225 ?_
                                  refine bd hf (fun a25 h_a25 hf => ?_)
                                  rw [show va_rf (C22.2.2.1 214) = .ref a25 from congrArg va_rf h_a25]
                                  refine lv_aload_n FX.1 FX.2.1 dX2_step_228 rfl (lv_at hl 0 rfl) ?_
                                  refine bd hf (fun v26 h_v26 hf => ?_)
                                  refine gX2_192 FX hw h_v26 dX2_step_229 ?_
                                  refine bd hf (fun a27 h_a27 hf => ?_)
                                  refine ei_aald 6 rfl FX hw h_a27 dX2_step_232 ?_
                                  refine lv_aload_n FX.1 FX.2.1 dX2_step_233 rfl (lv_at hl 1 rfl) ?_
                                  refine gX2_164 FX hw dX2_step_234 ?_
                                  refine bd hf (fun K28 h_K28 hf => ?_)
                                  refine sX2_192 FX hw h_K28 dX2_step_237 (fun H locs hw => ?_)
                                  have hm := hm.keep (ke_uV h_K28)
                                  refine lv_goto (tgt := 243) FX.1 FX.2.1 dX2_step_240 (by decide) ?_
                                  exact hK243 _ _ _ _ _ _ _ hf hm hw (lv_sub hl [1, 2, 3, 0] rfl)
                                · have hf := it_neg c_112_21 hf
                                  cases hf
          refine lv_if_eq (tgt := 98) FX.1 FX.2.1 dX2_step_80 (by decide) (fun c_80 => ?_) (fun c_80 => ?_)
          · have hf := it_pos c_80 hf
            exact hK98  _ _ _ _ _ hf hm hw (lv_sub hl [0, 1, 2] rfl)
          · have hf := it_neg c_80 hf
            refine lv_aload_n FX.1 FX.2.1 dX2_step_83 rfl (lv_at hl 0 rfl) ?_
            refine gX2_170 FX hw dX2_step_84 ?_
            refine lv_iconst (v := 3) FX.1 FX.2.1 dX2_step_87 (by decide) ?_
            refine lv_icmp_ne (tgt := 98) FX.1 FX.2.1 dX2_step_88 (by decide) (fun c_88 => ?_) (fun c_88 => ?_)
            · have hf := it_neg c_88 hf
              exact hK98  _ _ _ _ _ hf hm hw (lv_sub hl [0, 1, 2] rfl)
            · have hf := it_pos c_88 hf
              refine lv_aload_n FX.1 FX.2.1 dX2_step_91 rfl (lv_at hl 0 rfl) ?_
              refine lv_bipush (v := 7) FX.1 FX.2.1 dX2_step_92 (by decide) ?_
              refine bd hf (fun t29 h_t29 hf => ?_)
              refine clU_q0 (As := [.int 7]) (rest := []) FX hw (wX1_fail h_t29) (va_cwU (owner := "CableDrawer$Scan") 1 FX.2.2.2.2 (lw_U q770 q771 q773 q762 q135 q765) rfl rfl rfl rfl ⟨by decide, by decide, by decide +kernel⟩ ⟨Nat.le_of_ble_eq_true rfl, Nat.le_of_ble_eq_true rfl⟩) (fx_obj hw (o := (217, 1, 200, 17)) (by decide)) rfl rfl hl.1 rfl (lv_room (Nat.le_of_ble_eq_true rfl)) dX2_step_94 ⟨rfl, rfl⟩ hm.le (fun H locs hw => ?_)
              refine vy_athrow FX.1 FX.2.1 dX2_step_97 ?_
              have hk : K = t.2.2 := congrArg (fun z => z.2.2) (Option.some.inj hf)
              have hm : Cn K t.2.2 nc ns := hk ▸ hm
              refine vy_cast hm.end_.1 hm.end_.2 ?_
              exact hthr _ (congrArg (fun z => z.1) (Option.some.inj hf)) (congrArg (fun z => (M, z.2.1, z.2.2.1, z.2.2.2.1)) (Option.some.inj hf)) hw
        refine lv_icmp_eq (tgt := 79) FX.1 FX.2.1 dX2_step_60 (by decide) (fun c_60 => ?_) (fun c_60 => ?_)
        · have hf := it_pos c_60 hf
          exact hK79  _ _ _ _ _ hf hm hw (lv_sub hl [0, 1, 2] rfl)
        · have hf := it_neg c_60 hf
          refine lv_aload_n FX.1 FX.2.1 dX2_step_63 rfl (lv_at hl 0 rfl) ?_
          refine gX2_167 FX hw dX2_step_64 ?_
          refine lv_bipush (v := 30) FX.1 FX.2.1 dX2_step_67 (by decide) ?_
          refine lv_icmp_ne (tgt := 79) FX.1 FX.2.1 dX2_step_69 (by decide) (fun c_69 => ?_) (fun c_69 => ?_)
          · have hf := it_neg c_69 hf
            exact hK79  _ _ _ _ _ hf hm hw (lv_sub hl [0, 1, 2] rfl)
          · have hf := it_pos c_69 hf
            refine lv_aload_n FX.1 FX.2.1 dX2_step_72 rfl (lv_at hl 0 rfl) ?_
            refine lv_bipush (v := 6) FX.1 FX.2.1 dX2_step_73 (by decide) ?_
            refine bd hf (fun t30 h_t30 hf => ?_)
            refine clU_q0 (As := [.int 6]) (rest := []) FX hw (wX1_fail h_t30) (va_cwU (owner := "CableDrawer$Scan") 1 FX.2.2.2.2 (lw_U q770 q771 q773 q762 q135 q765) rfl rfl rfl rfl ⟨by decide, by decide, by decide +kernel⟩ ⟨Nat.le_of_ble_eq_true rfl, Nat.le_of_ble_eq_true rfl⟩) (fx_obj hw (o := (217, 1, 200, 17)) (by decide)) rfl rfl hl.1 rfl (lv_room (Nat.le_of_ble_eq_true rfl)) dX2_step_75 ⟨rfl, rfl⟩ hm.le (fun H locs hw => ?_)
            refine vy_athrow FX.1 FX.2.1 dX2_step_78 ?_
            have hk : K = t.2.2 := congrArg (fun z => z.2.2) (Option.some.inj hf)
            have hm : Cn K t.2.2 nc ns := hk ▸ hm
            refine vy_cast hm.end_.1 hm.end_.2 ?_
            exact hthr _ (congrArg (fun z => z.1) (Option.some.inj hf)) (congrArg (fun z => (M, z.2.1, z.2.2.1, z.2.2.2.1)) (Option.some.inj hf)) hw
    have hK36 : ∀ (H : Heap) (locs : List Loc) (ls : Array Slot) (nc ns : Nat) , fX2_step_J36 C K t1 y0_22  = some t → Cn K K nc ns → WS G (M, C, K.1, K.2.1) s H locs → lv_has ls 4 [(0, .ref (G.2.2.2 217)), (1, .int t1), (2, .int y0_22)] → W p l e (rmX2_step K) s m a0 below meth c H locs nc ns Q (F0 m 36 ls [.ref (G.2.2.2 217)]) := by
      intro  H locs ls nc ns hf hm hw hl
      unfold fX2_step_J36 at hf
      refine lv_iload_n FX.1 FX.2.1 dX2_step_36 rfl (lv_at hl 1 rfl) ?_
      refine lv_bipush (v := 21) FX.1 FX.2.1 dX2_step_37 (by decide) ?_
      refine lv_icmp_ne (tgt := 53) FX.1 FX.2.1 dX2_step_39 (by decide) (fun c_39 => ?_) (fun c_39 => ?_)
      · have hf := it_neg c_39 hf
        refine lv_iconst (v := 0) FX.1 FX.2.1 dX2_step_53 (by decide) ?_
        exact hK54 _ _ _ _ _ _ hf hm hw (lv_sub hl [0, 1, 2] rfl)
      · have hf := it_pos c_39 hf
        refine lv_aload_n FX.1 FX.2.1 dX2_step_42 rfl (lv_at hl 0 rfl) ?_
        refine gX2_170 FX hw dX2_step_43 ?_
        refine lv_if_le (tgt := 53) FX.1 FX.2.1 dX2_step_46 (by decide) (fun c_46 => ?_) (fun c_46 => ?_)
        · have hf := it_pos c_46 hf
          refine lv_iconst (v := 0) FX.1 FX.2.1 dX2_step_53 (by decide) ?_
          exact hK54 _ _ _ _ _ _ hf hm hw (lv_sub hl [0, 1, 2] rfl)
        · have hf := it_neg c_46 hf
          refine lv_iconst (v := 1) FX.1 FX.2.1 dX2_step_49 (by decide) ?_
          refine lv_goto (tgt := 54) FX.1 FX.2.1 dX2_step_50 (by decide) ?_
          exact hK54 _ _ _ _ _ _ hf hm hw (lv_sub hl [0, 1, 2] rfl)
    refine lv_icmp_lt (tgt := 36) FX.1 FX.2.1 dX2_step_27 (by decide) (fun c_27 => ?_) (fun c_27 => ?_)
    · have hf := it_pos c_27 hf
      exact hK36  _ _ _ _ _ hf hm hw (lv_sub hl [1, 2, 0] rfl)
    · have hf := it_neg c_27 hf
      refine lv_iload_n FX.1 FX.2.1 dX2_step_30 rfl (lv_at hl 2 rfl) ?_
      refine lv_bipush (v := 20) FX.1 FX.2.1 dX2_step_31 (by decide) ?_
      refine lv_icmp_le (tgt := 49) FX.1 FX.2.1 dX2_step_33 (by decide) (fun c_33 => ?_) (fun c_33 => ?_)
      · have hf := it_pos c_33 hf
        refine lv_iconst (v := 1) FX.1 FX.2.1 dX2_step_49 (by decide) ?_
        refine lv_goto (tgt := 54) FX.1 FX.2.1 dX2_step_50 (by decide) ?_
        exact hK54 _ _ _ _ _ _ hf hm hw (lv_sub hl [1, 2, 0] rfl)
      · have hf := it_neg c_33 hf
        exact hK36  _ _ _ _ _ hf hm hw (lv_sub hl [1, 2, 0] rfl)
  refine lv_icmp_eq (tgt := 17) FX.1 FX.2.1 dX2_step_8 (by decide) (fun c_8 => ?_) (fun c_8 => ?_)
  · have hf := it_pos c_8 hf
    refine lv_iconst (v := 1) FX.1 FX.2.1 dX2_step_17 (by decide) ?_
    refine lv_goto (tgt := 22) FX.1 FX.2.1 dX2_step_18 (by decide) ?_
    exact hK22 _ _ _ _ _ _ hf hm hw (lv_sub hl [1, 0] rfl)
  · have hf := it_neg c_8 hf
    refine lv_iload_n FX.1 FX.2.1 dX2_step_11 rfl (lv_at hl 0 rfl) ?_
    refine lv_bipush (v := 19) FX.1 FX.2.1 dX2_step_12 (by decide) ?_
    refine lv_icmp_ne (tgt := 21) FX.1 FX.2.1 dX2_step_14 (by decide) (fun c_14 => ?_) (fun c_14 => ?_)
    · have hf := it_neg c_14 hf
      refine lv_iconst (v := 0) FX.1 FX.2.1 dX2_step_21 (by decide) ?_
      exact hK22 _ _ _ _ _ _ hf hm hw (lv_sub hl [1, 0] rfl)
    · have hf := it_pos c_14 hf
      refine lv_iconst (v := 1) FX.1 FX.2.1 dX2_step_17 (by decide) ?_
      refine lv_goto (tgt := 22) FX.1 FX.2.1 dX2_step_18 (by decide) ?_
      exact hK22 _ _ _ _ _ _ hf hm hw (lv_sub hl [1, 0] rfl)
abbrev rmX2_years (K : KT) : Room := { frames := 10, cells := K.2.2.1, slots := K.2.2.2, locals := 416 }
set_option maxHeartbeats 4000000 in
theorem wX2_years {l : Launch} {G : GT} {M C : FS} {K : KT} {p1 : Int32} {p2 : Nat} {t : (Option Nat × FS × KT)} (hf : fX2_years C K p1 p2 = some t) : FtQ l yX2_years (ws_ yX2_years cX2_years 3 (some (.array (.object "CableDrawer$Step")))) (rmX2_years K) G [.ref (G.2.2.2 217), .int p1, .ref p2] (M, C, K.1, K.2.1) t.1 (M, t.2.1, t.2.2.1, t.2.2.2.1) (K.2.2.1 - t.2.2.2.2.1) (K.2.2.2 - t.2.2.2.2.2) := by
  refine xkQ (by decide) (Nat.le_of_ble_eq_true rfl) (Or.inr ⟨_, rfl⟩) (fun p e s m a0 below meth c Q FX hw hname hret hthr ls hl => ?_)
  have hl : lv_has ls 3 [(0, .ref (G.2.2.2 217)), (1, .int p1), (2, .ref p2)] := hl
  unfold fX2_years at hf
  have hm : Cn K K 0 0 := Cn.rf
  refine lv_aload_n FX.1 FX.2.1 dX2_years_0 rfl (lv_at hl 0 rfl) ?_
  refine lv_aload_n FX.1 FX.2.1 dX2_years_1 rfl (lv_at hl 2 rfl) ?_
  refine bd hf (fun C1 h_C1 hf => ?_)
  refine sX2_35 (v := (some p2)) FX hw dX2_years_2 (fun H locs hw => ?_)
  rw [Option.some.inj h_C1] at hw
  refine lv_aload_n FX.1 FX.2.1 dX2_years_5 rfl (lv_at hl 0 rfl) ?_
  refine lv_bipush (v := 60) FX.1 FX.2.1 dX2_years_6 (by decide) ?_
  refine bd hf (fun K2 h_K2 hf => ?_)
  refine aX2_158 (N := 60) FX hw (by decide) (by decide) (by decide) h_K2 (hm.roomE h_K2) dX2_years_8 (fun H hw => ?_)
  have hm : Cn K K2 (0 + 1) (0 + 60) := hm.sE h_K2
  refine bd hf (fun C3 h_C3 hf => ?_)
  refine sX2_160 (v := (some K.2.1)) FX hw dX2_years_11 (fun H locs hw => ?_)
  rw [Option.some.inj h_C3] at hw
  refine lv_aload_n FX.1 FX.2.1 dX2_years_14 rfl (lv_at hl 0 rfl) ?_
  refine lv_iconst (v := 0) FX.1 FX.2.1 dX2_years_15 (by decide) ?_
  refine bd hf (fun C4 h_C4 hf => ?_)
  refine sX2_164 FX hw dX2_years_16 (fun H locs hw => ?_)
  rw [Option.some.inj h_C4] at hw
  refine lv_aload_n FX.1 FX.2.1 dX2_years_19 rfl (lv_at hl 0 rfl) ?_
  refine lv_iconst (v := 0) FX.1 FX.2.1 dX2_years_20 (by decide) ?_
  refine bd hf (fun C5 h_C5 hf => ?_)
  refine sX2_167 FX hw dX2_years_21 (fun H locs hw => ?_)
  rw [Option.some.inj h_C5] at hw
  refine lv_aload_n FX.1 FX.2.1 dX2_years_24 rfl (lv_at hl 0 rfl) ?_
  refine lv_iconst (v := 0) FX.1 FX.2.1 dX2_years_25 (by decide) ?_
  refine bd hf (fun C6 h_C6 hf => ?_)
  refine sX2_170 FX hw dX2_years_26 (fun H locs hw => ?_)
  rw [Option.some.inj h_C6] at hw
  refine lv_aload_n FX.1 FX.2.1 dX2_years_29 rfl (lv_at hl 0 rfl) ?_
  refine lv_iload_n FX.1 FX.2.1 dX2_years_30 rfl (lv_at hl 1 rfl) ?_
  refine bd hf (fun t7 h_t7 hf => ?_)
  refine clU_v0 (As := [.int p1]) (rest := []) FX hw (wX1_begin h_t7) (va_cwU (owner := "CableDrawer$Scan") 1 FX.2.2.2.2 (lw_U q659 q660 q662 q663 q135 q664) rfl rfl rfl rfl ⟨by decide, by decide, by decide +kernel⟩ ⟨Nat.le_of_ble_eq_true rfl, Nat.le_of_ble_eq_true rfl⟩) (fx_obj hw (o := (217, 1, 200, 17)) (by decide)) rfl rfl hl.1 rfl (lv_room (Nat.le_of_ble_eq_true rfl)) dX2_years_31 ⟨rfl, rfl⟩ hm.le (fun H locs hw => ?_)
  refine bd hf (fun u34 ht hf => ?_)
  obtain ⟨n, hn⟩ := lp_iff.mp ht
  have hR34 : ∀ v, Sum.inl v = u34 → _ := fun v he => ell hf he
  have hX34 : ∀ (Ct34 : FS) (Kt34 : KT) (H : Heap) (locs : List Loc) (ls : Array Slot) (nc ns : Nat) , Sum.inr (Ct34, Kt34) = u34 → Cn K Kt34 nc ns → WS G (M, Ct34, Kt34.1, Kt34.2.1) s H locs → lv_has ls 3 [(0, .ref (G.2.2.2 217))] → W p l e (rmX2_years K) s m a0 below meth c H locs nc ns Q (F0 m 48 ls []) := by
    intro Ct34 Kt34 H locs ls nc ns he hm hw hl
    have hf := elr hf he
    have hf : fX2_years_X34 Ct34 Kt34 = some t := hf
    unfold fX2_years_X34 at hf
    refine lv_aload_n FX.1 FX.2.1 dX2_years_48 rfl (lv_at hl 0 rfl) ?_
    refine lv_aload_n FX.1 FX.2.1 dX2_years_49 rfl (lv_at hl 0 rfl) ?_
    refine gX2_170 FX hw dX2_years_50 ?_
    have hK61 : ∀ (y1_61 : Int32) (H : Heap) (locs : List Loc) (ls : Array Slot) (nc ns : Nat) , fX2_years_J61 Ct34 Kt34 y1_61 = some t → Cn K Kt34 nc ns → WS G (M, Ct34, Kt34.1, Kt34.2.1) s H locs → lv_has ls 3 [(0, .ref (G.2.2.2 217))] → W p l e (rmX2_years K) s m a0 below meth c H locs nc ns Q (F0 m 61 ls [.int y1_61, .ref (G.2.2.2 217)]) := by
      intro y1_61 H locs ls nc ns hf hm hw hl
      unfold fX2_years_J61 at hf
      refine bd hf (fun t10 h_t10 hf => ?_)
      refine fU_v (As := [.int y1_61]) (rest := []) FX hw (wX1_need h_t10) (va_cwU (owner := "CableDrawer$Scan") 1 FX.2.2.2.2 (lw_U q755 q756 q758 q759 q135 q760) rfl rfl rfl rfl ⟨by decide, by decide, by decide +kernel⟩ ⟨Nat.le_of_ble_eq_true rfl, Nat.le_of_ble_eq_true rfl⟩) (fx_obj hw (o := (217, 1, 200, 17)) (by decide)) rfl rfl hl.1 rfl (lv_room (Nat.le_of_ble_eq_true rfl)) dX2_years_61 hm.le (fun hn H locs hw => ?_) (fun v_61 hv_61 H locs hw => ?_)
      · have hf := it_pos hn hf
        have hk : Kt34 = t.2.2 := congrArg (fun z => z.2.2) (Option.some.inj hf)
        have hm : Cn K t.2.2 nc ns := hk ▸ hm
        refine vy_cast hm.end_.1 hm.end_.2 ?_
        exact hthr _ (congrArg (fun z => z.1) (Option.some.inj hf)) (congrArg (fun z => (M, z.2.1, z.2.2.1, z.2.2.2.1)) (Option.some.inj hf)) hw
      · have hf := it_neg (by rw [hv_61]; exact fun h => by cases h) hf
        refine lv_aload_n FX.1 FX.2.1 dX2_years_64 rfl (lv_at hl 0 rfl) ?_
        refine gX2_160 FX hw dX2_years_65 ?_
        refine bd hf (fun a11 h_a11 hf => ?_)
        rw [show va_rf (t10.2.2.2.1 214) = .ref a11 from congrArg va_rf h_a11]
        have hk : Kt34 = t.2.2 := congrArg (fun z => z.2.2) (Option.some.inj hf)
        have hm : Cn K t.2.2 nc ns := hk ▸ hm
        refine w_cast hm.end_.1 hm.end_.2 ?_
        exact hret a11 _ (congrArg (fun z => z.1) (Option.some.inj hf)) (congrArg (fun z => (M, z.2.1, z.2.2.1, z.2.2.2.1)) (Option.some.inj hf)) hw dX2_years_68
    refine lv_if_ne (tgt := 60) FX.1 FX.2.1 dX2_years_53 (by decide) (fun c_53 => ?_) (fun c_53 => ?_)
    · have hf := it_neg c_53 hf
      refine lv_iconst (v := 0) FX.1 FX.2.1 dX2_years_60 (by decide) ?_
      exact hK61 _ _ _ _ _ _ hf hm hw (lv_sub hl [0] rfl)
    · have hf := it_pos c_53 hf
      refine lv_iconst (v := 1) FX.1 FX.2.1 dX2_years_56 (by decide) ?_
      refine lv_goto (tgt := 61) FX.1 FX.2.1 dX2_years_57 (by decide) ?_
      exact hK61 _ _ _ _ _ _ hf hm hw (lv_sub hl [0] rfl)
  have hL34 : ∀ (n : Nat) (Cz34 : FS) (Kz34 : KT) (H : Heap) (locs : List Loc) (ls : Array Slot) (nc ns : Nat) , lpN (fun z => fX2_years_L34 z.1 z.2) n (Cz34, Kz34) = some u34 → Cn K Kz34 nc ns → WS G (M, Cz34, Kz34.1, Kz34.2.1) s H locs → lv_has ls 3 [(0, .ref (G.2.2.2 217))] → W p l e (rmX2_years K) s m a0 below meth c H locs nc ns Q (F0 m 34 ls []) := by
    intro n
    induction n with
    | zero => intro Cz34 Kz34 H locs ls nc ns hz; cases hz
    | succ n ih =>
      intro Cz34 Kz34 H locs ls nc ns hz hm hw hl
      refine bd (show (fX2_years_L34 Cz34 Kz34).bind _ = some u34 from hz) (fun x34 hf hk34 => ?_)
      unfold fX2_years_L34 at hf
      refine lv_aload_n FX.1 FX.2.1 dX2_years_34 rfl (lv_at hl 0 rfl) ?_
      refine gX2_60 FX hw dX2_years_35 ?_
      refine lv_if_eq (tgt := 48) FX.1 FX.2.1 dX2_years_38 (by decide) (fun c_38 => ?_) (fun c_38 => ?_)
      · have hf := it_pos c_38 hf
        exact hX34 _ _ _ _ _ _ _ (lpe hf hk34) hm hw (lv_sub hl [0] rfl)
      · have hf := it_neg c_38 hf
        refine lv_aload_n FX.1 FX.2.1 dX2_years_41 rfl (lv_at hl 0 rfl) ?_
        refine bd hf (fun t8 h_t8 hf => ?_)
        refine bd hf (fun g9 h_g9 hf => ?_)
        refine fV_v (As := []) (rest := []) FX hw (wX2_step h_t8) (cwV 0 FX.2.2.2.2 (lw_V q976 q978 qs17 q136 q979) rfl rfl rfl (by decide +kernel) ⟨Nat.le_of_ble_eq_true rfl, Nat.le_of_ble_eq_true rfl⟩) (fx_obj hw (o := (217, 1, 200, 17)) (by decide)) rfl rfl hl.1 rfl (lv_room (Nat.le_of_ble_eq_true rfl)) dX2_years_42 hm.roomC (fun hn H locs hw => ?_) (fun v_42 hv_42 H locs hw => ?_)
        · have hf := it_pos hn hf
          have hm := hm.sM h_g9
          have hf := hR34 _ (lpe hf hk34)
          have hk : t8.2.2 = t.2.2 := congrArg (fun z => z.2.2) (Option.some.inj hf)
          have hm : Cn K t.2.2 (nc + (Kz34.2.2.1 - t8.2.2.2.2.1)) (ns + (Kz34.2.2.2 - t8.2.2.2.2.2)) := hk ▸ hm
          refine vy_cast hm.end_.1 hm.end_.2 ?_
          exact hthr _ (congrArg (fun z => z.1) (Option.some.inj hf)) (congrArg (fun z => (M, z.2.1, z.2.2.1, z.2.2.2.1)) (Option.some.inj hf)) hw
        · have hf := it_neg (by rw [hv_42]; exact fun h => by cases h) hf
          have hm := hm.sM h_g9
          refine lv_goto (tgt := 34) FX.1 FX.2.1 dX2_years_45 (by decide) ?_
          exact ih _ _ _ _ _ _ _ (lpc hf hk34) hm hw (lv_sub hl [0] rfl)
  exact hL34 n _ _ _ _ _ _ _ hn hm hw (lv_sub hl [0] rfl)
