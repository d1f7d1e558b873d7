noncomputable def fX8_isOf (K : KT) (a : Nat) (p1 : Int32) : Option Int32 :=
  (dX K 0 a).bind fun v1 =>
  if v1 = p1 then
  some 1
  else
  (dX K 1 a).bind fun v2 =>
    if v2 = p1 then
    some 1
    else
    some 0
noncomputable def fX8_other (K : KT) (a : Nat) (p1 : Int32) : Option Int32 :=
  (dX K 0 a).bind fun v1 =>
  if v1 = p1 then
  (dX K 1 a).bind fun v3 =>
    some v3
  else
  (dX K 0 a).bind fun v2 =>
    some v2
noncomputable def fX8_init (K : KT) (a : Nat) (p1 : Int32) (p2 : Int32) : Option KT :=
  (uX K 0 a (.int p1)).bind fun K1 =>
  (uX K1 1 a (.int p2)).bind fun K2 =>
  some K2
noncomputable def fX8_holds (a : Nat) : Option Int32 :=
  some 1
noncomputable def fX9_state (a : Nat) : Option Int32 :=
  some 0
noncomputable def fX9_seconds (a : Nat) : Option Int32 :=
  some 1
noncomputable def fX9_loosened (a : Nat) : Option Int32 :=
  some (-1)
noncomputable def fX9_holds (a : Nat) : Option Int32 :=
  some 0
noncomputable def fX9_pulled (a : Nat) : Option Int32 :=
  some (-1)
noncomputable def fX10_state (a : Nat) : Option Int32 :=
  some 1
noncomputable def fX10_seconds (a : Nat) : Option Int32 :=
  some 3
abbrev rmX8_isOf : Room := { frames := 0, cells := 0, slots := 0, locals := 0 }
set_option maxHeartbeats 4000000 in
theorem wX8_isOf {l : Launch} {G : GT} {M C : FS} {K : KT} {a : Nat} {p1 : Int32} {t : Int32} (hf : fX8_isOf K a p1 = some t) : CtI l yX8_isOf (ws_ yX8_isOf cX8_isOf 2 (some .boolean)) rmX8_isOf G [.ref a, .int p1] (M, C, K.1, K.2.1) t (M, C, K.1, K.2.1) := by
  refine mkI (ty := .boolean) (by decide) (Nat.le_of_ble_eq_true rfl) (fun p e s m a0 below meth c Q FX hw hname hret ls hl => ?_)
  have hl : lv_has ls 2 [(0, .ref a), (1, .int p1)] := hl
  unfold fX8_isOf at hf
  refine lv_aload_n FX.1 FX.2.1 dX8_isOf_0 rfl (lv_at hl 0 rfl) ?_
  refine bd hf (fun v1 h_v1 hf => ?_)
  refine gX8_7 FX hw h_v1 dX8_isOf_1 ?_
  refine lv_iload_n FX.1 FX.2.1 dX8_isOf_4 rfl (lv_at hl 1 rfl) ?_
  refine lv_icmp_eq (tgt := 16) FX.1 FX.2.1 dX8_isOf_5 (by decide) (fun c_5 => ?_) (fun c_5 => ?_)
  · have hf := it_pos c_5 hf
    refine lv_iconst (v := 1) FX.1 FX.2.1 dX8_isOf_16 (by decide) ?_
    refine lv_goto (tgt := 21) FX.1 FX.2.1 dX8_isOf_17 (by decide) ?_
    exact hret _ _ rfl (congrArg (fun z => z) (Option.some.inj hf)) rfl hw dX8_isOf_21
  · have hf := it_neg c_5 hf
    refine lv_aload_n FX.1 FX.2.1 dX8_isOf_8 rfl (lv_at hl 0 rfl) ?_
    refine bd hf (fun v2 h_v2 hf => ?_)
    refine gX8_13 FX hw h_v2 dX8_isOf_9 ?_
    refine lv_iload_n FX.1 FX.2.1 dX8_isOf_12 rfl (lv_at hl 1 rfl) ?_
    refine lv_icmp_ne (tgt := 20) FX.1 FX.2.1 dX8_isOf_13 (by decide) (fun c_13 => ?_) (fun c_13 => ?_)
    · have hf := it_neg c_13 hf
      refine lv_iconst (v := 0) FX.1 FX.2.1 dX8_isOf_20 (by decide) ?_
      exact hret _ _ rfl (congrArg (fun z => z) (Option.some.inj hf)) rfl hw dX8_isOf_21
    · have hf := it_pos c_13 hf
      refine lv_iconst (v := 1) FX.1 FX.2.1 dX8_isOf_16 (by decide) ?_
      refine lv_goto (tgt := 21) FX.1 FX.2.1 dX8_isOf_17 (by decide) ?_
      exact hret _ _ rfl (congrArg (fun z => z) (Option.some.inj hf)) rfl hw dX8_isOf_21
abbrev rmX8_other : Room := { frames := 0, cells := 0, slots := 0, locals := 0 }
set_option maxHeartbeats 4000000 in
theorem wX8_other {l : Launch} {G : GT} {M C : FS} {K : KT} {a : Nat} {p1 : Int32} {t : Int32} (hf : fX8_other K a p1 = some t) : CtI l yX8_other (ws_ yX8_other cX8_other 2 (some .int)) rmX8_other G [.ref a, .int p1] (M, C, K.1, K.2.1) t (M, C, K.1, K.2.1) := by
  refine mkI (ty := .int) (by decide) (Nat.le_of_ble_eq_true rfl) (fun p e s m a0 below meth c Q FX hw hname hret ls hl => ?_)
  have hl : lv_has ls 2 [(0, .ref a), (1, .int p1)] := hl
  unfold fX8_other at hf
  refine lv_aload_n FX.1 FX.2.1 dX8_other_0 rfl (lv_at hl 0 rfl) ?_
  refine bd hf (fun v1 h_v1 hf => ?_)
  refine gX8_7 FX hw h_v1 dX8_other_1 ?_
  refine lv_iload_n FX.1 FX.2.1 dX8_other_4 rfl (lv_at hl 1 rfl) ?_
  refine lv_icmp_ne (tgt := 15) FX.1 FX.2.1 dX8_other_5 (by decide) (fun c_5 => ?_) (fun c_5 => ?_)
  · have hf := it_neg c_5 hf
    refine lv_aload_n FX.1 FX.2.1 dX8_other_15 rfl (lv_at hl 0 rfl) ?_
    refine bd hf (fun v2 h_v2 hf => ?_)
    refine gX8_7 FX hw h_v2 dX8_other_16 ?_
    exact hret _ _ rfl (congrArg (fun z => z) (Option.some.inj hf)) rfl hw dX8_other_19
  · have hf := it_pos c_5 hf
    refine lv_aload_n FX.1 FX.2.1 dX8_other_8 rfl (lv_at hl 0 rfl) ?_
    refine bd hf (fun v3 h_v3 hf => ?_)
    refine gX8_13 FX hw h_v3 dX8_other_9 ?_
    refine lv_goto (tgt := 19) FX.1 FX.2.1 dX8_other_12 (by decide) ?_
    exact hret _ _ rfl (congrArg (fun z => z) (Option.some.inj hf)) rfl hw dX8_other_19
abbrev rmX8_init : Room := { frames := 1, cells := 0, slots := 0, locals := 60 }
set_option maxHeartbeats 4000000 in
theorem wX8_init {l : Launch} {G : GT} {M C : FS} {K : KT} {a : Nat} {p1 : Int32} {p2 : Int32} {t : KT} (hf : fX8_init K a p1 p2 = some t) : CtV l yX8_init (ws_ yX8_init cX8_init 3 none) rmX8_init G [.ref a, .int p1, .int p2] (M, C, K.1, K.2.1) (M, C, t.1, t.2.1) := by
  refine mkV (by decide) (Nat.le_of_ble_eq_true rfl) (fun p e s m a0 below meth c Q FX hw hname hret ls hl => ?_)
  have hl : lv_has ls 3 [(0, .ref a), (1, .int p1), (2, .int p2)] := hl
  unfold fX8_init at hf
  refine lv_aload_n FX.1 FX.2.1 dX8_init_0 rfl (lv_at hl 0 rfl) ?_
  refine W.objInit FX.1 FX.2.1 FX.2.2.2.1 (FX.2.2.2.2 _ q902) (FX.2.2.2.2 _ q169) (FX.2.2.2.2 _ q170) rfl (hl.1.trans FX.2.2.1.symm) rfl dX8_init_1 (Nat.le_of_ble_eq_true rfl) (Nat.le_of_ble_eq_true rfl) ?_
  refine W.eq (g2 := F0 m 4 ls []) rfl ?_
  refine lv_aload_n FX.1 FX.2.1 dX8_init_4 rfl (lv_at hl 0 rfl) ?_
  refine lv_iload_n FX.1 FX.2.1 dX8_init_5 rfl (lv_at hl 1 rfl) ?_
  refine bd hf (fun K1 h_K1 hf => ?_)
  refine sX8_7 FX hw hname h_K1 dX8_init_6 (fun H locs hw => ?_)
  refine lv_aload_n FX.1 FX.2.1 dX8_init_9 rfl (lv_at hl 0 rfl) ?_
  refine lv_iload_n FX.1 FX.2.1 dX8_init_10 rfl (lv_at hl 2 rfl) ?_
  refine bd hf (fun K2 h_K2 hf => ?_)
  refine sX8_13 FX hw hname h_K2 dX8_init_11 (fun H locs hw => ?_)
  exact hret _ (congrArg (fun z => (M, C, z.1, z.2.1)) (Option.some.inj hf)) hw dX8_init_14
abbrev rmX8_holds : Room := { frames := 0, cells := 0, slots := 0, locals := 0 }
set_option maxHeartbeats 4000000 in
theorem wX8_holds {l : Launch} {G : GT} {M C : FS} {K : KT} {a : Nat} {t : Int32} (hf : fX8_holds a = some t) : CtI l yX8_holds (ws_ yX8_holds cX8_holds 1 (some .boolean)) rmX8_holds G [.ref a] (M, C, K.1, K.2.1) t (M, C, K.1, K.2.1) := by
  refine mkI (ty := .boolean) (by decide) (Nat.le_of_ble_eq_true rfl) (fun p e s m a0 below meth c Q FX hw hname hret ls hl => ?_)
  have hl : lv_has ls 1 [(0, .ref a)] := hl
  unfold fX8_holds at hf
  refine lv_iconst (v := 1) FX.1 FX.2.1 dX8_holds_0 (by decide) ?_
  exact hret _ _ rfl (congrArg (fun z => z) (Option.some.inj hf)) rfl hw dX8_holds_1
abbrev rmX9_state : Room := { frames := 0, cells := 0, slots := 0, locals := 0 }
set_option maxHeartbeats 4000000 in
theorem wX9_state {l : Launch} {G : GT} {M C : FS} {K : KT} {a : Nat} {t : Int32} (hf : fX9_state a = some t) : CtI l yX9_state (ws_ yX9_state cX9_state 1 (some .int)) rmX9_state G [.ref a] (M, C, K.1, K.2.1) t (M, C, K.1, K.2.1) := by
  refine mkI (ty := .int) (by decide) (Nat.le_of_ble_eq_true rfl) (fun p e s m a0 below meth c Q FX hw hname hret ls hl => ?_)
  have hl : lv_has ls 1 [(0, .ref a)] := hl
  unfold fX9_state at hf
  refine lv_iconst (v := 0) FX.1 FX.2.1 dX9_state_0 (by decide) ?_
  exact hret _ _ rfl (congrArg (fun z => z) (Option.some.inj hf)) rfl hw dX9_state_1
abbrev rmX9_seconds : Room := { frames := 0, cells := 0, slots := 0, locals := 0 }
set_option maxHeartbeats 4000000 in
theorem wX9_seconds {l : Launch} {G : GT} {M C : FS} {K : KT} {a : Nat} {t : Int32} (hf : fX9_seconds a = some t) : CtI l yX9_seconds (ws_ yX9_seconds cX9_seconds 1 (some .int)) rmX9_seconds G [.ref a] (M, C, K.1, K.2.1) t (M, C, K.1, K.2.1) := by
  refine mkI (ty := .int) (by decide) (Nat.le_of_ble_eq_true rfl) (fun p e s m a0 below meth c Q FX hw hname hret ls hl => ?_)
  have hl : lv_has ls 1 [(0, .ref a)] := hl
  unfold fX9_seconds at hf
  refine lv_iconst (v := 1) FX.1 FX.2.1 dX9_seconds_0 (by decide) ?_
  exact hret _ _ rfl (congrArg (fun z => z) (Option.some.inj hf)) rfl hw dX9_seconds_1
abbrev rmX9_loosened : Room := { frames := 0, cells := 0, slots := 0, locals := 0 }
set_option maxHeartbeats 4000000 in
theorem wX9_loosened {l : Launch} {G : GT} {M C : FS} {K : KT} {a : Nat} {t : Int32} (hf : fX9_loosened a = some t) : CtI l yX9_loosened (ws_ yX9_loosened cX9_loosened 1 (some .int)) rmX9_loosened G [.ref a] (M, C, K.1, K.2.1) t (M, C, K.1, K.2.1) := by
  refine mkI (ty := .int) (by decide) (Nat.le_of_ble_eq_true rfl) (fun p e s m a0 below meth c Q FX hw hname hret ls hl => ?_)
  have hl : lv_has ls 1 [(0, .ref a)] := hl
  unfold fX9_loosened at hf
  refine lv_iconst (v := (-1)) FX.1 FX.2.1 dX9_loosened_0 (by decide) ?_
  exact hret _ _ rfl (congrArg (fun z => z) (Option.some.inj hf)) rfl hw dX9_loosened_1
abbrev rmX9_holds : Room := { frames := 0, cells := 0, slots := 0, locals := 0 }
set_option maxHeartbeats 4000000 in
theorem wX9_holds {l : Launch} {G : GT} {M C : FS} {K : KT} {a : Nat} {t : Int32} (hf : fX9_holds a = some t) : CtI l yX9_holds (ws_ yX9_holds cX9_holds 1 (some .boolean)) rmX9_holds G [.ref a] (M, C, K.1, K.2.1) t (M, C, K.1, K.2.1) := by
  refine mkI (ty := .boolean) (by decide) (Nat.le_of_ble_eq_true rfl) (fun p e s m a0 below meth c Q FX hw hname hret ls hl => ?_)
  have hl : lv_has ls 1 [(0, .ref a)] := hl
  unfold fX9_holds at hf
  refine lv_iconst (v := 0) FX.1 FX.2.1 dX9_holds_0 (by decide) ?_
  exact hret _ _ rfl (congrArg (fun z => z) (Option.some.inj hf)) rfl hw dX9_holds_1
abbrev rmX9_pulled : Room := { frames := 0, cells := 0, slots := 0, locals := 0 }
set_option maxHeartbeats 4000000 in
theorem wX9_pulled {l : Launch} {G : GT} {M C : FS} {K : KT} {a : Nat} {t : Int32} (hf : fX9_pulled a = some t) : CtI l yX9_pulled (ws_ yX9_pulled cX9_pulled 1 (some .int)) rmX9_pulled G [.ref a] (M, C, K.1, K.2.1) t (M, C, K.1, K.2.1) := by
  refine mkI (ty := .int) (by decide) (Nat.le_of_ble_eq_true rfl) (fun p e s m a0 below meth c Q FX hw hname hret ls hl => ?_)
  have hl : lv_has ls 1 [(0, .ref a)] := hl
  unfold fX9_pulled at hf
  refine lv_iconst (v := (-1)) FX.1 FX.2.1 dX9_pulled_0 (by decide) ?_
  exact hret _ _ rfl (congrArg (fun z => z) (Option.some.inj hf)) rfl hw dX9_pulled_1
abbrev rmX10_state : Room := { frames := 0, cells := 0, slots := 0, locals := 0 }
set_option maxHeartbeats 4000000 in
theorem wX10_state {l : Launch} {G : GT} {M C : FS} {K : KT} {a : Nat} {t : Int32} (hf : fX10_state a = some t) : CtI l yX10_state (ws_ yX10_state cX10_state 1 (some .int)) rmX10_state G [.ref a] (M, C, K.1, K.2.1) t (M, C, K.1, K.2.1) := by
  refine mkI (ty := .int) (by decide) (Nat.le_of_ble_eq_true rfl) (fun p e s m a0 below meth c Q FX hw hname hret ls hl => ?_)
  have hl : lv_has ls 1 [(0, .ref a)] := hl
  unfold fX10_state at hf
  refine lv_iconst (v := 1) FX.1 FX.2.1 dX10_state_0 (by decide) ?_
  exact hret _ _ rfl (congrArg (fun z => z) (Option.some.inj hf)) rfl hw dX10_state_1
abbrev rmX10_seconds : Room := { frames := 0, cells := 0, slots := 0, locals := 0 }
set_option maxHeartbeats 4000000 in
theorem wX10_seconds {l : Launch} {G : GT} {M C : FS} {K : KT} {a : Nat} {t : Int32} (hf : fX10_seconds a = some t) : CtI l yX10_seconds (ws_ yX10_seconds cX10_seconds 1 (some .int)) rmX10_seconds G [.ref a] (M, C, K.1, K.2.1) t (M, C, K.1, K.2.1) := by
  refine mkI (ty := .int) (by decide) (Nat.le_of_ble_eq_true rfl) (fun p e s m a0 below meth c Q FX hw hname hret ls hl => ?_)
  have hl : lv_has ls 1 [(0, .ref a)] := hl
  unfold fX10_seconds at hf
  refine lv_iconst (v := 3) FX.1 FX.2.1 dX10_seconds_0 (by decide) ?_
  exact hret _ _ rfl (congrArg (fun z => z) (Option.some.inj hf)) rfl hw dX10_seconds_1
abbrev rmX11_state : Room := { frames := 2, cells := 0, slots := 0, locals := 40 }
theorem wX11_state {l : Launch} {G : GT} {M C : FS} {K : KT} {a ci : Nat} {fs : List Value} (he : K.1 a = some (.inr (ci, fs))) {t : Int32} (hc : ci = 9 ∨ ci = 10) (ht : t = 2) : CtI l yX11_state (ws_ yX11_state cX11_state 1 (some .int)) rmX11_state G [.ref a] (M, C, K.1, K.2.1) t (M, C, K.1, K.2.1) := by
  refine mkI (ty := .int) (by decide) (Nat.le_of_ble_eq_true rfl) (fun p e s m a0 below meth c Q FX hw hname hret ls hl => ?_)
  have hl : lv_has ls 1 [(0, .ref a)] := hl
  refine lv_aload_n FX.1 FX.2.1 dX11_state_0 rfl (lv_at hl 0 rfl) ?_
  rcases hc with hc | hc
  · subst hc
    refine clSU_i0 (As := []) (rest := []) FX hw (wX10_state rfl) (va_cwSU 0 FX.2.2.2.2 (lw_SU q1074 q2315 q931 q1075 q157 q1076) rfl rfl rfl ⟨by decide, by decide +kernel⟩ ⟨Nat.le_of_ble_eq_true rfl, Nat.le_of_ble_eq_true rfl⟩) (dyn_he hw he) rfl rfl hl.1 rfl (lv_room (Nat.le_of_ble_eq_true rfl)) dX11_state_1 ⟨rfl, rfl⟩ ⟨Nat.zero_le _, Nat.zero_le _⟩ (fun H locs hw => ?_)
    refine lv_iconst (v := 1) FX.1 FX.2.1 dX11_state_4 (by decide) ?_
    refine lv_iadd FX.1 FX.2.1 dX11_state_5 ?_
    exact hret _ _ rfl (by subst ht; decide) rfl hw dX11_state_6
  · subst hc
    refine clSU_i0 (As := []) (rest := []) FX hw (wX10_state rfl) (va_cwSU 0 FX.2.2.2.2 (lw_SU q1074 q2315 q931 q1075 q157 q1076) rfl rfl rfl ⟨by decide, by decide +kernel⟩ ⟨Nat.le_of_ble_eq_true rfl, Nat.le_of_ble_eq_true rfl⟩) (dyn_he hw he) rfl rfl hl.1 rfl (lv_room (Nat.le_of_ble_eq_true rfl)) dX11_state_1 ⟨rfl, rfl⟩ ⟨Nat.zero_le _, Nat.zero_le _⟩ (fun H locs hw => ?_)
    refine lv_iconst (v := 1) FX.1 FX.2.1 dX11_state_4 (by decide) ?_
    refine lv_iadd FX.1 FX.2.1 dX11_state_5 ?_
    exact hret _ _ rfl (by subst ht; decide) rfl hw dX11_state_6
abbrev rmX11_seconds : Room := { frames := 2, cells := 0, slots := 0, locals := 40 }
theorem wX11_seconds {l : Launch} {G : GT} {M C : FS} {K : KT} {a ci : Nat} {fs : List Value} (he : K.1 a = some (.inr (ci, fs))) {t : Int32} (hc : ci = 9 ∨ ci = 10) (ht : t = 6) : CtI l yX11_seconds (ws_ yX11_seconds cX11_seconds 1 (some .int)) rmX11_seconds G [.ref a] (M, C, K.1, K.2.1) t (M, C, K.1, K.2.1) := by
  refine mkI (ty := .int) (by decide) (Nat.le_of_ble_eq_true rfl) (fun p e s m a0 below meth c Q FX hw hname hret ls hl => ?_)
  have hl : lv_has ls 1 [(0, .ref a)] := hl
  refine lv_iconst (v := 2) FX.1 FX.2.1 dX11_seconds_0 (by decide) ?_
  refine lv_aload_n FX.1 FX.2.1 dX11_seconds_1 rfl (lv_at hl 0 rfl) ?_
  rcases hc with hc | hc
  · subst hc
    refine clSU_i0 (As := []) (rest := [.int 2]) FX hw (wX10_seconds rfl) (va_cwSU 0 FX.2.2.2.2 (lw_SU q1141 q2317 q931 q1142 q157 q1143) rfl rfl rfl ⟨by decide, by decide +kernel⟩ ⟨Nat.le_of_ble_eq_true rfl, Nat.le_of_ble_eq_true rfl⟩) (dyn_he hw he) rfl rfl hl.1 rfl (lv_room (Nat.le_of_ble_eq_true rfl)) dX11_seconds_2 ⟨rfl, rfl⟩ ⟨Nat.zero_le _, Nat.zero_le _⟩ (fun H locs hw => ?_)
    refine lv_imul FX.1 FX.2.1 dX11_seconds_5 ?_
    exact hret _ _ rfl (by subst ht; decide) rfl hw dX11_seconds_6
  · subst hc
    refine clSU_i0 (As := []) (rest := [.int 2]) FX hw (wX10_seconds rfl) (va_cwSU 0 FX.2.2.2.2 (lw_SU q1141 q2317 q931 q1142 q157 q1143) rfl rfl rfl ⟨by decide, by decide +kernel⟩ ⟨Nat.le_of_ble_eq_true rfl, Nat.le_of_ble_eq_true rfl⟩) (dyn_he hw he) rfl rfl hl.1 rfl (lv_room (Nat.le_of_ble_eq_true rfl)) dX11_seconds_2 ⟨rfl, rfl⟩ ⟨Nat.zero_le _, Nat.zero_le _⟩ (fun H locs hw => ?_)
    refine lv_imul FX.1 FX.2.1 dX11_seconds_5 ?_
    exact hret _ _ rfl (by subst ht; decide) rfl hw dX11_seconds_6
abbrev rmX12_state : Room := { frames := 3, cells := 0, slots := 0, locals := 80 }
theorem wX12_state {l : Launch} {G : GT} {M C : FS} {K : KT} {a ci : Nat} {fs : List Value} (he : K.1 a = some (.inr (ci, fs))) {t : Int32} (hc : ci = 10) (ht : t = 3) : CtI l yX12_state (ws_ yX12_state cX12_state 1 (some .int)) rmX12_state G [.ref a] (M, C, K.1, K.2.1) t (M, C, K.1, K.2.1) := by
  refine mkI (ty := .int) (by decide) (Nat.le_of_ble_eq_true rfl) (fun p e s m a0 below meth c Q FX hw hname hret ls hl => ?_)
  have hl : lv_has ls 1 [(0, .ref a)] := hl
  refine lv_aload_n FX.1 FX.2.1 dX12_state_0 rfl (lv_at hl 0 rfl) ?_
  subst hc
  refine clSU_i0 (As := []) (rest := []) FX hw (wX11_state he (Or.inr rfl) rfl) (va_cwSU 0 FX.2.2.2.2 (lw_SU q1071 q2314 q940 q1072 q158 q1073) rfl rfl rfl ⟨by decide, by decide +kernel⟩ ⟨Nat.le_of_ble_eq_true rfl, Nat.le_of_ble_eq_true rfl⟩) (dyn_he hw he) rfl rfl hl.1 rfl (lv_room (Nat.le_of_ble_eq_true rfl)) dX12_state_1 ⟨rfl, rfl⟩ ⟨Nat.zero_le _, Nat.zero_le _⟩ (fun H locs hw => ?_)
  refine lv_iconst (v := 1) FX.1 FX.2.1 dX12_state_4 (by decide) ?_
  refine lv_iadd FX.1 FX.2.1 dX12_state_5 ?_
  exact hret _ _ rfl (by subst ht; decide) rfl hw dX12_state_6
abbrev rmX12_seconds : Room := { frames := 3, cells := 0, slots := 0, locals := 80 }
theorem wX12_seconds {l : Launch} {G : GT} {M C : FS} {K : KT} {a ci : Nat} {fs : List Value} (he : K.1 a = some (.inr (ci, fs))) {t : Int32} (hc : ci = 10) (ht : t = 15) : CtI l yX12_seconds (ws_ yX12_seconds cX12_seconds 1 (some .int)) rmX12_seconds G [.ref a] (M, C, K.1, K.2.1) t (M, C, K.1, K.2.1) := by
  refine mkI (ty := .int) (by decide) (Nat.le_of_ble_eq_true rfl) (fun p e s m a0 below meth c Q FX hw hname hret ls hl => ?_)
  have hl : lv_has ls 1 [(0, .ref a)] := hl
  refine lv_aload_n FX.1 FX.2.1 dX12_seconds_0 rfl (lv_at hl 0 rfl) ?_
  subst hc
  refine clSU_i0 (As := []) (rest := []) FX hw (wX11_seconds he (Or.inr rfl) rfl) (va_cwSU 0 FX.2.2.2.2 (lw_SU q1138 q2316 q940 q1139 q158 q1140) rfl rfl rfl ⟨by decide, by decide +kernel⟩ ⟨Nat.le_of_ble_eq_true rfl, Nat.le_of_ble_eq_true rfl⟩) (dyn_he hw he) rfl rfl hl.1 rfl (lv_room (Nat.le_of_ble_eq_true rfl)) dX12_seconds_1 ⟨rfl, rfl⟩ ⟨Nat.zero_le _, Nat.zero_le _⟩ (fun H locs hw => ?_)
  refine lv_bipush (v := 9) FX.1 FX.2.1 dX12_seconds_4 (by decide) ?_
  refine lv_iadd FX.1 FX.2.1 dX12_seconds_6 ?_
  exact hret _ _ rfl (by subst ht; decide) rfl hw dX12_seconds_7
abbrev rmX10_loosened : Room := { frames := 4, cells := 0, slots := 0, locals := 120 }
theorem wX10_loosened {l : Launch} {G : GT} {M C : FS} {K : KT} {a ci : Nat} {fs : List Value} (he : K.1 a = some (.inr (ci, fs))) {t : Int32} (hc : ci = 8 ∧ t = 0 ∨ ci = 9 ∧ t = 1) (ht : True) : CtI l yX10_loosened (ws_ yX10_loosened cX10_loosened 1 (some .int)) rmX10_loosened G [.ref a] (M, C, K.1, K.2.1) t (M, C, K.1, K.2.1) := by
  refine mkI (ty := .int) (by decide) (Nat.le_of_ble_eq_true rfl) (fun p e s m a0 below meth c Q FX hw hname hret ls hl => ?_)
  have hl : lv_has ls 1 [(0, .ref a)] := hl
  refine lv_aload_n FX.1 FX.2.1 dX10_loosened_0 rfl (lv_at hl 0 rfl) ?_
  rcases hc with ⟨hc, ht⟩ | ⟨hc, ht⟩
  · subst hc
    refine clU_i0 (As := []) (rest := []) FX hw (wX10_state rfl) (va_cwU (owner := "CableDrawer$Threaded") 0 FX.2.2.2.2 (lw_U q1182 q2315 q2320 q1075 q157 q1076) rfl rfl rfl rfl ⟨by decide, by decide, by decide +kernel⟩ ⟨Nat.le_of_ble_eq_true rfl, Nat.le_of_ble_eq_true rfl⟩) (dyn_he hw he) rfl rfl hl.1 rfl (lv_room (Nat.le_of_ble_eq_true rfl)) dX10_loosened_1 ⟨rfl, rfl⟩ ⟨Nat.zero_le _, Nat.zero_le _⟩ (fun H locs hw => ?_)
    refine lv_iconst (v := 1) FX.1 FX.2.1 dX10_loosened_4 (by decide) ?_
    refine lv_isub FX.1 FX.2.1 dX10_loosened_5 ?_
    exact hret _ _ rfl (by subst ht; decide) rfl hw dX10_loosened_6
  · subst hc
    refine clU_i0 (As := []) (rest := []) FX hw (wX11_state he (Or.inl rfl) rfl) (va_cwO (owner := "CableDrawer$Threaded") 0 FX.2.2.2.2 (lw_O q1182 q2315 q1075 q2321 q1072 q158 q1073) rfl rfl rfl q1076 ⟨by decide, by decide, by decide +kernel⟩ ⟨Nat.le_of_ble_eq_true rfl, Nat.le_of_ble_eq_true rfl⟩) (dyn_he hw he) rfl rfl hl.1 rfl (lv_room (Nat.le_of_ble_eq_true rfl)) dX10_loosened_1 ⟨rfl, rfl⟩ ⟨Nat.zero_le _, Nat.zero_le _⟩ (fun H locs hw => ?_)
    refine lv_iconst (v := 1) FX.1 FX.2.1 dX10_loosened_4 (by decide) ?_
    refine lv_isub FX.1 FX.2.1 dX10_loosened_5 ?_
    exact hret _ _ rfl (by subst ht; decide) rfl hw dX10_loosened_6
abbrev rmX10_pulled : Room := { frames := 4, cells := 0, slots := 0, locals := 120 }
theorem wX10_pulled {l : Launch} {G : GT} {M C : FS} {K : KT} {a ci : Nat} {fs : List Value} (he : K.1 a = some (.inr (ci, fs))) {t : Int32} (hc : ci = 8 ∧ t = 2 ∨ ci = 9 ∧ t = 3) (ht : True) : CtI l yX10_pulled (ws_ yX10_pulled cX10_pulled 1 (some .int)) rmX10_pulled G [.ref a] (M, C, K.1, K.2.1) t (M, C, K.1, K.2.1) := by
  refine mkI (ty := .int) (by decide) (Nat.le_of_ble_eq_true rfl) (fun p e s m a0 below meth c Q FX hw hname hret ls hl => ?_)
  have hl : lv_has ls 1 [(0, .ref a)] := hl
  refine lv_aload_n FX.1 FX.2.1 dX10_pulled_0 rfl (lv_at hl 0 rfl) ?_
  rcases hc with ⟨hc, ht⟩ | ⟨hc, ht⟩
  · subst hc
    refine clU_i0 (As := []) (rest := []) FX hw (wX10_state rfl) (va_cwU (owner := "CableDrawer$Threaded") 0 FX.2.2.2.2 (lw_U q1182 q2315 q2320 q1075 q157 q1076) rfl rfl rfl rfl ⟨by decide, by decide, by decide +kernel⟩ ⟨Nat.le_of_ble_eq_true rfl, Nat.le_of_ble_eq_true rfl⟩) (dyn_he hw he) rfl rfl hl.1 rfl (lv_room (Nat.le_of_ble_eq_true rfl)) dX10_pulled_1 ⟨rfl, rfl⟩ ⟨Nat.zero_le _, Nat.zero_le _⟩ (fun H locs hw => ?_)
    refine lv_iconst (v := 1) FX.1 FX.2.1 dX10_pulled_4 (by decide) ?_
    refine lv_iadd FX.1 FX.2.1 dX10_pulled_5 ?_
    exact hret _ _ rfl (by subst ht; decide) rfl hw dX10_pulled_6
  · subst hc
    refine clU_i0 (As := []) (rest := []) FX hw (wX11_state he (Or.inl rfl) rfl) (va_cwO (owner := "CableDrawer$Threaded") 0 FX.2.2.2.2 (lw_O q1182 q2315 q1075 q2321 q1072 q158 q1073) rfl rfl rfl q1076 ⟨by decide, by decide, by decide +kernel⟩ ⟨Nat.le_of_ble_eq_true rfl, Nat.le_of_ble_eq_true rfl⟩) (dyn_he hw he) rfl rfl hl.1 rfl (lv_room (Nat.le_of_ble_eq_true rfl)) dX10_pulled_1 ⟨rfl, rfl⟩ ⟨Nat.zero_le _, Nat.zero_le _⟩ (fun H locs hw => ?_)
    refine lv_iconst (v := 1) FX.1 FX.2.1 dX10_pulled_4 (by decide) ?_
    refine lv_iadd FX.1 FX.2.1 dX10_pulled_5 ?_
    exact hret _ _ rfl (by subst ht; decide) rfl hw dX10_pulled_6
abbrev rmX12_loosened : Room := { frames := 4, cells := 0, slots := 0, locals := 120 }
theorem wX12_loosened {l : Launch} {G : GT} {M C : FS} {K : KT} {a ci : Nat} {fs : List Value} (he : K.1 a = some (.inr (ci, fs))) {t : Int32} (hc : ci = 10) (ht : t = 3) : CtI l yX12_loosened (ws_ yX12_loosened cX12_loosened 1 (some .int)) rmX12_loosened G [.ref a] (M, C, K.1, K.2.1) t (M, C, K.1, K.2.1) := by
  refine mkI (ty := .int) (by decide) (Nat.le_of_ble_eq_true rfl) (fun p e s m a0 below meth c Q FX hw hname hret ls hl => ?_)
  have hl : lv_has ls 1 [(0, .ref a)] := hl
  refine lv_aload_n FX.1 FX.2.1 dX12_loosened_0 rfl (lv_at hl 0 rfl) ?_
  subst hc
  refine clV_i0 (As := []) (rest := []) FX hw (wX12_state he rfl rfl) (cwV 0 FX.2.2.2.2 (lw_V q1175 q1069 q2318 q159 q1070) rfl rfl rfl (by decide +kernel) ⟨Nat.le_of_ble_eq_true rfl, Nat.le_of_ble_eq_true rfl⟩) (dyn_he hw he) rfl rfl hl.1 rfl (lv_room (Nat.le_of_ble_eq_true rfl)) dX12_loosened_1 ⟨rfl, rfl⟩ ⟨Nat.zero_le _, Nat.zero_le _⟩ (fun H locs hw => ?_)
  exact hret _ _ rfl (by subst ht; decide) rfl hw dX12_loosened_4
abbrev rmX12_pulled : Room := { frames := 4, cells := 0, slots := 0, locals := 120 }
theorem wX12_pulled {l : Launch} {G : GT} {M C : FS} {K : KT} {a ci : Nat} {fs : List Value} (he : K.1 a = some (.inr (ci, fs))) {t : Int32} (hc : ci = 10) (ht : t = 3) : CtI l yX12_pulled (ws_ yX12_pulled cX12_pulled 1 (some .int)) rmX12_pulled G [.ref a] (M, C, K.1, K.2.1) t (M, C, K.1, K.2.1) := by
  refine mkI (ty := .int) (by decide) (Nat.le_of_ble_eq_true rfl) (fun p e s m a0 below meth c Q FX hw hname hret ls hl => ?_)
  have hl : lv_has ls 1 [(0, .ref a)] := hl
  refine lv_aload_n FX.1 FX.2.1 dX12_pulled_0 rfl (lv_at hl 0 rfl) ?_
  subst hc
  refine clV_i0 (As := []) (rest := []) FX hw (wX12_state he rfl rfl) (cwV 0 FX.2.2.2.2 (lw_V q1175 q1069 q2318 q159 q1070) rfl rfl rfl (by decide +kernel) ⟨Nat.le_of_ble_eq_true rfl, Nat.le_of_ble_eq_true rfl⟩) (dyn_he hw he) rfl rfl hl.1 rfl (lv_room (Nat.le_of_ble_eq_true rfl)) dX12_pulled_1 ⟨rfl, rfl⟩ ⟨Nat.zero_le _, Nat.zero_le _⟩ (fun H locs hw => ?_)
  exact hret _ _ rfl (by subst ht; decide) rfl hw dX12_pulled_4
theorem vc_state {p : Program} {l : Launch} {e : Env} {R : Room} {s : State} {m : MethodId} {args : Array Value} {below : List Frame} {meth : Method} {c : Code} {H : Heap} {locs : List Loc} {cells slots : Nat} {Q : State → Prop} {cc : ByteArray} {nL pc index : Nat} {own : String} {ls : Array Slot} {rest st0 : List Value} {G : GT} {M C : FS} {K : KT} {a : Nat} {v : Int32} (FX : CallFix p m c cc nL s args lw_all own) (hw : WS G (M, C, K.1, K.2.1) s H locs) (hv : vState K a = some v) (hlink : Cond.methodLink own index ⟨"CableDrawer$Crossing", "state", "()I"⟩ ∈ lw_all) (hl : ls.size = nL) (hst : st0 = .ref a :: rest) (hr : 2 * (F0 m pc ls st0).monitorRoom + (rest.map fun v => v.category).sum ≤ 8) (d : decode cc pc = .ok (.invokevirtual index, 3)) (hR : 6 ≤ R.frames ∧ 400 ≤ R.locals) (hf : cells ≤ R.cells ∧ slots ≤ R.slots) (kk : ∀ (H : Heap) (locs : List Loc), WS G (M, C, K.1, K.2.1) s H locs → W p l e R s m args below meth c H locs cells slots Q (F0 m (pc + 3) ls (.int v :: rest))) : W p l e R s m args below meth c H locs cells slots Q (F0 m pc ls st0) := by
  obtain ⟨ci, fs, he, hc⟩ := vT_some hv
  rcases hc with ⟨rfl, rfl⟩ | ⟨rfl, rfl⟩ | ⟨rfl, rfl⟩ | ⟨rfl, rfl⟩
  · exact clU_i0 (As := []) (rest := rest) FX hw (wX9_state rfl) (va_cwA (owner := "CableDrawer$Crossing") 0 FX.2.2.2.2 (lw_U hlink q1067 q1077 q1078 q156 q1079) rfl rfl rfl (hw.1.1.2.1.2.2.1 _ (by decide)) ⟨by decide, by decide, by decide +kernel⟩ ⟨Nat.le_trans (Nat.le_of_ble_eq_true rfl) hR.1, Nat.le_trans (Nat.le_of_ble_eq_true rfl) hR.2⟩) (dyn_he hw he) rfl rfl hl hst hr d ⟨rfl, rfl⟩ hf kk
  · exact clU_i0 (As := []) (rest := rest) FX hw (wX10_state rfl) (va_cwA (owner := "CableDrawer$Crossing") 0 FX.2.2.2.2 (lw_U hlink q1067 q1080 q1075 q157 q1076) rfl rfl rfl (hw.1.1.2.1.2.2.1 _ (by decide)) ⟨by decide, by decide, by decide +kernel⟩ ⟨Nat.le_trans (Nat.le_of_ble_eq_true rfl) hR.1, Nat.le_trans (Nat.le_of_ble_eq_true rfl) hR.2⟩) (dyn_he hw he) rfl rfl hl hst hr d ⟨rfl, rfl⟩ hf kk
  · exact clU_i0 (As := []) (rest := rest) FX hw (wX11_state he (Or.inl rfl) rfl) (va_cwA (owner := "CableDrawer$Crossing") 0 FX.2.2.2.2 (lw_U hlink q1067 q1081 q1072 q158 q1073) rfl rfl rfl (hw.1.1.2.1.2.2.1 _ (by decide)) ⟨by decide, by decide, by decide +kernel⟩ ⟨Nat.le_trans (Nat.le_of_ble_eq_true rfl) hR.1, Nat.le_trans (Nat.le_of_ble_eq_true rfl) hR.2⟩) (dyn_he hw he) rfl rfl hl hst hr d ⟨rfl, rfl⟩ hf kk
  · exact clU_i0 (As := []) (rest := rest) FX hw (wX12_state he rfl rfl) (va_cwA (owner := "CableDrawer$Crossing") 0 FX.2.2.2.2 (lw_U hlink q1067 q1068 q1069 q159 q1070) rfl rfl rfl (hw.1.1.2.1.2.2.1 _ (by decide)) ⟨by decide, by decide, by decide +kernel⟩ ⟨Nat.le_trans (Nat.le_of_ble_eq_true rfl) hR.1, Nat.le_trans (Nat.le_of_ble_eq_true rfl) hR.2⟩) (dyn_he hw he) rfl rfl hl hst hr d ⟨rfl, rfl⟩ hf kk
theorem vc_seconds {p : Program} {l : Launch} {e : Env} {R : Room} {s : State} {m : MethodId} {args : Array Value} {below : List Frame} {meth : Method} {c : Code} {H : Heap} {locs : List Loc} {cells slots : Nat} {Q : State → Prop} {cc : ByteArray} {nL pc index : Nat} {own : String} {ls : Array Slot} {rest st0 : List Value} {G : GT} {M C : FS} {K : KT} {a : Nat} {v : Int32} (FX : CallFix p m c cc nL s args lw_all own) (hw : WS G (M, C, K.1, K.2.1) s H locs) (hv : vSeconds K a = some v) (hlink : Cond.methodLink own index ⟨"CableDrawer$Crossing", "seconds", "()I"⟩ ∈ lw_all) (hl : ls.size = nL) (hst : st0 = .ref a :: rest) (hr : 2 * (F0 m pc ls st0).monitorRoom + (rest.map fun v => v.category).sum ≤ 8) (d : decode cc pc = .ok (.invokevirtual index, 3)) (hR : 6 ≤ R.frames ∧ 400 ≤ R.locals) (hf : cells ≤ R.cells ∧ slots ≤ R.slots) (kk : ∀ (H : Heap) (locs : List Loc), WS G (M, C, K.1, K.2.1) s H locs → W p l e R s m args below meth c H locs cells slots Q (F0 m (pc + 3) ls (.int v :: rest))) : W p l e R s m args below meth c H locs cells slots Q (F0 m pc ls st0) := by
  obtain ⟨ci, fs, he, hc⟩ := vT_some hv
  rcases hc with ⟨rfl, rfl⟩ | ⟨rfl, rfl⟩ | ⟨rfl, rfl⟩ | ⟨rfl, rfl⟩
  · exact clU_i0 (As := []) (rest := rest) FX hw (wX9_seconds rfl) (va_cwA (owner := "CableDrawer$Crossing") 0 FX.2.2.2.2 (lw_U hlink q1134 q1144 q1145 q156 q1146) rfl rfl rfl (hw.1.1.2.1.2.2.1 _ (by decide)) ⟨by decide, by decide, by decide +kernel⟩ ⟨Nat.le_trans (Nat.le_of_ble_eq_true rfl) hR.1, Nat.le_trans (Nat.le_of_ble_eq_true rfl) hR.2⟩) (dyn_he hw he) rfl rfl hl hst hr d ⟨rfl, rfl⟩ hf kk
  · exact clU_i0 (As := []) (rest := rest) FX hw (wX10_seconds rfl) (va_cwA (owner := "CableDrawer$Crossing") 0 FX.2.2.2.2 (lw_U hlink q1134 q1147 q1142 q157 q1143) rfl rfl rfl (hw.1.1.2.1.2.2.1 _ (by decide)) ⟨by decide, by decide, by decide +kernel⟩ ⟨Nat.le_trans (Nat.le_of_ble_eq_true rfl) hR.1, Nat.le_trans (Nat.le_of_ble_eq_true rfl) hR.2⟩) (dyn_he hw he) rfl rfl hl hst hr d ⟨rfl, rfl⟩ hf kk
  · exact clU_i0 (As := []) (rest := rest) FX hw (wX11_seconds he (Or.inl rfl) rfl) (va_cwA (owner := "CableDrawer$Crossing") 0 FX.2.2.2.2 (lw_U hlink q1134 q1148 q1139 q158 q1140) rfl rfl rfl (hw.1.1.2.1.2.2.1 _ (by decide)) ⟨by decide, by decide, by decide +kernel⟩ ⟨Nat.le_trans (Nat.le_of_ble_eq_true rfl) hR.1, Nat.le_trans (Nat.le_of_ble_eq_true rfl) hR.2⟩) (dyn_he hw he) rfl rfl hl hst hr d ⟨rfl, rfl⟩ hf kk
  · exact clU_i0 (As := []) (rest := rest) FX hw (wX12_seconds he rfl rfl) (va_cwA (owner := "CableDrawer$Crossing") 0 FX.2.2.2.2 (lw_U hlink q1134 q1135 q1136 q159 q1137) rfl rfl rfl (hw.1.1.2.1.2.2.1 _ (by decide)) ⟨by decide, by decide, by decide +kernel⟩ ⟨Nat.le_trans (Nat.le_of_ble_eq_true rfl) hR.1, Nat.le_trans (Nat.le_of_ble_eq_true rfl) hR.2⟩) (dyn_he hw he) rfl rfl hl hst hr d ⟨rfl, rfl⟩ hf kk
theorem vc_loosened {p : Program} {l : Launch} {e : Env} {R : Room} {s : State} {m : MethodId} {args : Array Value} {below : List Frame} {meth : Method} {c : Code} {H : Heap} {locs : List Loc} {cells slots : Nat} {Q : State → Prop} {cc : ByteArray} {nL pc index : Nat} {own : String} {ls : Array Slot} {rest st0 : List Value} {G : GT} {M C : FS} {K : KT} {a : Nat} {v : Int32} (FX : CallFix p m c cc nL s args lw_all own) (hw : WS G (M, C, K.1, K.2.1) s H locs) (hv : vLoosened K a = some v) (hlink : Cond.methodLink own index ⟨"CableDrawer$Crossing", "loosened", "()I"⟩ ∈ lw_all) (hl : ls.size = nL) (hst : st0 = .ref a :: rest) (hr : 2 * (F0 m pc ls st0).monitorRoom + (rest.map fun v => v.category).sum ≤ 8) (d : decode cc pc = .ok (.invokevirtual index, 3)) (hR : 6 ≤ R.frames ∧ 400 ≤ R.locals) (hf : cells ≤ R.cells ∧ slots ≤ R.slots) (kk : ∀ (H : Heap) (locs : List Loc), WS G (M, C, K.1, K.2.1) s H locs → W p l e R s m args below meth c H locs cells slots Q (F0 m (pc + 3) ls (.int v :: rest))) : W p l e R s m args below meth c H locs cells slots Q (F0 m pc ls st0) := by
  obtain ⟨ci, fs, he, hc⟩ := vT_some hv
  rcases hc with ⟨rfl, rfl⟩ | ⟨rfl, rfl⟩ | ⟨rfl, rfl⟩ | ⟨rfl, rfl⟩
  · exact clU_i0 (As := []) (rest := rest) FX hw (wX9_loosened rfl) (va_cwA (owner := "CableDrawer$Crossing") 0 FX.2.2.2.2 (lw_U hlink q1171 q1176 q1177 q156 q1178) rfl rfl rfl (hw.1.1.2.1.2.2.1 _ (by decide)) ⟨by decide, by decide, by decide +kernel⟩ ⟨Nat.le_trans (Nat.le_of_ble_eq_true rfl) hR.1, Nat.le_trans (Nat.le_of_ble_eq_true rfl) hR.2⟩) (dyn_he hw he) rfl rfl hl hst hr d ⟨rfl, rfl⟩ hf kk
  · exact clU_i0 (As := []) (rest := rest) FX hw (wX10_loosened he (Or.inl ⟨rfl, rfl⟩) trivial) (va_cwA (owner := "CableDrawer$Crossing") 0 FX.2.2.2.2 (lw_U hlink q1171 q1179 q1180 q157 q1181) rfl rfl rfl (hw.1.1.2.1.2.2.1 _ (by decide)) ⟨by decide, by decide, by decide +kernel⟩ ⟨Nat.le_trans (Nat.le_of_ble_eq_true rfl) hR.1, Nat.le_trans (Nat.le_of_ble_eq_true rfl) hR.2⟩) (dyn_he hw he) rfl rfl hl hst hr d ⟨rfl, rfl⟩ hf kk
  · exact clU_i0 (As := []) (rest := rest) FX hw (wX10_loosened he (Or.inr ⟨rfl, rfl⟩) trivial) (va_cwA (owner := "CableDrawer$Crossing") 0 FX.2.2.2.2 (lw_U hlink q1171 q1183 q1180 q157 q1181) rfl rfl rfl (hw.1.1.2.1.2.2.1 _ (by decide)) ⟨by decide, by decide, by decide +kernel⟩ ⟨Nat.le_trans (Nat.le_of_ble_eq_true rfl) hR.1, Nat.le_trans (Nat.le_of_ble_eq_true rfl) hR.2⟩) (dyn_he hw he) rfl rfl hl hst hr d ⟨rfl, rfl⟩ hf kk
  · exact clU_i0 (As := []) (rest := rest) FX hw (wX12_loosened he rfl rfl) (va_cwA (owner := "CableDrawer$Crossing") 0 FX.2.2.2.2 (lw_U hlink q1171 q1172 q1173 q159 q1174) rfl rfl rfl (hw.1.1.2.1.2.2.1 _ (by decide)) ⟨by decide, by decide, by decide +kernel⟩ ⟨Nat.le_trans (Nat.le_of_ble_eq_true rfl) hR.1, Nat.le_trans (Nat.le_of_ble_eq_true rfl) hR.2⟩) (dyn_he hw he) rfl rfl hl hst hr d ⟨rfl, rfl⟩ hf kk
theorem vc_pulled {p : Program} {l : Launch} {e : Env} {R : Room} {s : State} {m : MethodId} {args : Array Value} {below : List Frame} {meth : Method} {c : Code} {H : Heap} {locs : List Loc} {cells slots : Nat} {Q : State → Prop} {cc : ByteArray} {nL pc index : Nat} {own : String} {ls : Array Slot} {rest st0 : List Value} {G : GT} {M C : FS} {K : KT} {a : Nat} {v : Int32} (FX : CallFix p m c cc nL s args lw_all own) (hw : WS G (M, C, K.1, K.2.1) s H locs) (hv : vPulled K a = some v) (hlink : Cond.methodLink own index ⟨"CableDrawer$Crossing", "pulled", "()I"⟩ ∈ lw_all) (hl : ls.size = nL) (hst : st0 = .ref a :: rest) (hr : 2 * (F0 m pc ls st0).monitorRoom + (rest.map fun v => v.category).sum ≤ 8) (d : decode cc pc = .ok (.invokevirtual index, 3)) (hR : 6 ≤ R.frames ∧ 400 ≤ R.locals) (hf : cells ≤ R.cells ∧ slots ≤ R.slots) (kk : ∀ (H : Heap) (locs : List Loc), WS G (M, C, K.1, K.2.1) s H locs → W p l e R s m args below meth c H locs cells slots Q (F0 m (pc + 3) ls (.int v :: rest))) : W p l e R s m args below meth c H locs cells slots Q (F0 m pc ls st0) := by
  obtain ⟨ci, fs, he, hc⟩ := vT_some hv
  rcases hc with ⟨rfl, rfl⟩ | ⟨rfl, rfl⟩ | ⟨rfl, rfl⟩ | ⟨rfl, rfl⟩
  · exact clU_i0 (As := []) (rest := rest) FX hw (wX9_pulled rfl) (va_cwA (owner := "CableDrawer$Crossing") 0 FX.2.2.2.2 (lw_U hlink q1217 q1221 q1222 q156 q1223) rfl rfl rfl (hw.1.1.2.1.2.2.1 _ (by decide)) ⟨by decide, by decide, by decide +kernel⟩ ⟨Nat.le_trans (Nat.le_of_ble_eq_true rfl) hR.1, Nat.le_trans (Nat.le_of_ble_eq_true rfl) hR.2⟩) (dyn_he hw he) rfl rfl hl hst hr d ⟨rfl, rfl⟩ hf kk
  · exact clU_i0 (As := []) (rest := rest) FX hw (wX10_pulled he (Or.inl ⟨rfl, rfl⟩) trivial) (va_cwA (owner := "CableDrawer$Crossing") 0 FX.2.2.2.2 (lw_U hlink q1217 q1224 q1225 q157 q1226) rfl rfl rfl (hw.1.1.2.1.2.2.1 _ (by decide)) ⟨by decide, by decide, by decide +kernel⟩ ⟨Nat.le_trans (Nat.le_of_ble_eq_true rfl) hR.1, Nat.le_trans (Nat.le_of_ble_eq_true rfl) hR.2⟩) (dyn_he hw he) rfl rfl hl hst hr d ⟨rfl, rfl⟩ hf kk
  · exact clU_i0 (As := []) (rest := rest) FX hw (wX10_pulled he (Or.inr ⟨rfl, rfl⟩) trivial) (va_cwA (owner := "CableDrawer$Crossing") 0 FX.2.2.2.2 (lw_U hlink q1217 q1227 q1225 q157 q1226) rfl rfl rfl (hw.1.1.2.1.2.2.1 _ (by decide)) ⟨by decide, by decide, by decide +kernel⟩ ⟨Nat.le_trans (Nat.le_of_ble_eq_true rfl) hR.1, Nat.le_trans (Nat.le_of_ble_eq_true rfl) hR.2⟩) (dyn_he hw he) rfl rfl hl hst hr d ⟨rfl, rfl⟩ hf kk
  · exact clU_i0 (As := []) (rest := rest) FX hw (wX12_pulled he rfl rfl) (va_cwA (owner := "CableDrawer$Crossing") 0 FX.2.2.2.2 (lw_U hlink q1217 q1218 q1219 q159 q1220) rfl rfl rfl (hw.1.1.2.1.2.2.1 _ (by decide)) ⟨by decide, by decide, by decide +kernel⟩ ⟨Nat.le_trans (Nat.le_of_ble_eq_true rfl) hR.1, Nat.le_trans (Nat.le_of_ble_eq_true rfl) hR.2⟩) (dyn_he hw he) rfl rfl hl hst hr d ⟨rfl, rfl⟩ hf kk
theorem vc_holds {p : Program} {l : Launch} {e : Env} {R : Room} {s : State} {m : MethodId} {args : Array Value} {below : List Frame} {meth : Method} {c : Code} {H : Heap} {locs : List Loc} {cells slots : Nat} {Q : State → Prop} {cc : ByteArray} {nL pc index : Nat} {own : String} {ls : Array Slot} {rest st0 : List Value} {G : GT} {M C : FS} {K : KT} {a : Nat} {v : Int32} (FX : CallFix p m c cc nL s args lw_all own) (hw : WS G (M, C, K.1, K.2.1) s H locs) (hv : vHolds K a = some v) (hlink : Cond.methodLink own index ⟨"CableDrawer$Crossing", "holds", "()Z"⟩ ∈ lw_all) (hl : ls.size = nL) (hst : st0 = .ref a :: rest) (hr : 2 * (F0 m pc ls st0).monitorRoom + (rest.map fun v => v.category).sum ≤ 8) (d : decode cc pc = .ok (.invokevirtual index, 3)) (hR : 6 ≤ R.frames ∧ 400 ≤ R.locals) (hf : cells ≤ R.cells ∧ slots ≤ R.slots) (kk : ∀ (H : Heap) (locs : List Loc), WS G (M, C, K.1, K.2.1) s H locs → W p l e R s m args below meth c H locs cells slots Q (F0 m (pc + 3) ls (.int v :: rest))) : W p l e R s m args below meth c H locs cells slots Q (F0 m pc ls st0) := by
  obtain ⟨ci, fs, he, hc⟩ := vT_some hv
  rcases hc with ⟨rfl, rfl⟩ | ⟨rfl, rfl⟩ | ⟨rfl, rfl⟩ | ⟨rfl, rfl⟩
  · exact clU_i0 (As := []) (rest := rest) FX hw (wX9_holds rfl) (va_cwO (owner := "CableDrawer$Crossing") 0 FX.2.2.2.2 (lw_O hlink q1207 q1206 q1209 q1210 q156 q1211) rfl rfl rfl q1214 ⟨by decide, by decide, by decide +kernel⟩ ⟨Nat.le_trans (Nat.le_of_ble_eq_true rfl) hR.1, Nat.le_trans (Nat.le_of_ble_eq_true rfl) hR.2⟩) (dyn_he hw he) rfl rfl hl hst hr d ⟨rfl, rfl⟩ hf kk
  · exact clU_i0 (As := []) (rest := rest) FX hw (wX8_holds rfl) (va_cwU (owner := "CableDrawer$Crossing") 0 FX.2.2.2.2 (lw_U hlink q1207 q1212 q1206 q155 q1214) rfl rfl rfl rfl ⟨by decide, by decide, by decide +kernel⟩ ⟨Nat.le_trans (Nat.le_of_ble_eq_true rfl) hR.1, Nat.le_trans (Nat.le_of_ble_eq_true rfl) hR.2⟩) (dyn_he hw he) rfl rfl hl hst hr d ⟨rfl, rfl⟩ hf kk
  · exact clU_i0 (As := []) (rest := rest) FX hw (wX8_holds rfl) (va_cwU (owner := "CableDrawer$Crossing") 0 FX.2.2.2.2 (lw_U hlink q1207 q1213 q1206 q155 q1214) rfl rfl rfl rfl ⟨by decide, by decide, by decide +kernel⟩ ⟨Nat.le_trans (Nat.le_of_ble_eq_true rfl) hR.1, Nat.le_trans (Nat.le_of_ble_eq_true rfl) hR.2⟩) (dyn_he hw he) rfl rfl hl hst hr d ⟨rfl, rfl⟩ hf kk
  · exact clU_i0 (As := []) (rest := rest) FX hw (wX8_holds rfl) (va_cwU (owner := "CableDrawer$Crossing") 0 FX.2.2.2.2 (lw_U hlink q1207 q1208 q1206 q155 q1214) rfl rfl rfl rfl ⟨by decide, by decide, by decide +kernel⟩ ⟨Nat.le_trans (Nat.le_of_ble_eq_true rfl) hR.1, Nat.le_trans (Nat.le_of_ble_eq_true rfl) hR.2⟩) (dyn_he hw he) rfl rfl hl hst hr d ⟨rfl, rfl⟩ hf kk
noncomputable def vIsOf (K : KT) (a : Nat) (q : Int32) : Option Int32 := vX K a (fX8_isOf K a q)
noncomputable def vOther (K : KT) (a : Nat) (q : Int32) : Option Int32 := vX K a (fX8_other K a q)
theorem vc_isOf {p : Program} {l : Launch} {e : Env} {R : Room} {s : State} {m : MethodId} {args : Array Value} {below : List Frame} {meth : Method} {c : Code} {H : Heap} {locs : List Loc} {cells slots : Nat} {Q : State → Prop} {cc : ByteArray} {nL pc index : Nat} {own : String} {ls : Array Slot} {rest st0 : List Value} {G : GT} {M C : FS} {K : KT} {a : Nat} {v : Int32} {q : Int32} (FX : CallFix p m c cc nL s args lw_all own) (hw : WS G (M, C, K.1, K.2.1) s H locs) (hv : vIsOf K a q = some v) (hlink : Cond.methodLink own index ⟨"CableDrawer$Crossing", "isOf", "(I)Z"⟩ ∈ lw_all) (hl : ls.size = nL) (hst : st0 = .int q :: .ref a :: rest) (hr : 2 * (F0 m pc ls st0).monitorRoom + (rest.map fun v => v.category).sum ≤ 8) (d : decode cc pc = .ok (.invokevirtual index, 3)) (hR : 6 ≤ R.frames ∧ 400 ≤ R.locals) (hf : cells ≤ R.cells ∧ slots ≤ R.slots) (kk : ∀ (H : Heap) (locs : List Loc), WS G (M, C, K.1, K.2.1) s H locs → W p l e R s m args below meth c H locs cells slots Q (F0 m (pc + 3) ls (.int v :: rest))) : W p l e R s m args below meth c H locs cells slots Q (F0 m pc ls st0) := by
  obtain ⟨ci, fs, he, hc, hv⟩ := vX_some hv
  rcases hc with rfl | rfl | rfl | rfl
  · exact clU_i0 (As := [.int q]) (rest := rest) FX hw (wX8_isOf hv) (va_cwU (owner := "CableDrawer$Crossing") 1 FX.2.2.2.2 (lw_U hlink q1047 q1049 q1046 q155 q1052) rfl rfl rfl rfl ⟨by decide, by decide, by decide +kernel⟩ ⟨Nat.le_trans (Nat.le_of_ble_eq_true rfl) hR.1, Nat.le_trans (Nat.le_of_ble_eq_true rfl) hR.2⟩) (dyn_he hw he) rfl rfl hl hst hr d ⟨rfl, rfl⟩ hf kk
  · exact clU_i0 (As := [.int q]) (rest := rest) FX hw (wX8_isOf hv) (va_cwU (owner := "CableDrawer$Crossing") 1 FX.2.2.2.2 (lw_U hlink q1047 q1050 q1046 q155 q1052) rfl rfl rfl rfl ⟨by decide, by decide, by decide +kernel⟩ ⟨Nat.le_trans (Nat.le_of_ble_eq_true rfl) hR.1, Nat.le_trans (Nat.le_of_ble_eq_true rfl) hR.2⟩) (dyn_he hw he) rfl rfl hl hst hr d ⟨rfl, rfl⟩ hf kk
  · exact clU_i0 (As := [.int q]) (rest := rest) FX hw (wX8_isOf hv) (va_cwU (owner := "CableDrawer$Crossing") 1 FX.2.2.2.2 (lw_U hlink q1047 q1051 q1046 q155 q1052) rfl rfl rfl rfl ⟨by decide, by decide, by decide +kernel⟩ ⟨Nat.le_trans (Nat.le_of_ble_eq_true rfl) hR.1, Nat.le_trans (Nat.le_of_ble_eq_true rfl) hR.2⟩) (dyn_he hw he) rfl rfl hl hst hr d ⟨rfl, rfl⟩ hf kk
  · exact clU_i0 (As := [.int q]) (rest := rest) FX hw (wX8_isOf hv) (va_cwU (owner := "CableDrawer$Crossing") 1 FX.2.2.2.2 (lw_U hlink q1047 q1048 q1046 q155 q1052) rfl rfl rfl rfl ⟨by decide, by decide, by decide +kernel⟩ ⟨Nat.le_trans (Nat.le_of_ble_eq_true rfl) hR.1, Nat.le_trans (Nat.le_of_ble_eq_true rfl) hR.2⟩) (dyn_he hw he) rfl rfl hl hst hr d ⟨rfl, rfl⟩ hf kk
theorem vc_other {p : Program} {l : Launch} {e : Env} {R : Room} {s : State} {m : MethodId} {args : Array Value} {below : List Frame} {meth : Method} {c : Code} {H : Heap} {locs : List Loc} {cells slots : Nat} {Q : State → Prop} {cc : ByteArray} {nL pc index : Nat} {own : String} {ls : Array Slot} {rest st0 : List Value} {G : GT} {M C : FS} {K : KT} {a : Nat} {v : Int32} {q : Int32} (FX : CallFix p m c cc nL s args lw_all own) (hw : WS G (M, C, K.1, K.2.1) s H locs) (hv : vOther K a q = some v) (hlink : Cond.methodLink own index ⟨"CableDrawer$Crossing", "other", "(I)I"⟩ ∈ lw_all) (hl : ls.size = nL) (hst : st0 = .int q :: .ref a :: rest) (hr : 2 * (F0 m pc ls st0).monitorRoom + (rest.map fun v => v.category).sum ≤ 8) (d : decode cc pc = .ok (.invokevirtual index, 3)) (hR : 6 ≤ R.frames ∧ 400 ≤ R.locals) (hf : cells ≤ R.cells ∧ slots ≤ R.slots) (kk : ∀ (H : Heap) (locs : List Loc), WS G (M, C, K.1, K.2.1) s H locs → W p l e R s m args below meth c H locs cells slots Q (F0 m (pc + 3) ls (.int v :: rest))) : W p l e R s m args below meth c H locs cells slots Q (F0 m pc ls st0) := by
  obtain ⟨ci, fs, he, hc, hv⟩ := vX_some hv
  rcases hc with rfl | rfl | rfl | rfl
  · exact clU_i0 (As := [.int q]) (rest := rest) FX hw (wX8_other hv) (va_cwU (owner := "CableDrawer$Crossing") 1 FX.2.2.2.2 (lw_U hlink q1151 q1153 q1150 q155 q1156) rfl rfl rfl rfl ⟨by decide, by decide, by decide +kernel⟩ ⟨Nat.le_trans (Nat.le_of_ble_eq_true rfl) hR.1, Nat.le_trans (Nat.le_of_ble_eq_true rfl) hR.2⟩) (dyn_he hw he) rfl rfl hl hst hr d ⟨rfl, rfl⟩ hf kk
  · exact clU_i0 (As := [.int q]) (rest := rest) FX hw (wX8_other hv) (va_cwU (owner := "CableDrawer$Crossing") 1 FX.2.2.2.2 (lw_U hlink q1151 q1154 q1150 q155 q1156) rfl rfl rfl rfl ⟨by decide, by decide, by decide +kernel⟩ ⟨Nat.le_trans (Nat.le_of_ble_eq_true rfl) hR.1, Nat.le_trans (Nat.le_of_ble_eq_true rfl) hR.2⟩) (dyn_he hw he) rfl rfl hl hst hr d ⟨rfl, rfl⟩ hf kk
  · exact clU_i0 (As := [.int q]) (rest := rest) FX hw (wX8_other hv) (va_cwU (owner := "CableDrawer$Crossing") 1 FX.2.2.2.2 (lw_U hlink q1151 q1155 q1150 q155 q1156) rfl rfl rfl rfl ⟨by decide, by decide, by decide +kernel⟩ ⟨Nat.le_trans (Nat.le_of_ble_eq_true rfl) hR.1, Nat.le_trans (Nat.le_of_ble_eq_true rfl) hR.2⟩) (dyn_he hw he) rfl rfl hl hst hr d ⟨rfl, rfl⟩ hf kk
  · exact clU_i0 (As := [.int q]) (rest := rest) FX hw (wX8_other hv) (va_cwU (owner := "CableDrawer$Crossing") 1 FX.2.2.2.2 (lw_U hlink q1151 q1152 q1150 q155 q1156) rfl rfl rfl rfl ⟨by decide, by decide, by decide +kernel⟩ ⟨Nat.le_trans (Nat.le_of_ble_eq_true rfl) hR.1, Nat.le_trans (Nat.le_of_ble_eq_true rfl) hR.2⟩) (dyn_he hw he) rfl rfl hl hst hr d ⟨rfl, rfl⟩ hf kk
