/-! THE STRING CONSTANTS: length and charAt of the words (0) and of the signs (1) -/
def vsC (i k : Nat) : Int32 := (vsB.getD i []).getD k 0
def sLen (i : Nat) : Int32 := Int32.ofNat (vsL.getD i 0)
def sAt (i : Nat) (k : Int32) : Option Int32 := if k < 0 ∨ vsL.getD i 0 ≤ k.toNatClampNeg then none else some (vsC i k.toNatClampNeg)
theorem sAt_some {i : Nat} {k v : Int32} (h : sAt i k = some v) : vp_in k (vsL.getD i 0) ∧ vsC i k.toNatClampNeg = v := out_some h
theorem vs_ch : ∀ i, i < 2 → ∀ k, k < vsL.getD i 0 → ((vsC i k &&& 255).toUInt32 % 65536).toInt32 = vsC i k ∧ vsC i k &&& 255 = vsC i k := by decide +kernel
theorem vs_nar {v : Int32} (h : ((v &&& 255).toUInt32 % 65536).toInt32 = v) (h3 : v &&& 255 = v) : narrow .char (.int v) = .int v := by
  rw [h3] at h
  exact congrArg Value.int h
theorem vs_lt {i : Nat} (hi : i < 2) {k : Int32} (h : vp_in k (vsL.getD i 0)) : ¬ k < 0 ∧ k < sLen i ∧ k.toNatClampNeg < vsL.getD i 0 := by
  have h0 : ¬ k < 0 := fun q => h (Or.inl q)
  have h1 : k.toNatClampNeg < vsL.getD i 0 := Nat.lt_of_not_le fun q => h (Or.inr q)
  have h2 : ∀ j, j < 2 → (sLen j).toInt = (vsL.getD j 0 : Int) := by decide +kernel
  refine ⟨h0, ?_, h1⟩
  rw [Int32.lt_iff_toInt_lt, h2 i hi, nn32 h0]
  omega
section B10
variable {p : Program} {l : Launch} {e : Env} {R : Room} {s : State} {m : MethodId} {args : Array Value} {below : List Frame} {meth : Method} {c : Code} {H : Heap} {locs : List Loc} {cells slots : Nat} {Q : State → Prop}
variable {cc bytes : ByteArray} {nL maxL index n pc i : Nat} {own : String} {ls : Array Slot} {rest st0 As : List Value} {G : GT} {S S' : ST} {y : MethodName} {ret : Option FieldType} {ws : List Cond} {rm : Room}
theorem ksf (hw : WS G S s H locs) : SF G s := hw.1.1.2.1.2.2.2.2.2.2
/-- a call of a method of one of the two Strings -/
theorem st_i {r : Int32} (hi : i < 2) (FX : CallFix p m c cc nL s args lw_all own) (hw : WS G S s H locs) (hM : CtI l y ws rm G (.ref (G.2.2.2 (391 + i)) :: As) S r S') (cw : CallW R s args own "java/lang/String" index y bytes maxL ret ws rm rm.cells rm.slots n) (hn : As.length = n) (hl : ls.size = nL) (hst : st0 = As.reverse ++ .ref (G.2.2.2 (391 + i)) :: rest) (hr : 2 * (F0 m pc ls st0).monitorRoom + (rest.map fun v => v.category).sum ≤ 8) (d : decode cc pc = .ok (.invokevirtual index, 3)) (hz : rm.cells = 0 ∧ rm.slots = 0) (hf : cells ≤ R.cells ∧ slots ≤ R.slots)
    (kk : ∀ (H1 : Heap) (locs1 : List Loc), WS G S' s H1 locs1 → W p l e R s m args below meth c H1 locs1 cells slots Q (F0 m (pc + 3) ls (.int r :: rest))) : W p l e R s m args below meth c H locs cells slots Q (F0 m pc ls st0) :=
  va_calli (va_runV FX hM cw ⟨WD.blind, vk_recv (ksf hw).1 hi hw.1.2, fun _ hU hW => ⟨rfl, hw.toD hU hW⟩⟩ rfl hn hl hst hr d (by rw [hz.1, hz.2]; exact hf)) hw.1.2 (fun _ _ h => h) (fun _ h => h) (fun v _ t H1 locs1 ht _ hv hB _ _ hS => by subst hv; rw [hz.1, hz.2]; exact kk H1 locs1 (hw.back ht hB hS))
theorem clS_v0 (FX : CallFix p m c cc nL s args lw_all own) (hw : WS G S s H locs) (hM : CtV l y ws rm G As S S') (cw : CallB R s args own index y bytes maxL ret ws rm rm.cells rm.slots n ∧ (Cond.static y).before args s = true) (hn : As.length = n) (hl : ls.size = nL) (hst : st0 = As.reverse ++ rest) (hr : 2 * (F0 m pc ls st0).monitorRoom + (rest.map fun v => v.category).sum ≤ 8) (d : decode cc pc = .ok (.invokestatic index, 3)) (hz : rm.cells = 0 ∧ rm.slots = 0) (hf : cells ≤ R.cells ∧ slots ≤ R.slots)
    (kk : ∀ (H1 : Heap) (locs1 : List Loc), WS G S' s H1 locs1 → W p l e R s m args below meth c H1 locs1 cells slots Q (F0 m (pc + 3) ls rest)) : W p l e R s m args below meth c H locs cells slots Q (F0 m pc ls st0) :=
  va_callv (va_runS FX hM cw (pre_S hw) rfl hn hl hst hr d (by rw [hz.1, hz.2]; exact hf)) hw.1.2 (fun _ _ h => h) (fun _ h => h) (fun _ t H1 locs1 ht _ _ hB _ _ hS => by rw [hz.1, hz.2]; exact kk H1 locs1 (hw.back ht hB hS))
end B10
abbrev rmJ4a : Room := { frames := 0, cells := 0, slots := 0, locals := 0 }
abbrev rmJ4b : Room := { frames := 1, cells := 0, slots := 0, locals := 60 }
abbrev rmJ4c : Room := { frames := 1, cells := 0, slots := 0, locals := 30 }
abbrev rmJ4d : Room := { frames := 2, cells := 0, slots := 0, locals := 120 }
abbrev rmJ4e : Room := { frames := 3, cells := 0, slots := 0, locals := 180 }
set_option maxHeartbeats 1000000 in
theorem wJ4_coder {l : Launch} {G : GT} {S : ST} {i : Nat} (hi : i < 2) : CtI l yJ4_coder (ws_ yJ4_coder cJ4_coder 1 (some .byte)) rmJ4a G [.ref (G.2.2.2 (391 + i))] S 0 S := by
  refine mkI (ty := .byte) (by decide) (Nat.le_of_ble_eq_true rfl) (fun p e s m a0 below meth c Q FX hw hname hret ls hl => ?_)
  have hl : lv_has ls 1 [(0, .ref (G.2.2.2 (391 + i)))] := hl
  refine va_gets FX.1 FX.2.1 (ksf hw).2.2.2.2.1 hw.1.2 FX.2.2.2.1 (FX.2.2.2.2 _ q696) (fun _ h => h) dJ4_coder_0 ?_
  refine lv_if_eq (tgt := 13) FX.1 FX.2.1 dJ4_coder_3 (by decide) (fun h => absurd h (by decide)) (fun _ => ?_)
  refine lv_aload_n FX.1 FX.2.1 dJ4_coder_6 rfl (lv_at hl 0 rfl) ?_
  refine vk_getf FX.1 FX.2.1 ((ksf hw).1.1 i hi).2.1 hw.1.2 FX.2.2.2.1 (FX.2.2.2.2 _ q2328) (fun _ h => h) dJ4_coder_7 ?_
  refine lv_goto (tgt := 14) FX.1 FX.2.1 dJ4_coder_10 (by decide) ?_
  exact hret _ _ rfl rfl rfl hw dJ4_coder_14
set_option maxHeartbeats 1000000 in
theorem wJ4_isLatin1 {l : Launch} {G : GT} {S : ST} {i : Nat} (hi : i < 2) : CtI l yJ4_isLatin1 (ws_ yJ4_isLatin1 cJ4_isLatin1 1 (some .boolean)) rmJ4a G [.ref (G.2.2.2 (391 + i))] S 1 S := by
  refine mkI (ty := .boolean) (by decide) (Nat.le_of_ble_eq_true rfl) (fun p e s m a0 below meth c Q FX hw hname hret ls hl => ?_)
  have hl : lv_has ls 1 [(0, .ref (G.2.2.2 (391 + i)))] := hl
  refine va_gets FX.1 FX.2.1 (ksf hw).2.2.2.2.1 hw.1.2 FX.2.2.2.1 (FX.2.2.2.2 _ q696) (fun _ h => h) dJ4_isLatin1_0 ?_
  refine lv_if_eq (tgt := 17) FX.1 FX.2.1 dJ4_isLatin1_3 (by decide) (fun h => absurd h (by decide)) (fun _ => ?_)
  refine lv_aload_n FX.1 FX.2.1 dJ4_isLatin1_6 rfl (lv_at hl 0 rfl) ?_
  refine vk_getf FX.1 FX.2.1 ((ksf hw).1.1 i hi).2.1 hw.1.2 FX.2.2.2.1 (FX.2.2.2.2 _ q2328) (fun _ h => h) dJ4_isLatin1_7 ?_
  refine lv_if_ne (tgt := 17) FX.1 FX.2.1 dJ4_isLatin1_10 (by decide) (fun h => absurd rfl h) (fun _ => ?_)
  refine lv_iconst (v := 1) FX.1 FX.2.1 dJ4_isLatin1_13 (by decide) ?_
  refine lv_goto (tgt := 18) FX.1 FX.2.1 dJ4_isLatin1_14 (by decide) ?_
  exact hret _ _ rfl rfl rfl hw dJ4_isLatin1_18
set_option maxHeartbeats 1000000 in
theorem wJ4_length {l : Launch} {G : GT} {S : ST} {i : Nat} (hi : i < 2) : CtI l yJ4_length (ws_ yJ4_length cJ4_length 1 (some .int)) rmJ4b G [.ref (G.2.2.2 (391 + i))] S (sLen i) S := by
  refine mkI (ty := .int) (by decide) (Nat.le_of_ble_eq_true rfl) (fun p e s m a0 below meth c Q FX hw hname hret ls hl => ?_)
  have hl : lv_has ls 1 [(0, .ref (G.2.2.2 (391 + i)))] := hl
  refine lv_aload_n FX.1 FX.2.1 dJ4_length_0 rfl (lv_at hl 0 rfl) ?_
  refine vk_getf FX.1 FX.2.1 ((ksf hw).1.1 i hi).2.2.1 hw.1.2 FX.2.2.2.1 (FX.2.2.2.2 _ q2327) (fun _ h => h) dJ4_length_1 ?_
  refine va_tlen FX.1 FX.2.1 ((ksf hw).1.1 i hi).2.2.2 hw.1.2 (v := sLen i) rfl dJ4_length_4 ?_
  refine lv_aload_n FX.1 FX.2.1 dJ4_length_5 rfl (lv_at hl 0 rfl) ?_
  refine st_i hi (As := []) (rest := [.int (sLen i)]) FX hw (wJ4_coder hi) (cwV 0 FX.2.2.2.2 (lw_V q692 q693 q694 q145 q695) rfl rfl rfl (by decide +kernel) ⟨Nat.le_of_ble_eq_true rfl, Nat.le_of_ble_eq_true rfl⟩) rfl hl.1 rfl (lv_room (Nat.le_of_ble_eq_true rfl)) dJ4_length_6 ⟨rfl, rfl⟩ ⟨Nat.zero_le _, Nat.zero_le _⟩ (fun H locs hw => ?_)
  refine lv_ishr FX.1 FX.2.1 dJ4_length_9 ?_
  have h0 : ∀ j, j < 2 → sLen j >>> ((0 : Int32) &&& 31) = sLen j := by decide +kernel
  exact hret _ _ rfl (h0 i hi) rfl hw dJ4_length_10
set_option maxHeartbeats 1000000 in
theorem wJ10_checkIndex {l : Launch} {G : GT} {S : ST} {k n : Int32} {f : Option Nat} (h0 : ¬ k < 0) (h1 : k < n) : CtI l yJ10_checkIndex (ws_ yJ10_checkIndex cJ10_checkIndex 3 (some .int)) rmJ4a G [.int k, .int n, va_rf f] S k S := by
  refine mkI (ty := .int) (by decide) (by cases f <;> exact Nat.le_of_ble_eq_true rfl) (fun p e s m a0 below meth c Q FX hw hname hret ls hl => ?_)
  have hl : lv_has ls 3 [(0, .int k), (1, .int n), (2, va_rf f)] := by cases f <;> exact hl
  refine lv_iload_n FX.1 FX.2.1 dJ10_checkIndex_0 rfl (lv_at hl 0 rfl) ?_
  refine lv_if_lt (tgt := 9) FX.1 FX.2.1 dJ10_checkIndex_1 (by decide) (fun h => absurd h h0) (fun _ => ?_)
  refine lv_iload_n FX.1 FX.2.1 dJ10_checkIndex_4 rfl (lv_at hl 0 rfl) ?_
  refine lv_iload_n FX.1 FX.2.1 dJ10_checkIndex_5 rfl (lv_at hl 1 rfl) ?_
  refine lv_icmp_lt (tgt := 16) FX.1 FX.2.1 dJ10_checkIndex_6 (by decide) (fun _ => ?_) (fun h => absurd h1 h)
  refine lv_iload_n FX.1 FX.2.1 dJ10_checkIndex_16 rfl (lv_at hl 0 rfl) ?_
  exact hret _ _ rfl rfl rfl hw dJ10_checkIndex_17
theorem zq_rf {C n d : String} {A : Nat → Prop} {U : State} {H : Heap} (h : va_Zq C n d A U H) : ∃ f : Option Nat, va_Z C n d (va_rf f) A U H := by
  rcases h with h | ⟨t, h⟩
  · exact ⟨none, h⟩
  · exact ⟨some t, h⟩
set_option maxHeartbeats 1000000 in
theorem wJ4_checkIndex {l : Launch} {G : GT} {S : ST} {k n : Int32} (h0 : ¬ k < 0) (h1 : k < n) : CtV l yJ4_checkIndex (ws_ yJ4_checkIndex cJ4_checkIndex 2 none) rmJ4b G [.int k, .int n] S S := by
  refine mkV (by decide) (Nat.le_of_ble_eq_true rfl) (fun p e s m a0 below meth c Q FX hw hname hret ls hl => ?_)
  have hl : lv_has ls 2 [(0, .int k), (1, .int n)] := hl
  refine lv_iload_n FX.1 FX.2.1 dJ4_checkIndex_0 rfl (lv_at hl 0 rfl) ?_
  refine lv_iload_n FX.1 FX.2.1 dJ4_checkIndex_1 rfl (lv_at hl 1 rfl) ?_
  obtain ⟨f, hf⟩ := zq_rf (ksf hw).2.2.2.2.2.1
  refine va_gets FX.1 FX.2.1 hf hw.1.2 FX.2.2.2.1 (FX.2.2.2.2 _ q712) (fun _ h => h) dJ4_checkIndex_2 ?_
  refine clS_i0 (As := [.int k, .int n, va_rf f]) (rest := []) FX hw (wJ10_checkIndex h0 h1) (va_cwS 3 FX.2.2.2.2 (lw_S q714 q715 q152 q716) rfl rfl rfl (by decide +kernel) ⟨Nat.le_of_ble_eq_true rfl, Nat.le_of_ble_eq_true rfl⟩) rfl hl.1 rfl (lv_room (Nat.le_of_ble_eq_true rfl)) dJ4_checkIndex_5 ⟨rfl, rfl⟩ ⟨Nat.zero_le _, Nat.zero_le _⟩ (fun H locs hw => ?_)
  refine lv_pop FX.1 FX.2.1 dJ4_checkIndex_8 rfl ?_
  exact hret _ rfl hw dJ4_checkIndex_9
set_option maxHeartbeats 1000000 in
theorem wJ9_charAt {l : Launch} {G : GT} {S : ST} {i : Nat} (hi : i < 2) {k v : Int32} (hv : sAt i k = some v) : CtI l yJ9_charAt (ws_ yJ9_charAt cJ9_charAt 2 (some .char)) rmJ4d G [.ref (G.2.2.2 (393 + i)), .int k] S v S := by
  obtain ⟨hin, rfl⟩ := sAt_some hv
  obtain ⟨h0, h1, h2⟩ := vs_lt hi hin
  obtain ⟨e1, e2⟩ := vs_ch i hi _ h2
  refine mkI (ty := .char) (by decide) (Nat.le_of_ble_eq_true rfl) (fun p e s m a0 below meth c Q FX hw hname hret ls hl => ?_)
  have hl : lv_has ls 2 [(0, .ref (G.2.2.2 (393 + i))), (1, .int k)] := hl
  refine lv_iload_n FX.1 FX.2.1 dJ9_charAt_0 rfl (lv_at hl 1 rfl) ?_
  refine lv_aload_n FX.1 FX.2.1 dJ9_charAt_1 rfl (lv_at hl 0 rfl) ?_
  refine va_tlen FX.1 FX.2.1 ((ksf hw).1.1 i hi).2.2.2 hw.1.2 (v := sLen i) rfl dJ9_charAt_2 ?_
  refine clS_v0 (As := [.int k, .int (sLen i)]) (rest := []) FX hw (wJ4_checkIndex h0 h1) (va_cwS 2 FX.2.2.2.2 (lw_S q709 q710 q145 q711) rfl rfl rfl (by decide +kernel) ⟨Nat.le_of_ble_eq_true rfl, Nat.le_of_ble_eq_true rfl⟩) rfl hl.1 rfl (lv_room (Nat.le_of_ble_eq_true rfl)) dJ9_charAt_3 ⟨rfl, rfl⟩ ⟨Nat.zero_le _, Nat.zero_le _⟩ (fun H locs hw => ?_)
  refine lv_aload_n FX.1 FX.2.1 dJ9_charAt_6 rfl (lv_at hl 0 rfl) ?_
  refine lv_iload_n FX.1 FX.2.1 dJ9_charAt_7 rfl (lv_at hl 1 rfl) ?_
  refine va_tb FX.1 FX.2.1 ((ksf hw).1.1 i hi).2.2.2 hw.1.2 hin (v := .int (vsC i k.toNatClampNeg)) rfl dJ9_charAt_8 ?_
  refine lv_sipush (v := 255) FX.1 FX.2.1 dJ9_charAt_9 (by decide) ?_
  refine lv_iand FX.1 FX.2.1 dJ9_charAt_12 ?_
  refine lv_i2c (v := vsC i k.toNatClampNeg) FX.1 FX.2.1 dJ9_charAt_13 e1 ?_
  exact hret _ _ (vs_nar e1 e2) rfl rfl hw dJ9_charAt_14
set_option maxHeartbeats 1000000 in
theorem wJ4_charAt {l : Launch} {G : GT} {S : ST} {i : Nat} (hi : i < 2) {k v : Int32} (hv : sAt i k = some v) : CtI l yJ4_charAt (ws_ yJ4_charAt cJ4_charAt 2 (some .char)) rmJ4e G [.ref (G.2.2.2 (391 + i)), .int k] S v S := by
  have hv' := hv
  obtain ⟨hin, rfl⟩ := sAt_some hv
  obtain ⟨h0, h1, h2⟩ := vs_lt hi hin
  obtain ⟨e1, e2⟩ := vs_ch i hi _ h2
  refine mkI (ty := .char) (by decide) (Nat.le_of_ble_eq_true rfl) (fun p e s m a0 below meth c Q FX hw hname hret ls hl => ?_)
  have hl : lv_has ls 2 [(0, .ref (G.2.2.2 (391 + i))), (1, .int k)] := hl
  refine lv_aload_n FX.1 FX.2.1 dJ4_charAt_0 rfl (lv_at hl 0 rfl) ?_
  refine st_i hi (As := []) (rest := []) FX hw (wJ4_isLatin1 hi) (cwV 0 FX.2.2.2.2 (lw_V q702 q703 q704 q145 q705) rfl rfl rfl (by decide +kernel) ⟨Nat.le_of_ble_eq_true rfl, Nat.le_of_ble_eq_true rfl⟩) rfl hl.1 rfl (lv_room (Nat.le_of_ble_eq_true rfl)) dJ4_charAt_1 ⟨rfl, rfl⟩ ⟨Nat.zero_le _, Nat.zero_le _⟩ (fun H locs hw => ?_)
  refine lv_if_eq (tgt := 16) FX.1 FX.2.1 dJ4_charAt_4 (by decide) (fun h => absurd h (by decide)) (fun _ => ?_)
  refine lv_aload_n FX.1 FX.2.1 dJ4_charAt_7 rfl (lv_at hl 0 rfl) ?_
  refine vk_getf FX.1 FX.2.1 ((ksf hw).1.1 i hi).2.2.1 hw.1.2 FX.2.2.2.1 (FX.2.2.2.2 _ q2327) (fun _ h => h) dJ4_charAt_8 ?_
  refine lv_iload_n FX.1 FX.2.1 dJ4_charAt_11 rfl (lv_at hl 1 rfl) ?_
  refine clS_i0 (As := [.ref (G.2.2.2 (393 + i)), .int k]) (rest := []) FX hw (wJ9_charAt hi hv') (va_cwS 2 FX.2.2.2.2 (lw_S q706 q707 q151 q708) rfl rfl rfl (by decide +kernel) ⟨Nat.le_of_ble_eq_true rfl, Nat.le_of_ble_eq_true rfl⟩) rfl hl.1 rfl (lv_room (Nat.le_of_ble_eq_true rfl)) dJ4_charAt_12 ⟨rfl, rfl⟩ ⟨Nat.zero_le _, Nat.zero_le _⟩ (fun H locs hw => ?_)
  exact hret _ _ (vs_nar e1 e2) rfl rfl hw dJ4_charAt_15
