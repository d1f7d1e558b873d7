/-! ROWS of the fixed cells -/
abbrev flds (ad : Nat → Nat) (F : FS) (o : Nat × Nat × Nat × Nat) : List Value := (List.range o.2.2.2).map (fun i => fval ad F (o.2.2.1 + i))
theorem fval_eq {ad : Nat → Nat} {F F' : FS} {q : Nat} (h1 : F'.1 q = F.1 q) (h2 : F'.2.1 q = F.2.1 q) (h3 : F'.2.2.1 q = F.2.2.1 q) : fval ad F' q = fval ad F q := by
  unfold fval; rw [h1, h2, h3]
theorem fobjs_apart : ∀ x ∈ fobjs, ∀ o ∈ fobjs, x ≠ o → x.2.2.1 + x.2.2.2 ≤ o.2.2.1 ∨ o.2.2.1 + o.2.2.2 ≤ x.2.2.1 := by decide
/-- a place of an object set: the places' functions agree elsewhere -/
theorem embF_set {ad : Nat → Nat} (hA : adOK ad) {F F' : FS} {o : Nat × Nat × Nat × Nat} (ho : o ∈ fobjs) {j : Nat} (hj : j < o.2.2.2) {v : Value} (hv : fval ad F' (o.2.2.1 + j) = v) (hn : ∀ q, q ≠ o.2.2.1 + j → F'.1 q = F.1 q ∧ F'.2.1 q = F.2.1 q ∧ F'.2.2.1 q = F.2.2.1 q) (ha : F'.2.2.2 = F.2.2.2) (b : Nat) : embF ad F' b = if b = ad o.1 then some (.inr (o.2.1, (flds ad F o).set j v)) else embF ad F b := by
  rw [embF_put_obj hA (F := F) (F' := F') ho (fun x hx hne => ?_) (fun x hx => ?_)]
  · have e : objE ad F' o = .inr (o.2.1, (flds ad F o).set j v) := by
      unfold objE flds
      rw [range_set]
      congr 2
      refine List.map_congr_left fun i hi => ?_
      by_cases h : i = j
      · subst h
        rw [if_pos rfl]
        exact hv
      · rw [if_neg h]
        have hq := hn (o.2.2.1 + i) (by omega)
        exact fval_eq hq.1 hq.2.1 hq.2.2
    rw [e]
  · unfold objE
    congr 2
    refine List.map_congr_left fun i hi => ?_
    have hi := List.mem_range.mp hi
    have hd := fobjs_apart x hx o ho hne
    have hq := hn (x.2.2.1 + i) (by omega)
    exact fval_eq hq.1 hq.2.1 hq.2.2
  · unfold arrE
    rw [ha]
/-- a place of an array set -/
theorem embF_seta {ad : Nat → Nat} (hA : adOK ad) {F F' : FS} {q : Nat × Nat × Nat} (hq : q ∈ farrs) (h1 : F'.1 = F.1) (h2 : F'.2.1 = F.2.1) (h3 : F'.2.2.1 = F.2.2.1) (hn : ∀ k, k ≠ q.1 → F'.2.2.2.1 k = F.2.2.2.1 k ∧ F'.2.2.2.2.1 k = F.2.2.2.2.1 k ∧ F'.2.2.2.2.2 k = F.2.2.2.2.2 k) (b : Nat) : embF ad F' b = if b = ad q.1 then some (arrE F' q) else embF ad F b := by
  refine embF_put_arr hA hq (fun x _ => ?_) (fun x hx hne => ?_) b
  · unfold objE
    congr 2
    refine List.map_congr_left fun i _ => ?_
    exact fval_eq (by rw [h1]) (by rw [h2]) (by rw [h3])
  · have hk : x.1 ≠ q.1 := fun e => hne (farrs_key q hq x hx e)
    have hx := hn x.1 hk
    unfold arrE
    rw [hx.1, hx.2.1, hx.2.2]
theorem up_ne {α : Type} {f : Nat → α} {k q : Nat} {v : α} (h : q ≠ k) : va_up f k v q = f q := by unfold va_up; rw [if_neg h]
theorem up_eq {α : Type} {f : Nat → α} {k : Nat} {v : α} : va_up f k v k = v := by unfold va_up; rw [if_pos rfl]
theorem cmb {α : Type} {f g : Nat → α} {k : Nat} {v : α} (hk : k < 100) : (fun j => if j < 100 then va_up f k v j else g j) = va_up (fun j => if j < 100 then f j else g j) k v := by
  funext j; unfold va_up
  by_cases h : j = k
  · subst h; simp [hk]
  · simp [h]
theorem cmc {α : Type} {f g : Nat → α} {k : Nat} {v : α} (hk : 100 ≤ k) : (fun j => if j < 100 then f j else va_up g k v j) = va_up (fun j => if j < 100 then f j else g j) k v := by
  funext j; unfold va_up
  by_cases h : j = k
  · subst h; simp [Nat.not_lt.mpr hk]
  · simp [h]
theorem comb_I {M C : FS} {k : Nat} {v : Int32} (hk : k < 100) : comb (sI M k v) C = sI (comb M C) k v := Prod.ext (cmb hk) rfl
theorem comb_L {M C : FS} {k : Nat} {v : Int64} (hk : k < 100) : comb (sL M k v) C = sL (comb M C) k v := Prod.ext rfl (Prod.ext (cmb hk) rfl)
theorem comc_I {M C : FS} {k : Nat} {v : Int32} (hk : 100 ≤ k) : comb M (sI C k v) = sI (comb M C) k v := Prod.ext (cmc hk) rfl
theorem comc_L {M C : FS} {k : Nat} {v : Int64} (hk : 100 ≤ k) : comb M (sL C k v) = sL (comb M C) k v := Prod.ext rfl (Prod.ext (cmc hk) rfl)
theorem comc_R {M C : FS} {k : Nat} {v : Option Nat} (hk : 100 ≤ k) : comb M (sR C k v) = sR (comb M C) k v := Prod.ext rfl (Prod.ext rfl (Prod.ext (cmc hk) rfl))
theorem cmb2 {α : Type} {f g : Nat → Nat → α} {k i : Nat} {v : α} (hk : k < 100) : (fun j => if j < 100 then va_up f k (va_up (f k) i v) j else g j) = va_up (fun j => if j < 100 then f j else g j) k (va_up (if k < 100 then f k else g k) i v) := by
  rw [if_pos hk]; exact cmb hk
theorem cmc2 {α : Type} {f g : Nat → Nat → α} {k i : Nat} {v : α} (hk : 100 ≤ k) : (fun j => if j < 100 then f j else va_up g k (va_up (g k) i v) j) = va_up (fun j => if j < 100 then f j else g j) k (va_up (if k < 100 then f k else g k) i v) := by
  rw [if_neg (Nat.not_lt.mpr hk)]; exact cmc hk
theorem comb_A {M C : FS} {k i : Nat} {v : Int32} (hk : k < 100) : comb (sA M k i v) C = sA (comb M C) k i v := Prod.ext rfl (Prod.ext rfl (Prod.ext rfl (Prod.ext (cmb2 hk) rfl)))
theorem comb_B {M C : FS} {k i : Nat} {v : Int64} (hk : k < 100) : comb (sB M k i v) C = sB (comb M C) k i v := Prod.ext rfl (Prod.ext rfl (Prod.ext rfl (Prod.ext rfl (Prod.ext (cmb2 hk) rfl))))
theorem comc_A {M C : FS} {k i : Nat} {v : Int32} (hk : 100 ≤ k) : comb M (sA C k i v) = sA (comb M C) k i v := Prod.ext rfl (Prod.ext rfl (Prod.ext rfl (Prod.ext (cmc2 hk) rfl)))
theorem comc_Q {M C : FS} {k i : Nat} {v : Option Nat} (hk : 100 ≤ k) : comb M (sQ C k i v) = sQ (comb M C) k i v := Prod.ext rfl (Prod.ext rfl (Prod.ext rfl (Prod.ext rfl (Prod.ext rfl (cmc2 hk)))))
theorem arrE_A {F : FS} {k i t n : Nat} {v : Int32} (ht : t < 3) : arrE (sA F k i v) (k, t, n) = .inl (t, n, .inl (va_up (F.2.2.2.1 k) i v)) := by
  unfold arrE
  rw [if_pos (by exact ht)]
  show (Sum.inl (t, n, .inl (va_up F.2.2.2.1 k (va_up (F.2.2.2.1 k) i v) k)) : va_E) = _
  rw [up_eq]
theorem arrE_B {F : FS} {k i n : Nat} {v : Int64} : arrE (sB F k i v) (k, 3, n) = .inl (3, n, .inr (.inl (va_up (F.2.2.2.2.1 k) i v))) := by
  show (Sum.inl (3, n, .inr (.inl (va_up F.2.2.2.2.1 k (va_up (F.2.2.2.2.1 k) i v) k))) : va_E) = _
  rw [up_eq]
theorem arrE_Q {F : FS} {k i t n : Nat} {v : Option Nat} (ht : 3 < t) : arrE (sQ F k i v) (k, t, n) = .inl (t, n, .inr (.inr (.inr (.inr (va_up (F.2.2.2.2.2 k) i v))))) := by
  unfold arrE
  rw [if_neg (by show ¬ t < 3; omega), if_neg (by show ¬ t = 3; omega)]
  show (Sum.inl (t, n, .inr (.inr (.inr (.inr (va_up F.2.2.2.2.2 k (va_up (F.2.2.2.2.2 k) i v) k))))) : va_E) = _
  rw [up_eq]
theorem embF_A {ad : Nat → Nat} (hA : adOK ad) {F : FS} {k t n i : Nat} {v : Int32} (hq : (k, t, n) ∈ farrs) (ht : t < 3) (b : Nat) : embF ad (sA F k i v) b = if b = ad k then some (.inl (t, n, .inl (va_up (F.2.2.2.1 k) i v))) else embF ad F b := by
  rw [embF_seta hA hq (F := F) (F' := sA F k i v) rfl rfl rfl (fun z hz => ⟨up_ne hz, rfl, rfl⟩), arrE_A ht]
theorem embF_B {ad : Nat → Nat} (hA : adOK ad) {F : FS} {k n i : Nat} {v : Int64} (hq : (k, 3, n) ∈ farrs) (b : Nat) : embF ad (sB F k i v) b = if b = ad k then some (.inl (3, n, .inr (.inl (va_up (F.2.2.2.2.1 k) i v)))) else embF ad F b := by
  rw [embF_seta hA hq (F := F) (F' := sB F k i v) rfl rfl rfl (fun z hz => ⟨rfl, up_ne hz, rfl⟩), arrE_B]
theorem embF_Q {ad : Nat → Nat} (hA : adOK ad) {F : FS} {k t n i : Nat} {v : Option Nat} (hq : (k, t, n) ∈ farrs) (ht : 3 < t) (b : Nat) : embF ad (sQ F k i v) b = if b = ad k then some (.inl (t, n, .inr (.inr (.inr (.inr (va_up (F.2.2.2.2.2 k) i v)))))) else embF ad F b := by
  rw [embF_seta hA hq (F := F) (F' := sQ F k i v) rfl rfl rfl (fun z hz => ⟨rfl, rfl, up_ne hz⟩), arrE_Q ht]
theorem fits_int (v : Int32) : fits .int (.int v) = true := rfl
theorem fits_long (v : Int64) : fits .long (.long v) = true := rfl
theorem bool_nar {v : Int32} (h : v = 0 ∨ v = 1) : narrow .boolean (.int v) = .int v := by rcases h with rfl | rfl <;> rfl
theorem bool_fit {v : Int32} (h : v = 0 ∨ v = 1) : fits .boolean (.int v) = true := by rcases h with rfl | rfl <;> rfl
section B5
variable {p : Program} {l : Launch} {e : Env} {R : Room} {s : State} {m : MethodId} {args : Array Value} {below : List Frame} {meth : Method} {c : Code} {H : Heap} {locs : List Loc} {cells slots : Nat} {Q : State → Prop}
variable {cc : ByteArray} {nL : Nat} {own : String} {pc : Nat} {ls : Array Slot} {rest : List Value} {G : GT} {S S' : ST} {a : Nat} {ref C host : String} {T : u_T} {N index : Nat} {v : Value} {o : Nat × Nat × Nat × Nat} {j : Nat}
theorem flds_at {ad : Nat → Nat} {F : FS} (hj : j < o.2.2.2) : (flds ad F o)[j]? = some (fval ad F (o.2.2.1 + j)) := by simp [flds, hj]
theorem fx_obj (hw : WS G S s H locs) (ho : o ∈ fobjs) : emb G.2.2.2 S (G.2.2.2 o.1) = some (.inr (o.2.1, flds G.2.2.2 (comb S.1 S.2.1) o)) := emb_fix (embF_obj hw.2.1 _ ho)
theorem fx_get (FX : CallFix p m c cc nL s args lw_all own) (hw : WS G S s H locs) (ho : o ∈ fobjs) (hin : ∀ w ∈ u_ws C T N, w ∈ lw_all) (hc : vwCl[o.2.1]? = some (C, T, N)) (hN : N = o.2.2.2) (j : Nat) (hj : j < N) (hlink : (Cond.fieldLink own index ref (T j).2.1 (T j).2.2.1).before args s = true) (hsame : ∀ x, s.fieldFound? (T j).1 (T j).2.1 (T j).2.2.1 = some x → s.fieldFound? ref (T j).2.1 (T j).2.2.1 = some x) (hv : fval G.2.2.2 (comb S.1 S.2.1) (o.2.2.1 + j) = v) (d : decode cc pc = .ok (.getfield index, 3))
    (kk : W p l e R s m args below meth c H locs cells slots Q (F0 m (pc + 3) ls (v :: rest))) : W p l e R s m args below meth c H locs cells slots Q (F0 m pc ls (.ref (G.2.2.2 o.1) :: rest)) :=
  ar_get FX hw.1 hin (fx_obj hw ho) hc j hj hlink hsame (by rw [← hv]; exact flds_at (by omega)) d kk
theorem fx_getN (FX : CallFix p m c cc nL s args lw_all own) (hw : WS G S s H locs) (ho : o ∈ fobjs) (hin : ∀ w ∈ u_ws C T N, w ∈ lw_all) (hc : vwCl[o.2.1]? = some (C, T, N)) (hN : N = o.2.2.2) (j : Nat) (hj : j < N) (hq : (own, index, ref, (T j).2.1, (T j).2.2.1, host) ∈ nwF) (hsame : ∀ x, s.fieldFound? (T j).1 (T j).2.1 (T j).2.2.1 = some x → s.fieldFound? ref (T j).2.1 (T j).2.2.1 = some x) (hv : fval G.2.2.2 (comb S.1 S.2.1) (o.2.2.1 + j) = v) (d : decode cc pc = .ok (.getfield index, 3))
    (kk : W p l e R s m args below meth c H locs cells slots Q (F0 m (pc + 3) ls (v :: rest))) : W p l e R s m args below meth c H locs cells slots Q (F0 m pc ls (.ref (G.2.2.2 o.1) :: rest)) :=
  ar_getN FX hw.1 hin (fx_obj hw ho) hc j hj hq hsame (by rw [← hv]; exact flds_at (by omega)) d kk
/-- what a field's store leaves -/
def fx_to (ad : Nat → Nat) (S S' : ST) (k : Nat) (v : Value) : Prop := S'.2.2 = S.2.2 ∧ fval ad (comb S'.1 S'.2.1) k = v ∧ (∀ q, q ≠ k → (comb S'.1 S'.2.1).1 q = (comb S.1 S.2.1).1 q ∧ (comb S'.1 S'.2.1).2.1 q = (comb S.1 S.2.1).2.1 q ∧ (comb S'.1 S'.2.1).2.2.1 q = (comb S.1 S.2.1).2.2.1 q) ∧ (comb S'.1 S'.2.1).2.2.2 = (comb S.1 S.2.1).2.2.2
theorem fx_I {ad : Nat → Nat} {k : Nat} {v : Int32} (hk : kd k = 0) (h1 : S'.2.2 = S.2.2) (h2 : comb S'.1 S'.2.1 = sI (comb S.1 S.2.1) k v) : fx_to ad S S' k (.int v) := by
  refine ⟨h1, ?_, fun q hq => ?_, ?_⟩
  · rw [h2]; unfold fval; rw [if_pos hk]; exact congrArg _ up_eq
  · rw [h2]; exact ⟨up_ne hq, rfl, rfl⟩
  · rw [h2]; rfl
theorem fx_L {ad : Nat → Nat} {k : Nat} {v : Int64} (hk : kd k = 1) (h1 : S'.2.2 = S.2.2) (h2 : comb S'.1 S'.2.1 = sL (comb S.1 S.2.1) k v) : fx_to ad S S' k (.long v) := by
  refine ⟨h1, ?_, fun q hq => ?_, ?_⟩
  · rw [h2]; unfold fval; rw [if_neg (by rw [hk]; decide), if_pos hk]; exact congrArg _ up_eq
  · rw [h2]; exact ⟨rfl, up_ne hq, rfl⟩
  · rw [h2]; rfl
theorem fx_R {ad : Nat → Nat} {k : Nat} {v : Option Nat} (hk : kd k = 2) (h1 : S'.2.2 = S.2.2) (h2 : comb S'.1 S'.2.1 = sR (comb S.1 S.2.1) k v) : fx_to ad S S' k (va_rf v) := by
  refine ⟨h1, ?_, fun q hq => ?_, ?_⟩
  · rw [h2]; unfold fval; rw [if_neg (by rw [hk]; decide), if_neg (by rw [hk]; decide), if_pos hk]; exact congrArg _ up_eq
  · rw [h2]; exact ⟨rfl, rfl, up_ne hq⟩
  · rw [h2]; rfl
theorem fx_put (FX : CallFix p m c cc nL s args lw_all own) (hw : WS G S s H locs) (ho : o ∈ fobjs) (hin : ∀ w ∈ u_ws C T N, w ∈ lw_all) (ty0 : Nat → FieldType) (hty : ∀ k, k < N → parseFieldDescriptor (T k).2.2.1 = some (ty0 k)) (hnm : ∀ a, a < N → ∀ b, b < N → a ≠ b → (T a).2.1 ≠ (T b).2.1) (hc : vwCl[o.2.1]? = some (C, T, N)) (hN : N = o.2.2.2) (j : Nat) (hj : j < N) (hlink : (Cond.fieldLink own index ref (T j).2.1 (T j).2.2.1).before args s = true) (hsame : ∀ x, s.fieldFound? (T j).1 (T j).2.1 (T j).2.2.1 = some x → s.fieldFound? ref (T j).2.1 (T j).2.2.1 = some x) (hfin : (T j).2.2.2 = false) (hn : narrow (ty0 j) v = v) (hfit : fits (ty0 j) v = true) (hto : fx_to G.2.2.2 S S' (o.2.2.1 + j) v) (d : decode cc pc = .ok (.putfield index, 3))
    (kk : ∀ (H1 : Heap) (locs1 : List Loc), WS G S' s H1 locs1 → W p l e R s m args below meth c H1 locs1 cells slots Q (F0 m (pc + 3) ls rest)) : W p l e R s m args below meth c H locs cells slots Q (F0 m pc ls (v :: .ref (G.2.2.2 o.1) :: rest)) :=
  ar_put FX hw.1 hin ty0 hty hnm (fx_obj hw ho) hc j hj hlink hsame hfin hn hfit (by simp [flds]; omega) d (fun H1 locs1 h1 => kk H1 locs1 (WS.fix hw.2 hto.1 (embF_set hw.2.1 ho (by omega) hto.2.1 hto.2.2.1 hto.2.2.2) h1))
theorem fx_putN (FX : CallFix p m c cc nL s args lw_all own) (hw : WS G S s H locs) (ho : o ∈ fobjs) (hin : ∀ w ∈ u_ws C T N, w ∈ lw_all) (ty0 : Nat → FieldType) (hty : ∀ k, k < N → parseFieldDescriptor (T k).2.2.1 = some (ty0 k)) (hnm : ∀ a, a < N → ∀ b, b < N → a ≠ b → (T a).2.1 ≠ (T b).2.1) (hc : vwCl[o.2.1]? = some (C, T, N)) (hN : N = o.2.2.2) (j : Nat) (hj : j < N) (hq : (own, index, ref, (T j).2.1, (T j).2.2.1, host) ∈ nwF) (hsame : ∀ x, s.fieldFound? (T j).1 (T j).2.1 (T j).2.2.1 = some x → s.fieldFound? ref (T j).2.1 (T j).2.2.1 = some x) (hfin : (T j).2.2.2 = false) (hn : narrow (ty0 j) v = v) (hfit : fits (ty0 j) v = true) (hto : fx_to G.2.2.2 S S' (o.2.2.1 + j) v) (d : decode cc pc = .ok (.putfield index, 3))
    (kk : ∀ (H1 : Heap) (locs1 : List Loc), WS G S' s H1 locs1 → W p l e R s m args below meth c H1 locs1 cells slots Q (F0 m (pc + 3) ls rest)) : W p l e R s m args below meth c H locs cells slots Q (F0 m pc ls (v :: .ref (G.2.2.2 o.1) :: rest)) :=
  ar_putN FX hw.1 hin ty0 hty hnm (fx_obj hw ho) hc j hj hq hsame hfin hn hfit (by simp [flds]; omega) d (fun H1 locs1 h1 => kk H1 locs1 (WS.fix hw.2 hto.1 (embF_set hw.2.1 ho (by omega) hto.2.1 hto.2.2.1 hto.2.2.2) h1))
/-! arrays of the fixed cells: q = (key, kind, length) -/
variable {q : Nat × Nat × Nat}
theorem fx_arr (hw : WS G S s H locs) (hq : q ∈ farrs) : emb G.2.2.2 S (G.2.2.2 q.1) = some (arrE (comb S.1 S.2.1) q) := emb_fix (embF_arr hw.2.1 _ hq)
theorem fx_ald {k n : Nat} {x : Int32} (FX : CallFix p m c cc nL s args lw_all own) (hw : WS G S s H locs) (hq : (k, 2, n) ∈ farrs) {i : Int32} (hi : vp_in i n) (hx : (comb S.1 S.2.1).2.2.2.1 k i.toNatClampNeg = x) (d : decode cc pc = .ok (.iaload, 1))
    (kk : W p l e R s m args below meth c H locs cells slots Q (F0 m (pc + 1) ls (.int x :: rest))) : W p l e R s m args below meth c H locs cells slots Q (F0 m pc ls (.int i :: .ref (G.2.2.2 k) :: rest)) := by
  subst hx; exact ar_ald FX hw.1 (fx_arr hw hq) hi d kk
theorem fx_bald {k n : Nat} {x : Int32} (FX : CallFix p m c cc nL s args lw_all own) (hw : WS G S s H locs) (hq : (k, 0, n) ∈ farrs) {i : Int32} (hi : vp_in i n) (hx : (comb S.1 S.2.1).2.2.2.1 k i.toNatClampNeg = x) (d : decode cc pc = .ok (.baload, 1))
    (kk : W p l e R s m args below meth c H locs cells slots Q (F0 m (pc + 1) ls (.int x :: rest))) : W p l e R s m args below meth c H locs cells slots Q (F0 m pc ls (.int i :: .ref (G.2.2.2 k) :: rest)) := by
  subst hx; exact ar_bald FX hw.1 (fx_arr hw hq) hi d kk
theorem fx_lald {k n : Nat} {x : Int64} (FX : CallFix p m c cc nL s args lw_all own) (hw : WS G S s H locs) (hq : (k, 3, n) ∈ farrs) {i : Int32} (hi : vp_in i n) (hx : (comb S.1 S.2.1).2.2.2.2.1 k i.toNatClampNeg = x) (d : decode cc pc = .ok (.laload, 1))
    (kk : W p l e R s m args below meth c H locs cells slots Q (F0 m (pc + 1) ls (.long x :: rest))) : W p l e R s m args below meth c H locs cells slots Q (F0 m pc ls (.int i :: .ref (G.2.2.2 k) :: rest)) := by
  subst hx; exact ar_lald FX hw.1 (fx_arr hw hq) hi d kk
theorem fx_qald {k n t : Nat} {CC : String} {x : Option Nat} (FX : CallFix p m c cc nL s args lw_all own) (hw : WS G S s H locs) (hq : (k, t, n) ∈ farrs) (ht3 : 3 < t) (ht : (tyl G.2.1)[t]? = some (G.2.1 t, .object CC)) {i : Int32} (hi : vp_in i n) (hx : (comb S.1 S.2.1).2.2.2.2.2 k i.toNatClampNeg = x) (d : decode cc pc = .ok (.aaload, 1))
    (kk : W p l e R s m args below meth c H locs cells slots Q (F0 m (pc + 1) ls (va_rf x :: rest))) : W p l e R s m args below meth c H locs cells slots Q (F0 m pc ls (.int i :: .ref (G.2.2.2 k) :: rest)) := by
  subst hx
  refine ar_qald FX hw.1 (n := n) (t := t) (f := (comb S.1 S.2.1).2.2.2.2.2 k) ((fx_arr hw hq).trans ?_) ht hi d kk
  unfold arrE
  rw [if_neg (by show ¬ t < 3; omega), if_neg (by show ¬ t = 3; omega)]
theorem fx_ast {k n : Nat} {x : Int32} (FX : CallFix p m c cc nL s args lw_all own) (hw : WS G S s H locs) (hq : (k, 2, n) ∈ farrs) {i : Int32} (hi : vp_in i n) (h1 : S'.2.2 = S.2.2) (h2 : comb S'.1 S'.2.1 = sA (comb S.1 S.2.1) k i.toNatClampNeg x) (d : decode cc pc = .ok (.iastore, 1))
    (kk : ∀ (H1 : Heap) (locs1 : List Loc), WS G S' s H1 locs1 → W p l e R s m args below meth c H1 locs1 cells slots Q (F0 m (pc + 1) ls rest)) : W p l e R s m args below meth c H locs cells slots Q (F0 m pc ls (.int x :: .int i :: .ref (G.2.2.2 k) :: rest)) := by
  refine ar_ast FX hw.1 (fx_arr hw hq) hi d (fun H1 locs1 h => kk H1 locs1 (WS.fix hw.2 h1 (fun b => ?_) h))
  rw [h2]
  exact embF_A hw.2.1 hq (by decide) b
theorem fx_bast {k n : Nat} {x : Int32} (FX : CallFix p m c cc nL s args lw_all own) (hw : WS G S s H locs) (hq : (k, 0, n) ∈ farrs) {i : Int32} (hi : vp_in i n) (h1 : S'.2.2 = S.2.2) (h2 : comb S'.1 S'.2.1 = sA (comb S.1 S.2.1) k i.toNatClampNeg x.toInt8.toInt32) (d : decode cc pc = .ok (.bastore, 1))
    (kk : ∀ (H1 : Heap) (locs1 : List Loc), WS G S' s H1 locs1 → W p l e R s m args below meth c H1 locs1 cells slots Q (F0 m (pc + 1) ls rest)) : W p l e R s m args below meth c H locs cells slots Q (F0 m pc ls (.int x :: .int i :: .ref (G.2.2.2 k) :: rest)) := by
  refine ar_bast FX hw.1 (fx_arr hw hq) hi d (fun H1 locs1 h => kk H1 locs1 (WS.fix hw.2 h1 (fun b => ?_) h))
  rw [h2]
  exact embF_A hw.2.1 hq (by decide) b
theorem fx_last {k n : Nat} {x : Int64} (FX : CallFix p m c cc nL s args lw_all own) (hw : WS G S s H locs) (hq : (k, 3, n) ∈ farrs) {i : Int32} (hi : vp_in i n) (h1 : S'.2.2 = S.2.2) (h2 : comb S'.1 S'.2.1 = sB (comb S.1 S.2.1) k i.toNatClampNeg x) (d : decode cc pc = .ok (.lastore, 1))
    (kk : ∀ (H1 : Heap) (locs1 : List Loc), WS G S' s H1 locs1 → W p l e R s m args below meth c H1 locs1 cells slots Q (F0 m (pc + 1) ls rest)) : W p l e R s m args below meth c H locs cells slots Q (F0 m pc ls (.long x :: .int i :: .ref (G.2.2.2 k) :: rest)) := by
  refine ar_last FX hw.1 (fx_arr hw hq) hi d (fun H1 locs1 h => kk H1 locs1 (WS.fix hw.2 h1 (fun b => ?_) h))
  rw [h2]
  exact embF_B hw.2.1 hq b
theorem fx_qast {k n t v ci N : Nat} {CC : String} {TT : u_T} {vs : List Value} (FX : CallFix p m c cc nL s args lw_all own) (hw : WS G S s H locs) (hq : (k, t, n) ∈ farrs) (ht3 : 3 < t) (ht : (tyl G.2.1)[t]? = some (G.2.1 t, .object CC)) (hv : emb G.2.2.2 S v = some (.inr (ci, vs))) (hc : vwCl[ci]? = some (CC, TT, N)) {i : Int32} (hi : vp_in i n) (h1 : S'.2.2 = S.2.2) (h2 : comb S'.1 S'.2.1 = sQ (comb S.1 S.2.1) k i.toNatClampNeg (some v)) (d : decode cc pc = .ok (.aastore, 1))
    (kk : ∀ (H1 : Heap) (locs1 : List Loc), WS G S' s H1 locs1 → W p l e R s m args below meth c H1 locs1 cells slots Q (F0 m (pc + 1) ls rest)) : W p l e R s m args below meth c H locs cells slots Q (F0 m pc ls (.ref v :: .int i :: .ref (G.2.2.2 k) :: rest)) := by
  have he : emb G.2.2.2 S (G.2.2.2 k) = some (.inl (t, n, .inr (.inr (.inr (.inr ((comb S.1 S.2.1).2.2.2.2.2 k)))))) := by
    refine (fx_arr hw hq).trans ?_
    unfold arrE
    rw [if_neg (by show ¬ t < 3; omega), if_neg (by show ¬ t = 3; omega)]
  refine ar_qast FX hw.1 he ht hv hc hi d (fun H1 locs1 h => kk H1 locs1 (WS.fix hw.2 h1 (fun b => ?_) h))
  rw [h2]
  exact embF_Q hw.2.1 hq ht3 b
end B5
