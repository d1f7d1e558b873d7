/-! THE WORLD AS A MAP: every cell of the law's own by its address; rows of the kit over it. vwCl: the classes by number -/
abbrev AH : Type := Nat → Option va_E
def mset (h : AH) (a : Nat) (e : va_E) : AH := fun b => if b = a then some e else h b
/-- an entry, its array class's number read by the run -/
def rz (tc : Nat → ClassId) (e : va_E) : va_E := match e with
  | .inl x => .inl (tc x.1, x.2)
  | .inr o => .inr o
abbrev vwCl : List vw_C := [(RX0, TX0, 31), (RX2, TX2, 17), (RX3, TX3, 8), (RX4, TX4, 11), (RX5, TX5, 2), (RX6, TX6, 50), (RX7, TX7, 9), (RX9, TX9, 2), (RX10, TX10, 2), (RX11, TX11, 2), (RX12, TX12, 2), (RX13, TX13, 7), (RX14, TX14, 3)]
abbrev tyl (tc : Nat → ClassId) : List (ClassId × FieldType) := [(tc 0, .byte), (tc 1, .short), (tc 2, .int), (tc 3, .long), (tc 4, .object "CableDrawer$Crossing"), (tc 5, .object "CableDrawer$Lead"), (tc 6, .object "CableDrawer$Step"), (tc 7, .object "CableDrawer$Kept"), (tc 8, .object "CableDrawer$Tray")]
/-- what stays through a run: the classes' numbers and slots; array classes; the first address of the law's own cells; the fixed cells' addresses -/
abbrev GT : Type := va_G × (Nat → ClassId) × Nat × (Nat → Nat)
def nwF : List (String × Nat × String × String × String × String) := [("CableDrawer", 137, "CableDrawer$Tray", "row", "Ljava/lang/Object;", "CableDrawer"), ("CableDrawer", 141, "CableDrawer$Tray", "sort", "I", "CableDrawer"), ("CableDrawer", 152, "CableDrawer$Drawer", "leadMany", "I", "CableDrawer"), ("CableDrawer", 155, "CableDrawer$Drawer", "lookMany", "I", "CableDrawer"), ("CableDrawer", 165, "CableDrawer$Lead", "gone", "Z", "CableDrawer"), ("CableDrawer", 171, "CableDrawer$Reader", "taped", "I", "CableDrawer"), ("CableDrawer", 182, "CableDrawer$Wrong", "kind", "I", "CableDrawer"), ("CableDrawer", 185, "CableDrawer$Wrong", "place", "I", "CableDrawer"), ("CableDrawer", 210, "CableDrawer$Reader", "stepMany", "I", "CableDrawer"), ("CableDrawer", 211, "CableDrawer$Reader", "counted", "I", "CableDrawer"), ("CableDrawer", 214, "CableDrawer$Lead", "clip", "Z", "CableDrawer"), ("CableDrawer", 217, "CableDrawer$Drawer", "many", "I", "CableDrawer"), ("CableDrawer", 227, "CableDrawer$Drawer", "seconds", "I", "CableDrawer"), ("CableDrawer", 230, "CableDrawer$Drawer", "pence", "I", "CableDrawer"), ("CableDrawer", 233, "CableDrawer$Drawer", "openings", "I", "CableDrawer"), ("CableDrawer", 236, "CableDrawer$Lead", "length", "I", "CableDrawer"), ("CableDrawer", 239, "CableDrawer$Lead", "stiff", "I", "CableDrawer"), ("CableDrawer", 242, "CableDrawer$Lead", "one", "I", "CableDrawer"), ("CableDrawer", 245, "CableDrawer$Lead", "two", "I", "CableDrawer"), ("CableDrawer", 248, "CableDrawer$Lead", "costs", "I", "CableDrawer"), ("CableDrawer", 251, "CableDrawer$Lead", "used", "I", "CableDrawer"), ("CableDrawer", 436, "CableDrawer$Step", "one", "I", "CableDrawer"), ("CableDrawer", 440, "CableDrawer$Step", "rounds", "I", "CableDrawer"), ("CableDrawer", 443, "CableDrawer$Step", "test", "I", "CableDrawer"), ("CableDrawer", 446, "CableDrawer$Step", "compares", "I", "CableDrawer"), ("CableDrawer", 449, "CableDrawer$Step", "two", "I", "CableDrawer"), ("CableDrawer", 450, "CableDrawer$Step", "to", "I", "CableDrawer"), ("CableDrawer$Drawer", 70, "CableDrawer$Lead", "gone", "Z", "CableDrawer"), ("CableDrawer$Drawer", 99, "CableDrawer$Lead", "stiff", "I", "CableDrawer"), ("CableDrawer$Drawer", 145, "CableDrawer$Lead", "costs", "I", "CableDrawer"), ("CableDrawer$Drawer", 151, "CableDrawer$Lead", "clip", "Z", "CableDrawer"), ("CableDrawer$Reader", 70, "CableDrawer$Drawer", "leadMany", "I", "CableDrawer"), ("CableDrawer$Reader", 73, "CableDrawer$Drawer", "many", "I", "CableDrawer"), ("CableDrawer$Reader", 76, "CableDrawer$Drawer", "lookMany", "I", "CableDrawer"), ("CableDrawer$Reader", 111, "CableDrawer$Lead", "length", "I", "CableDrawer"), ("CableDrawer$Reader", 118, "CableDrawer$Lead", "stiff", "I", "CableDrawer"), ("CableDrawer$Reader", 121, "CableDrawer$Lead", "one", "I", "CableDrawer"), ("CableDrawer$Reader", 124, "CableDrawer$Lead", "two", "I", "CableDrawer"), ("CableDrawer$Reader", 127, "CableDrawer$Lead", "costs", "I", "CableDrawer"), ("CableDrawer$Reader", 130, "CableDrawer$Lead", "used", "I", "CableDrawer"), ("CableDrawer$Reader", 133, "CableDrawer$Lead", "clip", "Z", "CableDrawer"), ("CableDrawer$Reader", 176, "CableDrawer$Step", "test", "I", "CableDrawer"), ("CableDrawer$Reader", 179, "CableDrawer$Step", "one", "I", "CableDrawer"), ("CableDrawer$Reader", 183, "CableDrawer$Step", "compares", "I", "CableDrawer"), ("CableDrawer$Reader", 186, "CableDrawer$Step", "two", "I", "CableDrawer"), ("CableDrawer$Reader", 192, "CableDrawer$Step", "to", "I", "CableDrawer")]
def nwD : List MethodName := [⟨"CableDrawer$Crossing", "state", "()I"⟩, ⟨"CableDrawer$Crossing", "seconds", "()I"⟩, ⟨"CableDrawer$Crossing", "loosened", "()I"⟩, ⟨"CableDrawer$Crossing", "pulled", "()I"⟩]
def nwC : List (String × String) := [("CableDrawer$Loose", "CableDrawer$Crossing"), ("CableDrawer$Threaded", "CableDrawer$Crossing"), ("CableDrawer$Tight", "CableDrawer$Crossing"), ("CableDrawer$Knotted", "CableDrawer$Crossing"), ("java/lang/NegativeArraySizeException", "java/lang/NegativeArraySizeException"), ("java/lang/NullPointerException", "java/lang/NullPointerException"), ("java/lang/ArrayIndexOutOfBoundsException", "java/lang/ArrayIndexOutOfBoundsException"), ("java/lang/ArrayIndexOutOfBoundsException", "java/lang/IndexOutOfBoundsException"), ("CableDrawer$Wrong", "CableDrawer$Wrong")]
def nwA : List String := ["CableDrawer$Crossing", "CableDrawer$Lead", "CableDrawer$Step", "CableDrawer$Kept", "CableDrawer$Tray"]
abbrev nwM : Cond := .methodLinkNest "CableDrawer" 90 ⟨"CableDrawer$Tray", "<init>", "()V"⟩ "CableDrawer"
/-- the String constants: all the words; the signs -/
def vsT : String := " lead cross look long stiff ends costs used threaded tight knot from open take loosen pull cut clip when loop stop end lump free "
def vsB : List (List Int32) := [[32, 108, 101, 97, 100, 32, 99, 114, 111, 115, 115, 32, 108, 111, 111, 107, 32, 108, 111, 110, 103, 32, 115, 116, 105, 102, 102, 32, 101, 110, 100, 115, 32, 99, 111, 115, 116, 115, 32, 117, 115, 101, 100, 32, 116, 104, 114, 101, 97, 100, 101, 100, 32, 116, 105, 103, 104, 116, 32, 107, 110, 111, 116, 32, 102, 114, 111, 109, 32, 111, 112, 101, 110, 32, 116, 97, 107, 101, 32, 108, 111, 111, 115, 101, 110, 32, 112, 117, 108, 108, 32, 99, 117, 116, 32, 99, 108, 105, 112, 32, 119, 104, 101, 110, 32, 108, 111, 111, 112, 32, 115, 116, 111, 112, 32, 101, 110, 100, 32, 108, 117, 109, 112, 32, 102, 114, 101, 101, 32], [59, 60, 61, 62]]
def vsL : List Nat := [129, 4]
def nwN : List (String × String) := [("java/lang/ArrayIndexOutOfBoundsException", "java/lang/NullPointerException")]
def nwS : List MethodName := [⟨"CableDrawer$Scan", "at", "(I)I"⟩, ⟨"CableDrawer$Scan", "isSign", "(I)Z"⟩, ⟨"CableDrawer$Scan", "isWord", "(Ljava/lang/String;II)Z"⟩]
/-- what holds of the cells that aren't the law's own -/
def SF (G : GT) (U : State) : Prop := vk_S 2 vsL vsB (fun i => G.2.2.2 (391 + i)) (fun i => G.2.2.2 (393 + i)) (fun q => G.2.2.1 ≤ q) U U.heap ∧ vk_R "CableDrawer$Scan" 94 vsT (G.2.2.2 391) U ∧ vk_R "CableDrawer$Reader" 3 vsT (G.2.2.2 391) U ∧ vk_R "CableDrawer$Reader" 5 ";<>=" (G.2.2.2 392) U ∧ va_Z "java/lang/String" "COMPACT_STRINGS" "Z" (.int 1) (fun q => G.2.2.1 ≤ q) U U.heap ∧ va_Zq "jdk/internal/util/Preconditions" "SIOOBE_FORMATTER" "Ljava/util/function/BiFunction;" (fun q => G.2.2.1 ≤ q) U U.heap ∧ vy_Zq Bundle.tN "UNASSIGNED_STACK" Bundle.steD (fun q => G.2.2.1 ≤ q) U U.heap ∧ vy_Zq Bundle.tN "SUPPRESSED_SENTINEL" Bundle.listD (fun q => G.2.2.1 ≤ q) U U.heap ∧ (∀ q ∈ nwN, va_Nc q.1 q.2 U) ∧ ∀ y ∈ nwS, (Cond.selects "CableDrawer$Reader" y y).before #[] U = true
theorem SF.warm {G : GT} {s U : State} {locs : List Loc} (hW : s.WarmedH U.vm) (hS : va_S (fun q => G.2.2.1 ≤ q) s.heap U.heap locs) (h : SF G s) : SF G U :=
  ⟨vk_S.moved hW.alike (h.1.kept hS.2.1), vk_R.warm hW h.2.1, vk_R.warm hW h.2.2.1, vk_R.warm hW h.2.2.2.1, va_Z.moved hW.alike (h.2.2.2.2.1.kept hS.2.1), va_Zq.moved hW.alike (h.2.2.2.2.2.1.kept hS.2.1), vy_Zq.moved hW.alike (h.2.2.2.2.2.2.1.kept hS.2.1), vy_Zq.moved hW.alike (h.2.2.2.2.2.2.2.1.kept hS.2.1), fun q hq => va_Nc.moved hW.alike (h.2.2.2.2.2.2.2.2.1 q hq), fun y hy => word_at hW (Or.inl (by first | rfl | simp [Cond.onTables, Cond.keeps, Cond.steady])) (h.2.2.2.2.2.2.2.2.2 y hy)⟩
theorem SF.same {G : GT} {u U : State} (hv : u.vm = U.vm) (hh : U.heap = u.heap) (h : SF G u) : SF G U := by
  have hA : u.vm.Alike U.vm := by rw [hv]; exact Vm.Alike.refl _
  unfold SF
  rw [hh]
  exact ⟨vk_S.moved hA h.1, vk_R.same hv.symm h.2.1, vk_R.same hv.symm h.2.2.1, vk_R.same hv.symm h.2.2.2.1, va_Z.moved hA h.2.2.2.2.1, va_Zq.moved hA h.2.2.2.2.2.1, vy_Zq.moved hA h.2.2.2.2.2.2.1, vy_Zq.moved hA h.2.2.2.2.2.2.2.1, fun q hq => va_Nc.moved hA (h.2.2.2.2.2.2.2.2.1 q hq), fun y hy => va_tabs rfl hv (h.2.2.2.2.2.2.2.2.2 y hy)⟩
def KK (G : GT) (U : State) : Prop := va_K G.1 vwCl (tyl G.2.1) U ∧ (∀ q ∈ nwF, va_Nw (.fieldLinkNest q.1 q.2.1 q.2.2.1 q.2.2.2.1 q.2.2.2.2.1 q.2.2.2.2.2) U) ∧ (∀ x ∈ nwD, va_Nw (.declares x) U) ∧ (∀ q ∈ nwC, va_Nw (.castable q.1 q.2) U) ∧ (∀ C ∈ nwA, va_AO C U) ∧ va_Nw nwM U ∧ SF G U
theorem KK.warm {G : GT} {s U : State} {locs : List Loc} (hW : s.WarmedH U.vm) (hS : va_S (fun q => G.2.2.1 ≤ q) s.heap U.heap locs) (h : KK G s) : KK G U := ⟨va_K.moved hW.alike h.1, fun q hq => va_Nw.warmF hW (h.2.1 q hq), fun x hx => va_Nw.warmD hW (h.2.2.1 x hx), fun q hq => va_Nw.warmC hW (h.2.2.2.1 q hq), fun C hC => va_AO.moved hW.alike (h.2.2.2.2.1 C hC), va_Nw.warmM hW h.2.2.2.2.2.1, SF.warm hW hS h.2.2.2.2.2.2⟩
theorem KK.same {G : GT} {u U : State} (hv : u.vm = U.vm) (hh : U.heap = u.heap) (h : KK G u) : KK G U := ⟨va_K.moved (by rw [hv]; exact Vm.Alike.refl _) h.1, fun q hq => va_Nw.same rfl hv (h.2.1 q hq), fun x hx => va_Nw.same rfl hv (h.2.2.1 x hx), fun q hq => va_Nw.same rfl hv (h.2.2.2.1 q hq), fun C hC => va_AO.moved (by rw [hv]; exact Vm.Alike.refl _) (h.2.2.2.2.1 C hC), va_Nw.same rfl hv h.2.2.2.2.2.1, SF.same hv hh h.2.2.2.2.2.2⟩
/-- the cells of the map stand in the heap -/
def AP (G : GT) (h : AH) (H : Heap) : Prop := ∀ (a : Nat) (e : va_E), h a = some e → va_at G.1 vwCl (a, rz G.2.1 e) H ∧ G.2.2.1 ≤ a
def Wd (G : GT) (h : AH) (nx : Nat) (U : State) (H : Heap) : Prop := AP G h H ∧ KK G U ∧ H.size = nx ∧ G.2.2.1 ≤ nx
/-- in a method's run: the world now, and that since its start only the law's own cells have changed -/
def Ws (G : GT) (h : AH) (nx : Nat) (s : State) (H : Heap) (locs : List Loc) : Prop := Wd G h nx s H ∧ va_S (fun q => G.2.2.1 ≤ q) s.heap H locs
theorem AP.one {G : GT} {h : AH} {H : Heap} (hp : AP G h H) {a : Nat} {e : va_E} (he : h a = some e) : va_P G.1 vwCl [(a, rz G.2.1 e)] H := by
  intro k q hk
  cases k with
  | zero => cases hk; exact (hp a e he).1
  | succ k => cases hk
theorem AP.lt {G : GT} {h : AH} {H : Heap} (hp : AP G h H) {a : Nat} {e : va_E} (he : h a = some e) : a < H.size := (hp a e he).1.lt
theorem Ws.put {G : GT} {h : AH} {nx : Nat} {s : State} {H H1 : Heap} {locs : List Loc} (hw : Ws G h nx s H locs) {a k : Nat} {e0 e : va_E} (h0 : h a = some e0) (he : va_at G.1 vwCl (a, rz G.2.1 e) H1) (z : H1.size = H.size) (oq : ∀ q : Nat, q ≠ a → H1[q]? = H[q]?) : Ws G (mset h a e) nx s H1 (locs ++ [⟨a, k⟩]) := by
  obtain ⟨⟨hp, hk, hn, hz⟩, hS⟩ := hw
  refine ⟨⟨fun b x hb => ?_, hk, z.trans hn, hz⟩, hS.put z oq (hp a e0 h0).2⟩
  by_cases hba : b = a
  · subst hba
    have hx : x = e := by
      have : (some e : Option va_E) = some x := by rw [← hb]; simp [mset]
      exact (Option.some.inj this).symm
    rw [hx]
    exact ⟨he, (hp b e0 h0).2⟩
  · have hb' : h b = some x := by rw [← hb]; simp [mset, hba]
    exact ⟨(hp b x hb').1.kept (oq b hba), (hp b x hb').2⟩
theorem Ws.new {G : GT} {h : AH} {nx : Nat} {s : State} {H H1 : Heap} {locs : List Loc} (hw : Ws G h nx s H locs) {e : va_E} (he : va_at G.1 vwCl (nx, rz G.2.1 e) H1) (z : H1.size = nx + 1) (oq : ∀ q : Nat, q < nx → H1[q]? = H[q]?) : Ws G (mset h nx e) (nx + 1) s H1 locs := by
  obtain ⟨⟨hp, hk, hn, hz⟩, hS⟩ := hw
  refine ⟨⟨fun b x hb => ?_, hk, z, by omega⟩, ⟨by have := hS.1; omega, fun q h1 h2 => (oq q (by have := hS.1; omega)).trans (hS.2.1 q h1 h2), hS.2.2⟩⟩
  by_cases hba : b = nx
  · subst hba
    have hx : x = e := by
      have : (some e : Option va_E) = some x := by rw [← hb]; simp [mset]
      exact (Option.some.inj this).symm
    rw [hx]
    exact ⟨he, hz⟩
  · have hb' : h b = some x := by rw [← hb]; simp [mset, hba]
    have hl : b < nx := by have := hp.lt hb'; omega
    exact ⟨(hp b x hb').1.kept (oq b hl), (hp b x hb').2⟩
/-! the fixed cells: objects (address key, class, first place, how many places) and arrays (key, kind, length) -/
/-- a place's kind: 0 int, 1 long, 2 a reference that changes, 3 a reference to a fixed cell, 4 null -/
def kd : Nat → Nat := fun k => if k ∈ [2, 3, 19, 109, 110] then 1 else if k ∈ [101, 103, 104, 213, 214, 216] then 2 else if k ∈ [4, 5, 6, 7, 20, 21, 22, 29, 30, 31, 32, 34, 35, 36, 37, 40, 41, 100, 102, 112, 113, 117, 119, 120, 121, 124, 126, 127, 129, 200, 206, 207, 208, 215] then 3 else if k ∈ [300, 301, 302, 303, 304] then 4 else 0
/-- the fixed cell that a place of kind 3 names -/
def cr : Nat → Nat := fun k => if k = 102 then 217 else if k = 208 then 308 else if k = 206 then 391 else if k = 207 then 392 else k
def fval (ad : Nat → Nat) (F : FS) (k : Nat) : Value := if kd k = 0 then .int (F.1 k) else if kd k = 1 then .long (F.2.1 k) else if kd k = 2 then va_rf (F.2.2.1 k) else if kd k = 3 then .ref (ad (cr k)) else .null
def fobjs : List (Nat × Nat × Nat × Nat) := [(50, 5, 0, 50), (131, 0, 100, 31), (217, 1, 200, 17), (308, 2, 300, 8)]
def farrs : List (Nat × Nat × Nat) := [(4, 2, 4), (5, 2, 4), (6, 3, 240), (7, 0, 900), (20, 2, 2050), (21, 2, 132), (22, 3, 55), (29, 2, 24), (30, 2, 24), (31, 2, 4), (32, 2, 4), (34, 2, 256), (35, 2, 8), (36, 2, 8), (37, 2, 132), (40, 2, 5), (41, 2, 132), (100, 8, 4), (112, 2, 24), (113, 2, 24), (117, 2, 4), (119, 2, 4), (120, 2, 256), (121, 2, 8), (124, 2, 256), (126, 2, 5), (127, 2, 5), (129, 7, 3), (200, 0, 900), (215, 2, 3)]
def objE (ad : Nat → Nat) (F : FS) (o : Nat × Nat × Nat × Nat) : va_E := .inr (o.2.1, (List.range o.2.2.2).map (fun j => fval ad F (o.2.2.1 + j)))
def arrE (F : FS) (q : Nat × Nat × Nat) : va_E := .inl (q.2.1, q.2.2, if q.2.1 < 3 then .inl (F.2.2.2.1 q.1) else if q.2.1 = 3 then .inr (.inl (F.2.2.2.2.1 q.1)) else .inr (.inr (.inr (.inr (F.2.2.2.2.2 q.1)))))
def fkeys : List Nat := fobjs.map (·.1) ++ farrs.map (·.1)
def adOK (ad : Nat → Nat) : Prop := ∀ i ∈ fkeys, ∀ j ∈ fkeys, ad i = ad j → i = j
def embF (ad : Nat → Nat) (F : FS) : AH := fun a => match fobjs.find? (fun o => ad o.1 == a) with
  | some o => some (objE ad F o)
  | none => (farrs.find? (fun q => ad q.1 == a)).map (arrE F)
theorem find_key {α : Type} {l : List α} {f : α → Nat} {ad : Nat → Nat} {x : α} (hx : x ∈ l) (hu : ∀ y ∈ l, ad (f y) = ad (f x) → y = x) : l.find? (fun y => ad (f y) == ad (f x)) = some x := by
  cases h : l.find? (fun y => ad (f y) == ad (f x)) with
  | none =>
    have := List.find?_eq_none.mp h x hx
    simp at this
  | some y =>
    have h1 := List.find?_some h
    have h2 := List.mem_of_find?_eq_some h
    rw [hu y h2 (by simpa using h1)]
theorem fobjs_key : ∀ x ∈ fobjs, ∀ y ∈ fobjs, y.1 = x.1 → y = x := by decide
theorem farrs_key : ∀ x ∈ farrs, ∀ y ∈ farrs, y.1 = x.1 → y = x := by decide
theorem fkeys_apart : ∀ x ∈ fobjs, ∀ y ∈ farrs, y.1 ≠ x.1 := by decide
theorem fk_obj {x : Nat × Nat × Nat × Nat} (h : x ∈ fobjs) : x.1 ∈ fkeys := List.mem_append_left _ (List.mem_map_of_mem h)
theorem fk_arr {x : Nat × Nat × Nat} (h : x ∈ farrs) : x.1 ∈ fkeys := List.mem_append_right _ (List.mem_map_of_mem h)
theorem embF_obj {ad : Nat → Nat} (hA : adOK ad) (F : FS) {o : Nat × Nat × Nat × Nat} (ho : o ∈ fobjs) : embF ad F (ad o.1) = some (objE ad F o) := by
  unfold embF
  rw [find_key (f := fun o : Nat × Nat × Nat × Nat => o.1) ho (fun y hy e => fobjs_key o ho y hy (hA _ (fk_obj hy) _ (fk_obj ho) e))]
theorem embF_arr {ad : Nat → Nat} (hA : adOK ad) (F : FS) {q : Nat × Nat × Nat} (hq : q ∈ farrs) : embF ad F (ad q.1) = some (arrE F q) := by
  unfold embF
  have hn : fobjs.find? (fun o => ad o.1 == ad q.1) = none := by
    rw [List.find?_eq_none]
    intro x hx e
    exact fkeys_apart x hx q hq (hA _ (fk_arr hq) _ (fk_obj hx) (by simpa using e : ad x.1 = ad q.1).symm)
  rw [hn, find_key (f := fun q : Nat × Nat × Nat => q.1) hq (fun y hy e => farrs_key q hq y hy (hA _ (fk_arr hy) _ (fk_arr hq) e))]
  rfl
/-- whether an address is a fixed cell's doesn't hang on the state -/
theorem embF_dom {ad : Nat → Nat} (F F' : FS) {a : Nat} : embF ad F a = none ↔ embF ad F' a = none := by
  unfold embF
  cases fobjs.find? (fun o => ad o.1 == a) with
  | some o => simp
  | none => cases farrs.find? (fun q => ad q.1 == a) <;> simp
theorem embF_put_obj {ad : Nat → Nat} (hA : adOK ad) {F F' : FS} {o : Nat × Nat × Nat × Nat} (ho : o ∈ fobjs) (h1 : ∀ x ∈ fobjs, x ≠ o → objE ad F' x = objE ad F x) (h2 : ∀ x ∈ farrs, arrE F' x = arrE F x) (b : Nat) : embF ad F' b = if b = ad o.1 then some (objE ad F' o) else embF ad F b := by
  by_cases hb : b = ad o.1
  · subst hb
    rw [if_pos rfl]
    exact embF_obj hA F' ho
  · rw [if_neg hb]
    unfold embF
    cases hf : fobjs.find? (fun o => ad o.1 == b) with
    | some x =>
      have e1 := List.find?_some hf
      have e2 := List.mem_of_find?_eq_some hf
      have hne : x ≠ o := fun e => hb (by subst e; exact (by simpa using e1 : ad x.1 = b).symm)
      show some (objE ad F' x) = some (objE ad F x)
      rw [h1 x e2 hne]
    | none =>
      show (farrs.find? (fun q => ad q.1 == b)).map (arrE F') = (farrs.find? (fun q => ad q.1 == b)).map (arrE F)
      cases hg : farrs.find? (fun q => ad q.1 == b) with
      | none => rfl
      | some x =>
        show some (arrE F' x) = some (arrE F x)
        rw [h2 x (List.mem_of_find?_eq_some hg)]
theorem embF_put_arr {ad : Nat → Nat} (hA : adOK ad) {F F' : FS} {o : Nat × Nat × Nat} (ho : o ∈ farrs) (h1 : ∀ x ∈ fobjs, objE ad F' x = objE ad F x) (h2 : ∀ x ∈ farrs, x ≠ o → arrE F' x = arrE F x) (b : Nat) : embF ad F' b = if b = ad o.1 then some (arrE F' o) else embF ad F b := by
  by_cases hb : b = ad o.1
  · subst hb
    rw [if_pos rfl]
    exact embF_arr hA F' ho
  · rw [if_neg hb]
    unfold embF
    cases hf : fobjs.find? (fun o => ad o.1 == b) with
    | some x =>
      show some (objE ad F' x) = some (objE ad F x)
      rw [h1 x (List.mem_of_find?_eq_some hf)]
    | none =>
      show (farrs.find? (fun q => ad q.1 == b)).map (arrE F') = (farrs.find? (fun q => ad q.1 == b)).map (arrE F)
      cases hg : farrs.find? (fun q => ad q.1 == b) with
      | none => rfl
      | some x =>
        have e1 := List.find?_some hg
        have hne : x ≠ o := fun e => hb (by subst e; exact (by simpa using e1 : ad x.1 = b).symm)
        show some (arrE F' x) = some (arrE F x)
        rw [h2 x (List.mem_of_find?_eq_some hg) hne]
theorem range_set {α : Type} (f : Nat → α) (n j : Nat) (v : α) : ((List.range n).map f).set j v = (List.range n).map (fun i => if i = j then v else f i) := by
  apply List.ext_getElem?
  intro i
  rw [List.getElem?_set]
  simp only [List.getElem?_map, List.length_map, List.length_range]
  by_cases h : j = i
  · subst h
    by_cases hl : j < n
    · simp [hl]
    · simp [hl]
  · by_cases hl : i < n
    · simp [h, Ne.symm h, hl]
    · simp [h, hl]
/-! both sides' fixed cells in one: places under 100 the twin's, the others the class's -/
def comb (M C : FS) : FS := (fun k => if k < 100 then M.1 k else C.1 k, fun k => if k < 100 then M.2.1 k else C.2.1 k, fun k => if k < 100 then M.2.2.1 k else C.2.2.1 k, fun k => if k < 100 then M.2.2.2.1 k else C.2.2.2.1 k, fun k => if k < 100 then M.2.2.2.2.1 k else C.2.2.2.2.1 k, fun k => if k < 100 then M.2.2.2.2.2 k else C.2.2.2.2.2 k)
/-- the state: the twin's fixed cells, the class's, the other cells, the next address -/
abbrev ST : Type := FS × FS × AH × Nat
def emb (ad : Nat → Nat) (S : ST) : AH := fun a => match embF ad (comb S.1 S.2.1) a with
  | some e => some e
  | none => S.2.2.1 a
def WS (G : GT) (S : ST) (s : State) (H : Heap) (locs : List Loc) : Prop := Ws G (emb G.2.2.2 S) S.2.2.2 s H locs ∧ adOK G.2.2.2 ∧ ∀ a, S.2.2.1 a ≠ none → embF G.2.2.2 (comb S.1 S.2.1) a = none
def WD (G : GT) (S : ST) (U : State) : Prop := Wd G (emb G.2.2.2 S) S.2.2.2 U U.heap ∧ adOK G.2.2.2 ∧ ∀ a, S.2.2.1 a ≠ none → embF G.2.2.2 (comb S.1 S.2.1) a = none
theorem emb_fix {ad : Nat → Nat} {S : ST} {a : Nat} {e : va_E} (h : embF ad (comb S.1 S.2.1) a = some e) : emb ad S a = some e := by
  unfold emb; rw [h]
theorem emb_dyn {ad : Nat → Nat} {S : ST} {a : Nat} (h : embF ad (comb S.1 S.2.1) a = none) : emb ad S a = S.2.2.1 a := by
  unfold emb; rw [h]
/-- a fixed cell written -/
theorem WS.fix {G : GT} {S S' : ST} {s : State} {H1 : Heap} {locs1 : List Loc} {a : Nat} {e : va_E} (hD : adOK G.2.2.2 ∧ ∀ a, S.2.2.1 a ≠ none → embF G.2.2.2 (comb S.1 S.2.1) a = none) (hs : S'.2.2 = S.2.2) (hf : ∀ b, embF G.2.2.2 (comb S'.1 S'.2.1) b = if b = a then some e else embF G.2.2.2 (comb S.1 S.2.1) b) (h : Ws G (mset (emb G.2.2.2 S) a e) S.2.2.2 s H1 locs1) : WS G S' s H1 locs1 := by
  have e1 : mset (emb G.2.2.2 S) a e = emb G.2.2.2 S' := by
    funext b
    unfold mset emb
    rw [hf b]
    by_cases hb : b = a
    · rw [if_pos hb, if_pos hb]
    · rw [if_neg hb, if_neg hb, hs]
  refine ⟨by rw [← e1, hs]; exact h, hD.1, fun b hb => ?_⟩
  rw [hs] at hb
  exact (embF_dom _ _).mp (hD.2 b hb)
/-- another cell written -/
theorem WS.dyn {G : GT} {M C : FS} {h : AH} {nx nx' : Nat} {s : State} {H1 : Heap} {locs1 : List Loc} {a : Nat} {e : va_E} (hD : adOK G.2.2.2 ∧ ∀ a, h a ≠ none → embF G.2.2.2 (comb M C) a = none) (ha : embF G.2.2.2 (comb M C) a = none) (hw : Ws G (mset (emb G.2.2.2 (M, C, h, nx)) a e) nx' s H1 locs1) : WS G (M, C, mset h a e, nx') s H1 locs1 := by
  have e1 : mset (emb G.2.2.2 (M, C, h, nx)) a e = emb G.2.2.2 (M, C, mset h a e, nx') := by
    funext b
    unfold mset emb
    by_cases hb : b = a
    · subst hb
      rw [if_pos rfl]
      show _ = match embF G.2.2.2 (comb M C) b with | some e => some e | none => if b = b then some e else h b
      rw [ha, if_pos rfl]
    · rw [if_neg hb]
      show (match embF G.2.2.2 (comb M C) b with | some e => some e | none => h b) = match embF G.2.2.2 (comb M C) b with | some e => some e | none => if b = a then some e else h b
      rw [if_neg hb]
  refine ⟨by rw [← e1]; exact hw, hD.1, fun b hb => ?_⟩
  by_cases hba : b = a
  · rw [hba]; exact ha
  · exact hD.2 b (by simpa [mset, hba] using hb)
