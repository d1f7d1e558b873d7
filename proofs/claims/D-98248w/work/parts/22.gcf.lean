noncomputable def fX0_status (C : FS) : Option Int32 :=
  some (C.1 106)
noncomputable def fX0_top (C : FS) : Option Int64 :=
  some (C.2.1 109)
noncomputable def fX0_bottom (C : FS) : Option Int64 :=
  some (C.2.1 110)
noncomputable def fX0_isTray (p1 : Int32) : Option Int32 :=
  if p1 < 0 then
  some 0
  else
  if 4 ≤ p1 then
    some 0
    else
    some 1
noncomputable def fX0_is (C : FS) (p1 : Int32) : Option (Int32 × FS) :=
  (some (sI C 106 p1)).bind fun C1 =>
  if p1 = 0 then
  some (1, C1)
  else
  some (0, C1)
noncomputable def fX0_none (C : FS) (p1 : Int32) : Option (Int32 × FS) :=
  (some (sI C 106 p1)).bind fun C1 =>
  some ((-1), C1)
noncomputable def fX0_four_L3 (p1 : Int32) (z3_2 : Int32) (Cz3 : FS) : Option ((Int32 × FS) ⊕ (FS)) :=
  if z3_2 < 0 then
  some (.inr Cz3)
  else
  (wY Cz3 200 900 (Cz3.1 209) ((p1 >>> (z3_2 &&& 31)).toInt8.toInt32)).bind fun C1 =>
    (some (sI C1 209 ((C1.1 209) + 1))).bind fun C2 =>
    some (.inl ((z3_2 + (-8)), C2))
noncomputable def fX0_four (C : FS) (p1 : Int32) : Option FS :=
  (lp (fun z => fX0_four_L3 p1 z.1 z.2) (24, C)).bind fun Ct3 =>
  some Ct3
noncomputable def fX0_feed (C : FS) (p1 : Int32) (p2 : Int32) (p3 : Int32) (p4 : Int32) (p5 : Int32) : Option (Int32 × FS) :=
  if ((C.1 209) + 20) ≤ 900 then
  (fX0_four C p1).bind fun t1 =>
    (fX0_four t1 p2).bind fun t2 =>
    (fX0_four t2 p3).bind fun t3 =>
    (fX0_four t3 p4).bind fun t4 =>
    (fX0_four t4 p5).bind fun t5 =>
    some ((t5.1 209), t5)
  else
  some ((-1), C)
noncomputable def fX0_takes (C : FS) (p1 : Int32) (p2 : Int32) : Option (Int32 × FS) :=
  if p1 < 0 then
  some (0, C)
  else
  if (C.1 209) < p1 then
    some (0, C)
    else
    if p1 ≤ p2 then
      (some (sI C 209 0)).bind fun C1 =>
        (some (sI C1 107 0)).bind fun C2 =>
        (some (sI C2 108 (-1))).bind fun C3 =>
        some (1, C3)
      else
      some (0, C)
noncomputable def fX0_refused (C : FS) : Option (Int32 × FS) :=
  (some (sI C 107 (C.1 306))).bind fun C1 =>
  (some (sI C1 108 (C1.1 307))).bind fun C2 =>
  (fX0_none C2 10).bind fun t3 =>
  some (t3.1, t3.2)
noncomputable def fX0_gives (C : FS) (p1 : Int32) : Option (Int32 × FS) :=
  (some (sI C 106 0)).bind fun C1 =>
  some (p1, C1)
noncomputable def fX0_fault (C : FS) (p1 : Int32) : Option Int32 :=
  if p1 = 0 then
  some (C.1 107)
  else
  if p1 = 1 then
    some (C.1 108)
    else
    some (-1)
noncomputable def fX4_inSet_L4 (K : KT) (a : Nat) (z4_1 : Int32) (z4_2 : Int32) : Option ((Int32 × Int32) ⊕ (Int32)) :=
  (dI K 3 5 a).bind fun v1 =>
  if v1 ≤ z4_2 then
  some (.inr z4_1)
  else
  (dA K 3 1 a).bind fun a2 =>
    (eA K 5 a2 z4_2).bind fun a3 =>
    (dI K 6 8 a3).bind fun v4 =>
    if v4 = 0 then
    some (.inl ((z4_1 ||| (1 <<< (z4_2 &&& 31))), (z4_2 + 1)))
    else
    some (.inl ((z4_1 ||| 0), (z4_2 + 1)))
noncomputable def fX4_inSet (K : KT) (a : Nat) : Option Int32 :=
  (lp (fun z => fX4_inSet_L4 K a z.1 z.2) (0, 0)).bind fun t4_1 =>
  some t4_1
noncomputable def fX0_clipped_L4 (C : FS) (K : KT) (z4_1 : Int32) (z4_2 : Int32) : Option ((Int32 × Int32) ⊕ (Int32)) :=
  ((C.2.2.1 103)).bind fun a1 =>
  (dI K 3 5 a1).bind fun v2 =>
  if v2 ≤ z4_2 then
  some (.inr z4_1)
  else
  ((C.2.2.1 103)).bind fun a3 =>
    (dA K 3 1 a3).bind fun a4 =>
    (eA K 5 a4 z4_2).bind fun a5 =>
    (dI K 6 7 a5).bind fun v6 =>
    if v6 = 0 then
    some (.inl ((z4_1 ||| 0), (z4_2 + 1)))
    else
    ((C.2.2.1 103)).bind fun a7 =>
      (dA K 3 1 a7).bind fun a8 =>
      (eA K 5 a8 z4_2).bind fun a9 =>
      (dI K 6 8 a9).bind fun v10 =>
      if v10 = 0 then
      some (.inl ((z4_1 ||| (1 <<< (z4_2 &&& 31))), (z4_2 + 1)))
      else
      some (.inl ((z4_1 ||| 0), (z4_2 + 1)))
noncomputable def fX0_clipped (C : FS) (K : KT) : Option Int32 :=
  (lp (fun z => fX0_clipped_L4 C K z.1 z.2) (0, 0)).bind fun t4_1 =>
  some t4_1
noncomputable def fX0_many (C : FS) (K : KT) (p1 : Int32) : Option (Int32 × FS) :=
  if p1 < 0 ∨ 7 < p1 then
  (fX0_none C 5).bind fun t1 =>
    some (t1.1, t1.2)
  else if p1 = 0 then
  ((C.2.2.1 103)).bind fun a2 =>
    (dI K 3 5 a2).bind fun v3 =>
    (fX0_gives C v3).bind fun t4 =>
    some (t4.1, t4.2)
  else if p1 = 1 then
  ((C.2.2.1 103)).bind fun a5 =>
    (dI K 3 6 a5).bind fun v6 =>
    (fX0_gives C v6).bind fun t7 =>
    some (t7.1, t7.2)
  else if p1 = 2 then
  ((C.2.2.1 103)).bind fun a8 =>
    (dI K 3 7 a8).bind fun v9 =>
    (fX0_gives C v9).bind fun t10 =>
    some (t10.1, t10.2)
  else if p1 = 3 then
  ((C.2.2.1 103)).bind fun a11 =>
    (gC K 3 a11).bind fun g12 =>
    (fX4_inSet K a11).bind fun t13 =>
    (fX0_gives C t13).bind fun t14 =>
    some (t14.1, t14.2)
  else if p1 = 4 then
  (fX0_clipped C K).bind fun t15 =>
    (fX0_gives C t15).bind fun t16 =>
    some (t16.1, t16.2)
  else if p1 = 5 then
  ((C.2.2.1 103)).bind fun a17 =>
    (dI K 3 8 a17).bind fun v18 =>
    (fX0_gives C v18).bind fun t19 =>
    some (t19.1, t19.2)
  else if p1 = 6 then
  ((C.2.2.1 103)).bind fun a20 =>
    (dI K 3 9 a20).bind fun v21 =>
    (fX0_gives C v21).bind fun t22 =>
    some (t22.1, t22.2)
  else if p1 = 7 then
  ((C.2.2.1 103)).bind fun a23 =>
    (dI K 3 10 a23).bind fun v24 =>
    (fX0_gives C v24).bind fun t25 =>
    some (t25.1, t25.2)
  else none
noncomputable def fX0_isLead (C : FS) (K : KT) (p1 : Int32) : Option Int32 :=
  if p1 < 0 then
  some 0
  else
  ((C.2.2.1 103)).bind fun a1 =>
    (dI K 3 5 a1).bind fun v2 =>
    if v2 ≤ p1 then
    some 0
    else
    some 1
noncomputable def fX4_crossings_L4 (K : KT) (a : Nat) (p1 : Int32) (z4_2 : Int32) (z4_3 : Int32) : Option ((Int32 × Int32) ⊕ (Int32)) :=
  (dI K 3 6 a).bind fun v1 =>
  if v1 ≤ z4_3 then
  some (.inr z4_2)
  else
  (dA K 3 2 a).bind fun a2 =>
    (eA K 4 a2 z4_3).bind fun a3 =>
    (vIsOf K a3 p1).bind fun t4 =>
    if t4 = 0 then
    some (.inl ((z4_2 + 0), (z4_3 + 1)))
    else
    some (.inl ((z4_2 + 1), (z4_3 + 1)))
noncomputable def fX4_crossings (K : KT) (a : Nat) (p1 : Int32) : Option Int32 :=
  (lp (fun z => fX4_crossings_L4 K a p1 z.1 z.2) (0, 0)).bind fun t4_2 =>
  some t4_2
noncomputable def fX7_risk (K : KT) (a : Nat) : Option Int32 :=
  (dI K 6 1 a).bind fun v1 =>
  (dI K 6 2 a).bind fun v2 =>
  some (if 0 < (if ((v1 / 2) - v2) < 15 then ((v1 / 2) - v2) else 15) then (if ((v1 / 2) - v2) < 15 then ((v1 / 2) - v2) else 15) else 0)
noncomputable def fX0_lead (C : FS) (K : KT) (p1 : Int32) (p2 : Int32) : Option (Int32 × FS) :=
  (fX0_isLead C K p1).bind fun t1 =>
  if t1 = 0 then
  (fX0_none C 2).bind fun t25 =>
    some (t25.1, t25.2)
  else
  ((C.2.2.1 103)).bind fun a2 =>
    (dA K 3 1 a2).bind fun a3 =>
    (eA K 5 a3 p1).bind fun a4 =>
    if p2 < 0 ∨ 7 < p2 then
    (fX0_none C 5).bind fun t5 =>
      some (t5.1, t5.2)
    else if p2 = 0 then
    (dI K 6 1 a4).bind fun v6 =>
      (fX0_gives C v6).bind fun t7 =>
      some (t7.1, t7.2)
    else if p2 = 1 then
    (dI K 6 2 a4).bind fun v8 =>
      (fX0_gives C v8).bind fun t9 =>
      some (t9.1, t9.2)
    else if p2 = 2 then
    (dI K 6 3 a4).bind fun v10 =>
      (fX0_gives C v10).bind fun t11 =>
      some (t11.1, t11.2)
    else if p2 = 3 then
    (dI K 6 4 a4).bind fun v12 =>
      (fX0_gives C v12).bind fun t13 =>
      some (t13.1, t13.2)
    else if p2 = 4 then
    (dI K 6 5 a4).bind fun v14 =>
      (fX0_gives C v14).bind fun t15 =>
      some (t15.1, t15.2)
    else if p2 = 5 then
    (dI K 6 6 a4).bind fun v16 =>
      (fX0_gives C v16).bind fun t17 =>
      some (t17.1, t17.2)
    else if p2 = 6 then
    ((C.2.2.1 103)).bind fun a18 =>
      (gC K 3 a18).bind fun g19 =>
      (fX4_crossings K a18 p1).bind fun t20 =>
      (fX0_gives C t20).bind fun t21 =>
      some (t21.1, t21.2)
    else if p2 = 7 then
    (gC K 6 a4).bind fun g22 =>
      (fX7_risk K a4).bind fun t23 =>
      (fX0_gives C t23).bind fun t24 =>
      some (t24.1, t24.2)
    else none
noncomputable def fX0_crossing (C : FS) (K : KT) (p1 : Int32) (p2 : Int32) : Option (Int32 × FS) :=
  if p2 < 0 then
  (fX0_none C 5).bind fun t1 =>
    some (t1.1, t1.2)
  else
  if p2 ≤ 2 then
    if p1 < 0 then
      (fX0_none C 8).bind fun t2 =>
        some (t2.1, t2.2)
      else
      ((C.2.2.1 103)).bind fun a3 =>
        (dI K 3 6 a3).bind fun v4 =>
        if p1 < v4 then
        ((C.2.2.1 103)).bind fun a5 =>
          (dA K 3 2 a5).bind fun a6 =>
          (eA K 4 a6 p1).bind fun a7 =>
          if p2 = 0 then
          (dX K 0 a7).bind fun v12 =>
            (fX0_gives C v12).bind fun t13 =>
            some (t13.1, t13.2)
          else
          if p2 = 1 then
            (dX K 1 a7).bind fun v10 =>
              (fX0_gives C v10).bind fun t11 =>
              some (t11.1, t11.2)
            else
            (vState K a7).bind fun t8 =>
              (fX0_gives C t8).bind fun t9 =>
              some (t9.1, t9.2)
        else
        (fX0_none C 8).bind fun t14 =>
          some (t14.1, t14.2)
    else
    (fX0_none C 5).bind fun t15 =>
      some (t15.1, t15.2)
noncomputable def fX4_along_L5 (K : KT) (a : Nat) (p1 : Int32) (p2 : Int32) (z5_3 : Int32) (z5_4 : Int32) : Option ((Int32 × Int32) ⊕ (Int32 ⊕ (Unit))) :=
  (dI K 3 6 a).bind fun v1 =>
  if v1 ≤ z5_4 then
  some (.inr (.inr ()))
  else
  if p2 < 0 then
    some (.inr (.inr ()))
    else
    (dA K 3 2 a).bind fun a2 =>
      (eA K 4 a2 z5_4).bind fun a3 =>
      (vIsOf K a3 p1).bind fun t4 =>
      if t4 = 0 then
      some (.inl (z5_3, (z5_4 + 1)))
      else
      if z5_3 = 0 then
        some (.inr (.inl z5_4))
        else
        some (.inl ((z5_3 + (-1)), (z5_4 + 1)))
noncomputable def fX4_along (K : KT) (a : Nat) (p1 : Int32) (p2 : Int32) : Option Int32 :=
  (lp (fun z => fX4_along_L5 K a p1 p2 z.1 z.2) (p2, 0)).bind (Sum.elim (fun v => some v) (fun _ =>
  some (-1)))
noncomputable def fX0_orNothing (C : FS) (p1 : Int32) : Option (Int32 × FS) :=
  if p1 = (-1) then
  (fX0_none C 8).bind fun t2 =>
    some (t2.1, t2.2)
  else
  (fX0_gives C p1).bind fun t1 =>
    some (t1.1, t1.2)
noncomputable def fX0_along (C : FS) (K : KT) (p1 : Int32) (p2 : Int32) : Option (Int32 × FS) :=
  (fX0_isLead C K p1).bind fun t1 =>
  if t1 = 0 then
  (fX0_none C 2).bind fun t2 =>
    some (t2.1, t2.2)
  else
  ((C.2.2.1 103)).bind fun a3 =>
    (gC K 3 a3).bind fun g4 =>
    (fX4_along K a3 p1 p2).bind fun t5 =>
    (fX0_orNothing C t5).bind fun t6 =>
    some (t6.1, t6.2)
noncomputable def fX0_isLook (C : FS) (K : KT) (p1 : Int32) : Option Int32 :=
  if p1 < 0 then
  some 0
  else
  ((C.2.2.1 103)).bind fun a1 =>
    (dI K 3 7 a1).bind fun v2 =>
    if v2 ≤ p1 then
    some 0
    else
    some 1
noncomputable def fX0_look (C : FS) (K : KT) (p1 : Int32) : Option (Int32 × FS) :=
  (fX0_isLook C K p1).bind fun t1 =>
  if t1 = 0 then
  (fX0_none C 2).bind fun t2 =>
    some (t2.1, t2.2)
  else
  ((C.2.2.1 103)).bind fun a3 =>
    (dA K 3 4 a3).bind fun a4 =>
    (eI K 2 a4 p1).bind fun v5 =>
    (fX0_gives C v5).bind fun t6 =>
    some (t6.1, t6.2)
noncomputable def fX0_between_L38 (C : FS) (K : KT) (p1 : Int32) (p2 : Int32) (z38_3 : Int32) (z38_4 : Int32) : Option ((Int32 × Int32) ⊕ (Int32)) :=
  ((C.2.2.1 103)).bind fun a4 =>
  (dI K 3 6 a4).bind fun v5 =>
  if v5 ≤ z38_4 then
  some (.inr z38_3)
  else
  ((C.2.2.1 103)).bind fun a6 =>
    (dA K 3 2 a6).bind fun a7 =>
    (eA K 4 a7 z38_4).bind fun a8 =>
    (vIsOf K a8 p1).bind fun t9 =>
    if t9 = 0 then
    some (.inl ((z38_3 + 0), (z38_4 + 1)))
    else
    ((C.2.2.1 103)).bind fun a10 =>
      (dA K 3 2 a10).bind fun a11 =>
      (eA K 4 a11 z38_4).bind fun a12 =>
      (vIsOf K a12 p2).bind fun t13 =>
      if t13 = 0 then
      some (.inl ((z38_3 + 0), (z38_4 + 1)))
      else
      some (.inl ((z38_3 + 1), (z38_4 + 1)))
noncomputable def fX0_between (C : FS) (K : KT) (p1 : Int32) (p2 : Int32) : Option (Int32 × FS) :=
  (fX0_isLead C K p1).bind fun t1 =>
  if t1 = 0 then
  (fX0_none C 2).bind fun t2 =>
    some (t2.1, t2.2)
  else
  (fX0_isLead C K p2).bind fun t3 =>
    if t3 = 0 then
    (fX0_none C 2).bind fun t16 =>
      some (t16.1, t16.2)
    else
    if p1 = p2 then
      (fX0_none C 5).bind fun t15 =>
        some (t15.1, t15.2)
      else
      (lp (fun z => fX0_between_L38 C K p1 p2 z.1 z.2) (0, 0)).bind fun t38_3 =>
        (fX0_gives C t38_3).bind fun t14 =>
        some (t14.1, t14.2)
noncomputable def fX0_isFrom (p1 : Int64) (p2 : Int64) (p3 : Int64) : Option Int32 :=
  if p1 < p2 then
  some 0
  else
  if p3 < p1 then
    some 0
    else
    some 1
noncomputable def fX4_secondsOf (K : KT) (a : Nat) (p1 : Nat) (p2 : Int32) : Option Int32 :=
  (vSeconds K p1).bind fun t1 =>
  (dA K 3 1 a).bind fun a2 =>
  (vOther K p1 p2).bind fun t3 =>
  (eA K 5 a2 t3).bind fun a4 =>
  (dI K 6 2 a4).bind fun v5 =>
  some (t1 + v5)
noncomputable def fX4_drops_L12 (a : Nat) (z12_2 : Int32) (Kz12 : KT) : Option ((Int32 × KT) ⊕ (KT)) :=
  (dI Kz12 3 6 a).bind fun v3 =>
  if v3 ≤ z12_2 then
  some (.inr Kz12)
  else
  (dA Kz12 3 2 a).bind fun a4 =>
    (dA Kz12 3 2 a).bind fun a5 =>
    (eA Kz12 4 a5 (z12_2 + 1)).bind fun a6 =>
    (wR Kz12 4 a4 z12_2 a6).bind fun K7 =>
    some (.inl ((z12_2 + 1), K7))
noncomputable def fX4_drops (K : KT) (a : Nat) (p1 : Int32) : Option KT :=
  (dI K 3 6 a).bind fun v1 =>
  (uV K 3 6 a (.int (v1 - 1))).bind fun K2 =>
  (lp (fun z => fX4_drops_L12 a z.1 z.2) (p1, K2)).bind fun Kt12 =>
  some Kt12
noncomputable def fX4_follows_J17 (K : KT) (a : Nat) (p1 : Int32) (y2_17 : Int32) : Option (Int32 × KT) :=
  (gC K 3 a).bind fun g1 =>
  (fX4_along K a p1 y2_17).bind fun t2 =>
  (dA K 3 2 a).bind fun a3 =>
  (eA K 4 a3 t2).bind fun a4 =>
  (gC K 3 a).bind fun g5 =>
  (fX4_secondsOf K a a4 p1).bind fun t6 =>
  (gC K 3 a).bind fun g7 =>
  (fX4_drops K a t2).bind fun t8 =>
  (dI t8 3 8 a).bind fun v9 =>
  (uV t8 3 8 a (.int (v9 + t6))).bind fun K10 =>
  some (t6, K10)
noncomputable def fX4_follows (K : KT) (a : Nat) (p1 : Int32) (p2 : Int32) : Option (Int32 × KT) :=
  if p2 = 0 then
  fX4_follows_J17 K a p1 0
  else
  (gC K 3 a).bind fun g11 =>
    (fX4_crossings K a p1).bind fun t12 =>
    fX4_follows_J17 K a p1 (t12 - 1)
noncomputable def fX0_follow (C : FS) (K : KT) (p1 : Int32) (p2 : Int32) : Option (Int32 × FS × KT) :=
  (fX0_isLead C K p1).bind fun t1 =>
  if t1 = 0 then
  (fX0_none C 2).bind fun t17 =>
    some (t17.1, t17.2, K)
  else
  (fX0_isFrom p2.toInt64 0 1).bind fun t2 =>
    if t2 = 0 then
    (fX0_none C 5).bind fun t16 =>
      some (t16.1, t16.2, K)
    else
    ((C.2.2.1 103)).bind fun a3 =>
      (dA K 3 1 a3).bind fun a4 =>
      (eA K 5 a4 p1).bind fun a5 =>
      (dI K 6 8 a5).bind fun v6 =>
      if v6 = 0 then
      ((C.2.2.1 103)).bind fun a7 =>
        (gC K 3 a7).bind fun g8 =>
        (fX4_crossings K a7 p1).bind fun t9 =>
        if t9 = 0 then
        (fX0_none C 8).bind fun t14 =>
          some (t14.1, t14.2, K)
        else
        ((C.2.2.1 103)).bind fun a10 =>
          (gC K 3 a10).bind fun g11 =>
          (fX4_follows K a10 p1 p2).bind fun t12 =>
          (fX0_gives C t12.1).bind fun t13 =>
          some (t13.1, t13.2, t12.2)
      else
      (fX0_none C 9).bind fun t15 =>
        some (t15.1, t15.2, K)
noncomputable def fX9_init (K : KT) (a : Nat) (p1 : Int32) (p2 : Int32) : Option KT :=
  (fX8_init K a p1 p2).bind fun t1 =>
  some t1
noncomputable def fX10_init (K : KT) (a : Nat) (p1 : Int32) (p2 : Int32) : Option KT :=
  (fX8_init K a p1 p2).bind fun t1 =>
  some t1
noncomputable def fX11_init (K : KT) (a : Nat) (p1 : Int32) (p2 : Int32) : Option KT :=
  (fX10_init K a p1 p2).bind fun t1 =>
  some t1
noncomputable def fX12_init (K : KT) (a : Nat) (p1 : Int32) (p2 : Int32) : Option KT :=
  (fX11_init K a p1 p2).bind fun t1 =>
  some t1
noncomputable def fX8_of (K : KT) (p1 : Int32) (p2 : Int32) (p3 : Int32) : Option (Nat × KT) :=
  if p3 = 0 then
  (mkO K 7 [.int 0, .int 0]).bind fun K10 =>
    (fX9_init K10 K.2.1 p1 p2).bind fun t11 =>
    (gE K10 t11).bind fun g12 =>
    some (K.2.1, t11)
  else
  if p3 = 1 then
    (mkO K 8 [.int 0, .int 0]).bind fun K7 =>
      (fX10_init K7 K.2.1 p1 p2).bind fun t8 =>
      (gE K7 t8).bind fun g9 =>
      some (K.2.1, t8)
    else
    if p3 = 2 then
      (mkO K 9 [.int 0, .int 0]).bind fun K4 =>
        (fX11_init K4 K.2.1 p1 p2).bind fun t5 =>
        (gE K4 t5).bind fun g6 =>
        some (K.2.1, t5)
      else
      (mkO K 10 [.int 0, .int 0]).bind fun K1 =>
        (fX12_init K1 K.2.1 p1 p2).bind fun t2 =>
        (gE K1 t2).bind fun g3 =>
        some (K.2.1, t2)
noncomputable def fX4_adds_J35 (a : Nat) (p1 : Int32) (p2 : Int32) (p3 : Int32) (K_35 : KT) : Option KT :=
  (dA K_35 3 2 a).bind fun a3 =>
  (dI K_35 3 6 a).bind fun v4 =>
  (dA K_35 3 0 a).bind fun a5 =>
  (eA K_35 4 a5 ((4 * ((8 * p1) + p2)) + p3)).bind fun a6 =>
  (wR K_35 4 a3 v4 a6).bind fun K7 =>
  (dI K7 3 6 a).bind fun v8 =>
  (uV K7 3 6 a (.int (v8 + 1))).bind fun K9 =>
  some K9
noncomputable def fX4_adds (K : KT) (a : Nat) (p1 : Int32) (p2 : Int32) (p3 : Int32) : Option KT :=
  (dA K 3 0 a).bind fun a1 =>
  (eQ K 4 a1 ((4 * ((8 * p1) + p2)) + p3)).bind fun v2 =>
  if v2 = none then
  (dA K 3 0 a).bind fun a10 =>
    (fX8_of K p1 p2 p3).bind fun t11 =>
    (gM K t11.2).bind fun g12 =>
    (wR t11.2 4 a10 ((4 * ((8 * p1) + p2)) + p3) t11.1).bind fun K13 =>
    fX4_adds_J35 a p1 p2 p3 K13
  else
  fX4_adds_J35 a p1 p2 p3 K
noncomputable def fX4_stays (K : KT) (a : Nat) (p1 : Nat) (p2 : Int32) : Option KT :=
  if p2 = (-1) then
  some K
  else
  (dX K 0 p1).bind fun v1 =>
    (dX K 1 p1).bind fun v2 =>
    (gC K 3 a).bind fun g3 =>
    (fX4_adds K a v1 v2 p2).bind fun t4 =>
    (gM K t4).bind fun g5 =>
    some t4
noncomputable def fX4_loosens_L12 (a : Nat) (v1 : Int32) (z12_2 : Int32) (Kz12 : KT) : Option ((Int32 × KT) ⊕ (KT)) :=
  if v1 ≤ z12_2 then
  some (.inr Kz12)
  else
  (dA Kz12 3 2 a).bind fun a3 =>
    (eA Kz12 4 a3 z12_2).bind fun a4 =>
    (dA Kz12 3 2 a).bind fun a5 =>
    (eA Kz12 4 a5 z12_2).bind fun a6 =>
    (vLoosened Kz12 a6).bind fun t7 =>
    (gC Kz12 3 a).bind fun g8 =>
    (fX4_stays Kz12 a a4 t7).bind fun t9 =>
    (gM Kz12 t9).bind fun g10 =>
    some (.inl ((z12_2 + 1), t9))
noncomputable def fX4_loosens (K : KT) (a : Nat) : Option (Int32 × KT) :=
  (dI K 3 6 a).bind fun v1 =>
  (uV K 3 6 a (.int 0)).bind fun K2 =>
  (lp (fun z => fX4_loosens_L12 a v1 z.1 z.2) (0, K2)).bind fun Kt12 =>
  (dI Kt12 3 8 a).bind fun v11 =>
  (uV Kt12 3 8 a (.int (v11 + v1))).bind fun K12 =>
  some (v1, K12)
noncomputable def fX0_loosen (C : FS) (K : KT) : Option (Int32 × FS × KT) :=
  ((C.2.2.1 103)).bind fun a1 =>
  (gC K 3 a1).bind fun g2 =>
  (fX4_loosens K a1).bind fun t3 =>
  (gM K t3.2).bind fun g4 =>
  (fX0_gives C t3.1).bind fun t5 =>
  some (t5.1, t5.2, t3.2)
noncomputable def fX0_wrongLead (C : FS) (K : KT) (p1 : Int32) : Option Int32 :=
  (fX0_isLead C K p1).bind fun t1 =>
  if t1 = 0 then
  some 2
  else
  ((C.2.2.1 103)).bind fun a2 =>
    (dA K 3 1 a2).bind fun a3 =>
    (eA K 5 a3 p1).bind fun a4 =>
    (dI K 6 8 a4).bind fun v5 =>
    if v5 = 0 then
    some 0
    else
    some 9
noncomputable def fX4_lump_L15 (K : KT) (a : Nat) (z15_2 : Int32) (z15_4 : Int32) : Option ((Int32 × Int32) ⊕ (Int32)) :=
  (dI K 3 6 a).bind fun v1 =>
  if v1 ≤ z15_4 then
  some (.inr z15_2)
  else
  (dA K 3 2 a).bind fun a2 =>
    (eA K 4 a2 z15_4).bind fun a3 =>
    (vHolds K a3).bind fun t4 =>
    if t4 = 0 then
    some (.inl (z15_2, (z15_4 + 1)))
    else
    (dA K 3 2 a).bind fun a5 =>
      (eA K 4 a5 z15_4).bind fun a6 =>
      (dX K 0 a6).bind fun v7 =>
      (dA K 3 2 a).bind fun a8 =>
      (eA K 4 a8 z15_4).bind fun a9 =>
      (dX K 1 a9).bind fun v10 =>
      if (((z15_2 >>> (v7 &&& 31)) ||| (z15_2 >>> (v10 &&& 31))) &&& 1) = 1 then
      (dA K 3 2 a).bind fun a11 =>
        (eA K 4 a11 z15_4).bind fun a12 =>
        (dX K 0 a12).bind fun v13 =>
        (dA K 3 2 a).bind fun a14 =>
        (eA K 4 a14 z15_4).bind fun a15 =>
        (dX K 1 a15).bind fun v16 =>
        some (.inl ((z15_2 ||| ((1 <<< (v13 &&& 31)) ||| (1 <<< (v16 &&& 31)))), (z15_4 + 1)))
      else
      some (.inl (z15_2, (z15_4 + 1)))
noncomputable def fX4_lump_L6 (K : KT) (a : Nat) (z6_2 : Int32) (z6_3 : Int32) : Option ((Int32 × Int32) ⊕ (Int32)) :=
  if 8 ≤ z6_3 then
  some (.inr z6_2)
  else
  (lp (fun z => fX4_lump_L15 K a z.1 z.2) (z6_2, 0)).bind fun t15_2 =>
    some (.inl (t15_2, (z6_3 + 1)))
noncomputable def fX4_lump (K : KT) (a : Nat) (p1 : Int32) : Option Int32 :=
  (lp (fun z => fX4_lump_L6 K a z.1 z.2) ((1 <<< (p1 &&& 31)), 0)).bind fun t6_2 =>
  some t6_2
noncomputable def fJ12_bitCount (p1 : Int32) : Option Int32 :=
  some ((((((((p1 - ((ushr p1 1) &&& 1431655765)) &&& 858993459) + ((ushr (p1 - ((ushr p1 1) &&& 1431655765)) 2) &&& 858993459)) + (ushr (((p1 - ((ushr p1 1) &&& 1431655765)) &&& 858993459) + ((ushr (p1 - ((ushr p1 1) &&& 1431655765)) 2) &&& 858993459)) 4)) &&& 252645135) + (ushr (((((p1 - ((ushr p1 1) &&& 1431655765)) &&& 858993459) + ((ushr (p1 - ((ushr p1 1) &&& 1431655765)) 2) &&& 858993459)) + (ushr (((p1 - ((ushr p1 1) &&& 1431655765)) &&& 858993459) + ((ushr (p1 - ((ushr p1 1) &&& 1431655765)) 2) &&& 858993459)) 4)) &&& 252645135) 8)) + (ushr ((((((p1 - ((ushr p1 1) &&& 1431655765)) &&& 858993459) + ((ushr (p1 - ((ushr p1 1) &&& 1431655765)) 2) &&& 858993459)) + (ushr (((p1 - ((ushr p1 1) &&& 1431655765)) &&& 858993459) + ((ushr (p1 - ((ushr p1 1) &&& 1431655765)) 2) &&& 858993459)) 4)) &&& 252645135) + (ushr (((((p1 - ((ushr p1 1) &&& 1431655765)) &&& 858993459) + ((ushr (p1 - ((ushr p1 1) &&& 1431655765)) 2) &&& 858993459)) + (ushr (((p1 - ((ushr p1 1) &&& 1431655765)) &&& 858993459) + ((ushr (p1 - ((ushr p1 1) &&& 1431655765)) 2) &&& 858993459)) 4)) &&& 252645135) 8)) 16)) &&& 63)
noncomputable def fX4_pulls_L29 (a : Nat) (p1 : Int32) (v3 : Int32) (z29_4 : Int32) (Kz29 : KT) : Option ((Int32 × KT) ⊕ (KT)) :=
  if v3 ≤ z29_4 then
  some (.inr Kz29)
  else
  (dA Kz29 3 2 a).bind fun a7 =>
    (eA Kz29 4 a7 z29_4).bind fun a8 =>
    (dA Kz29 3 2 a).bind fun a9 =>
    (eA Kz29 4 a9 z29_4).bind fun a10 =>
    (vIsOf Kz29 a10 p1).bind fun t11 =>
    if t11 = 0 then
    (dA Kz29 3 2 a).bind fun a12 =>
      (eA Kz29 4 a12 z29_4).bind fun a13 =>
      (vState Kz29 a13).bind fun t14 =>
      (gC Kz29 3 a).bind fun g15 =>
      (fX4_stays Kz29 a a8 t14).bind fun t16 =>
      (gM Kz29 t16).bind fun g17 =>
      some (.inl ((z29_4 + 1), t16))
    else
    (dA Kz29 3 2 a).bind fun a18 =>
      (eA Kz29 4 a18 z29_4).bind fun a19 =>
      (vPulled Kz29 a19).bind fun t20 =>
      (gC Kz29 3 a).bind fun g21 =>
      (fX4_stays Kz29 a a8 t20).bind fun t22 =>
      (gM Kz29 t22).bind fun g23 =>
      some (.inl ((z29_4 + 1), t22))
noncomputable def fX4_pulls (K : KT) (a : Nat) (p1 : Int32) : Option (Int32 × KT) :=
  (gC K 3 a).bind fun g1 =>
  (fX4_lump K a p1).bind fun t2 =>
  (dI K 3 6 a).bind fun v3 =>
  (dI K 3 8 a).bind fun v4 =>
  (uV K 3 8 a (.int (v4 + 2))).bind fun K5 =>
  (uV K5 3 6 a (.int 0)).bind fun K6 =>
  (lp (fun z => fX4_pulls_L29 a p1 v3 z.1 z.2) (0, K6)).bind fun Kt29 =>
  (fJ12_bitCount t2).bind fun t24 =>
  some (t24, Kt29)
noncomputable def fX0_pull (C : FS) (K : KT) (p1 : Int32) : Option (Int32 × FS × KT) :=
  (fX0_wrongLead C K p1).bind fun t1 =>
  if t1 ≤ 0 then
  ((C.2.2.1 103)).bind fun a2 =>
    (gC K 3 a2).bind fun g3 =>
    (fX4_pulls K a2 p1).bind fun t4 =>
    (gM K t4.2).bind fun g5 =>
    (fX0_gives C t4.1).bind fun t6 =>
    some (t6.1, t6.2, t4.2)
  else
  (fX0_none C t1).bind fun t7 =>
    some (t7.1, t7.2, K)
noncomputable def fX4_leaves_L7 (a : Nat) (p1 : Int32) (z7_2 : Int32) (Kz7 : KT) : Option ((Int32 × KT) ⊕ (KT)) :=
  if z7_2 < 0 then
  some (.inr Kz7)
  else
  (dA Kz7 3 2 a).bind fun a2 =>
    (eA Kz7 4 a2 z7_2).bind fun a3 =>
    (vIsOf Kz7 a3 p1).bind fun t4 =>
    if t4 = 0 then
    some (.inl ((z7_2 + (-1)), Kz7))
    else
    (gC Kz7 3 a).bind fun g5 =>
      (fX4_drops Kz7 a z7_2).bind fun t6 =>
      some (.inl ((z7_2 + (-1)), t6))
noncomputable def fX4_leaves (K : KT) (a : Nat) (p1 : Int32) : Option KT :=
  (dI K 3 6 a).bind fun v1 =>
  (lp (fun z => fX4_leaves_L7 a p1 z.1 z.2) ((v1 - 1), K)).bind fun Kt7 =>
  some Kt7
noncomputable def fX4_cuts (K : KT) (a : Nat) (p1 : Int32) : Option (Int32 × KT) :=
  (gC K 3 a).bind fun g1 =>
  (fX4_crossings K a p1).bind fun t2 =>
  (gC K 3 a).bind fun g3 =>
  (fX4_leaves K a p1).bind fun t4 =>
  (dA t4 3 1 a).bind fun a5 =>
  (eA t4 5 a5 p1).bind fun a6 =>
  (uV t4 6 8 a6 (.int 1)).bind fun K7 =>
  (dI K7 3 9 a).bind fun v8 =>
  (dA K7 3 1 a).bind fun a9 =>
  (eA K7 5 a9 p1).bind fun a10 =>
  (dI K7 6 5 a10).bind fun v11 =>
  (uV K7 3 9 a (.int (v8 + v11))).bind fun K12 =>
  some (t2, K12)
noncomputable def fX0_cut (C : FS) (K : KT) (p1 : Int32) : Option (Int32 × FS × KT) :=
  (fX0_wrongLead C K p1).bind fun t1 =>
  if t1 ≤ 0 then
  ((C.2.2.1 103)).bind fun a2 =>
    (gC K 3 a2).bind fun g3 =>
    (fX4_cuts K a2 p1).bind fun t4 =>
    (fX0_gives C t4.1).bind fun t5 =>
    some (t5.1, t5.2, t4.2)
  else
  (fX0_none C t1).bind fun t6 =>
    some (t6.1, t6.2, K)
noncomputable def fX7_mayTangle (K : KT) (a : Nat) : Option Int32 :=
  (dI K 6 8 a).bind fun v1 =>
  if v1 = 0 then
  (dI K 6 7 a).bind fun v2 =>
    if v2 = 0 then
    some 1
    else
    some 0
  else
  some 0
noncomputable def fX4_clips (K : KT) (a : Nat) (p1 : Int32) : Option (Int32 × KT) :=
  (dA K 3 1 a).bind fun a1 =>
  (eA K 5 a1 p1).bind fun a2 =>
  (gC K 6 a2).bind fun g3 =>
  (fX7_mayTangle K a2).bind fun t4 =>
  if t4 = 0 then
  some (0, K)
  else
  (gC K 3 a).bind fun g5 =>
    (fX4_crossings K a p1).bind fun t6 =>
    if t6 ≤ 0 then
    (dA K 3 1 a).bind fun a7 =>
      (eA K 5 a7 p1).bind fun a8 =>
      (uV K 6 7 a8 (.int 1)).bind fun K9 =>
      (dI K9 3 8 a).bind fun v10 =>
      (uV K9 3 8 a (.int (v10 + 12))).bind fun K11 =>
      some (1, K11)
    else
    some (0, K)
noncomputable def fX0_clip (C : FS) (K : KT) (p1 : Int32) : Option (Int32 × FS × KT) :=
  (fX0_isLead C K p1).bind fun t1 =>
  if t1 = 0 then
  (fX0_is C 2).bind fun t9 =>
    (bz t9.1).bind fun b10 =>
    some (t9.1, t9.2, K)
  else
  ((C.2.2.1 103)).bind fun a2 =>
    (gC K 3 a2).bind fun g3 =>
    (fX4_clips K a2 p1).bind fun t4 =>
    if t4.1 = 0 then
    (fX0_is C 9).bind fun t5 =>
      (bz t5.1).bind fun b6 =>
      some (t5.1, t5.2, t4.2)
    else
    (fX0_is C 0).bind fun t7 =>
      (bz t7.1).bind fun b8 =>
      some (t7.1, t7.2, t4.2)
noncomputable def fX0_unclip_J28 (C : FS) (K : KT) (p1 : Int32) (x2_28 : Int32) : Option (Int32 × FS × KT) :=
  if x2_28 = 0 then
  ((C.2.2.1 103)).bind fun a4 =>
    (dA K 3 1 a4).bind fun a5 =>
    (eA K 5 a5 p1).bind fun a6 =>
    (uV K 6 7 a6 (.int 0)).bind fun K7 =>
    (fX0_is C x2_28).bind fun t8 =>
    (bz t8.1).bind fun b9 =>
    some (t8.1, t8.2, K7)
  else
  (fX0_is C x2_28).bind fun t2 =>
    (bz t2.1).bind fun b3 =>
    some (t2.1, t2.2, K)
noncomputable def fX0_unclip (C : FS) (K : KT) (p1 : Int32) : Option (Int32 × FS × KT) :=
  (fX0_wrongLead C K p1).bind fun t1 =>
  if t1 = 0 then
  ((C.2.2.1 103)).bind fun a10 =>
    (dA K 3 1 a10).bind fun a11 =>
    (eA K 5 a11 p1).bind fun a12 =>
    (dI K 6 7 a12).bind fun v13 =>
    if v13 = 0 then
    fX0_unclip_J28 C K p1 9
    else
    fX0_unclip_J28 C K p1 t1
  else
  fX0_unclip_J28 C K p1 t1
noncomputable def fX0_cross (C : FS) (K : KT) (p1 : Int32) (p2 : Int32) (p3 : Int32) : Option (Int32 × FS × KT) :=
  (fX0_isLead C K p1).bind fun t1 =>
  if t1 = 0 then
  (fX0_none C 2).bind fun t2 =>
    some (t2.1, t2.2, K)
  else
  (fX0_isLead C K p2).bind fun t3 =>
    if t3 = 0 then
    (fX0_none C 2).bind fun t29 =>
      some (t29.1, t29.2, K)
    else
    if p1 = p2 then
      (fX0_none C 5).bind fun t4 =>
        some (t4.1, t4.2, K)
      else
      (fX0_isFrom p3.toInt64 0 3).bind fun t5 =>
        if t5 = 0 then
        (fX0_none C 5).bind fun t28 =>
          some (t28.1, t28.2, K)
        else
        ((C.2.2.1 103)).bind fun a6 =>
          (dI K 3 6 a6).bind fun v7 =>
          if v7 = 24 then
          (fX0_none C 7).bind fun t27 =>
            some (t27.1, t27.2, K)
          else
          ((C.2.2.1 103)).bind fun a8 =>
            (dA K 3 1 a8).bind fun a9 =>
            (eA K 5 a9 p1).bind fun a10 =>
            (gC K 6 a10).bind fun g11 =>
            (fX7_mayTangle K a10).bind fun t12 =>
            if t12 = 0 then
            (fX0_none C 9).bind fun t13 =>
              some (t13.1, t13.2, K)
            else
            ((C.2.2.1 103)).bind fun a14 =>
              (dA K 3 1 a14).bind fun a15 =>
              (eA K 5 a15 p2).bind fun a16 =>
              (gC K 6 a16).bind fun g17 =>
              (fX7_mayTangle K a16).bind fun t18 =>
              if t18 = 0 then
              (fX0_none C 9).bind fun t26 =>
                some (t26.1, t26.2, K)
              else
              ((C.2.2.1 103)).bind fun a19 =>
                (gC K 3 a19).bind fun g20 =>
                (fX4_adds K a19 p1 p2 p3).bind fun t21 =>
                (gM K t21).bind fun g22 =>
                ((C.2.2.1 103)).bind fun a23 =>
                (dI t21 3 6 a23).bind fun v24 =>
                (fX0_gives C v24).bind fun t25 =>
                some (t25.1, t25.2, t21)
noncomputable def fX0_draw (C : FS) (p1 : Int32) : Option (Int32 × FS) :=
  (some (sI C 111 ((((C.1 111) * 2897) + 10529) - (((C.1 111) * 2897) + 10529) / 65536 * 65536))).bind fun C1 =>
  (nz p1).bind fun u2 =>
  some ((((C1.1 111) / 8) - ((C1.1 111) / 8) / p1 * p1), C1)
noncomputable def fX0_others_L4 (C : FS) (K : KT) (p1 : Int32) (z4_2 : Int32) (z4_3 : Int32) : Option ((Int32 × Int32) ⊕ (Int32)) :=
  ((C.2.2.1 103)).bind fun a1 =>
  (dI K 3 5 a1).bind fun v2 =>
  if v2 ≤ z4_3 then
  some (.inr z4_2)
  else
  if z4_3 = p1 then
    some (.inl ((z4_2 + 0), (z4_3 + 1)))
    else
    ((C.2.2.1 103)).bind fun a3 =>
      (dA K 3 1 a3).bind fun a4 =>
      (eA K 5 a4 z4_3).bind fun a5 =>
      (gC K 6 a5).bind fun g6 =>
      (fX7_mayTangle K a5).bind fun t7 =>
      if t7 = 0 then
      some (.inl ((z4_2 + 0), (z4_3 + 1)))
      else
      some (.inl ((z4_2 + 1), (z4_3 + 1)))
noncomputable def fX0_others (C : FS) (K : KT) (p1 : Int32) : Option Int32 :=
  (lp (fun z => fX0_others_L4 C K p1 z.1 z.2) (0, 0)).bind fun t4_2 =>
  some t4_2
noncomputable def fX0_other_J31 (C : FS) (K : KT) (p1 : Int32) (z5_3 : Int32) (z5_4 : Int32) : Option ((Int32 × Int32) ⊕ (Int32)) :=
  if z5_4 = p1 then
  some (.inl ((z5_3 - 0), (z5_4 + 1)))
  else
  ((C.2.2.1 103)).bind fun a1 =>
    (dA K 3 1 a1).bind fun a2 =>
    (eA K 5 a2 z5_4).bind fun a3 =>
    (gC K 6 a3).bind fun g4 =>
    (fX7_mayTangle K a3).bind fun t5 =>
    if t5 = 0 then
    some (.inl ((z5_3 - 0), (z5_4 + 1)))
    else
    some (.inl ((z5_3 - 1), (z5_4 + 1)))
noncomputable def fX0_other_L5 (C : FS) (K : KT) (p1 : Int32) (z5_3 : Int32) (z5_4 : Int32) : Option ((Int32 × Int32) ⊕ (Int32)) :=
  if z5_4 = p1 then
  fX0_other_J31 C K p1 z5_3 z5_4 
  else
  ((C.2.2.1 103)).bind fun a6 =>
    (dA K 3 1 a6).bind fun a7 =>
    (eA K 5 a7 z5_4).bind fun a8 =>
    (gC K 6 a8).bind fun g9 =>
    (fX7_mayTangle K a8).bind fun t10 =>
    if t10 = 0 then
    fX0_other_J31 C K p1 z5_3 z5_4 
    else
    if z5_3 ≤ 0 then
      some (.inr z5_4)
      else
      fX0_other_J31 C K p1 z5_3 z5_4 
noncomputable def fX0_other (C : FS) (K : KT) (p1 : Int32) (p2 : Int32) : Option Int32 :=
  (lp (fun z => fX0_other_L5 C K p1 z.1 z.2) (p2, 0)).bind fun t5_4 =>
  some t5_4
noncomputable def fX0_opens_J143 (z17_1 : Int32) (z17_2 : Int32) (Kz17 : KT) (t15 : Int32 × FS) (t16 : Int32) (y0_143 : Int32) : Option ((Int32 × Int32 × FS × KT) ⊕ (Int32 × FS × KT)) :=
  ((t15.2.2.2.1 103)).bind fun a25 =>
  if y0_143 = 0 then
  (gC Kz17 3 a25).bind fun g26 =>
    (fX4_adds Kz17 a25 z17_2 t16 0).bind fun t27 =>
    (gM Kz17 t27).bind fun g28 =>
    some (.inl ((z17_1 + 1), (z17_2 + 1), t15.2, t27))
  else
  (gC Kz17 3 a25).bind fun g29 =>
    (fX4_adds Kz17 a25 z17_2 t16 1).bind fun t30 =>
    (gM Kz17 t30).bind fun g31 =>
    some (.inl ((z17_1 + 1), (z17_2 + 1), t15.2, t30))
noncomputable def fX0_opens_L17 (z17_1 : Int32) (z17_2 : Int32) (Cz17 : FS) (Kz17 : KT) : Option ((Int32 × Int32 × FS × KT) ⊕ (Int32 × FS × KT)) :=
  ((Cz17.2.2.1 103)).bind fun a4 =>
  (dI Kz17 3 5 a4).bind fun v5 =>
  if v5 ≤ z17_2 then
  some (.inr (z17_1, Cz17, Kz17))
  else
  ((Cz17.2.2.1 103)).bind fun a6 =>
    (dA Kz17 3 1 a6).bind fun a7 =>
    (eA Kz17 5 a7 z17_2).bind fun a8 =>
    (gC Kz17 6 a8).bind fun g9 =>
    (fX7_mayTangle Kz17 a8).bind fun t10 =>
    if t10 = 0 then
    some (.inl (z17_1, (z17_2 + 1), Cz17, Kz17))
    else
    (fX0_draw Cz17 16).bind fun t11 =>
      (gC Kz17 6 a8).bind fun g12 =>
      (fX7_risk Kz17 a8).bind fun t13 =>
      if t11.1 < t13 then
      (fX0_others t11.2 Kz17 z17_2).bind fun t14 =>
        if t14 = 0 then
        some (.inl (z17_1, (z17_2 + 1), t11.2, Kz17))
        else
        (fX0_draw t11.2 t14).bind fun t15 =>
          (fX0_other t15.2 Kz17 z17_2 t15.1).bind fun t16 =>
          ((t15.2.2.2.1 103)).bind fun a17 =>
          (dI Kz17 3 6 a17).bind fun v18 =>
          if v18 = 24 then
          some (.inl (z17_1, (z17_2 + 1), t15.2, Kz17))
          else
          (dI Kz17 6 3 a8).bind fun v19 =>
            (dI Kz17 6 4 a8).bind fun v20 =>
            ((t15.2.2.2.1 103)).bind fun a21 =>
            (dA Kz17 3 1 a21).bind fun a22 =>
            (eA Kz17 5 a22 t16).bind fun a23 =>
            (dI Kz17 6 2 a23).bind fun v24 =>
            if (if (v24 + 2) < 9 then (v24 + 2) else 9) ≤ (if v20 < v19 then v20 else v19) then
            fX0_opens_J143 z17_1 z17_2 Kz17 t15 t16 0
            else
            fX0_opens_J143 z17_1 z17_2 Kz17 t15 t16 1
      else
      some (.inl (z17_1, (z17_2 + 1), t11.2, Kz17))
noncomputable def fX0_opens_X17 (t17_1 : Int32) (Ct17 : FS) (Kt17 : KT) : Option (Int32 × FS × KT) :=
  some (t17_1, Ct17, Kt17)
noncomputable def fX0_opens (C : FS) (K : KT) : Option (Int32 × FS × KT) :=
  ((C.2.2.1 103)).bind fun a1 =>
  (dI K 3 10 a1).bind fun v2 =>
  (uV K 3 10 a1 (.int (v2 + 1))).bind fun K3 =>
  (lp (fun z => fX0_opens_L17 z.1 z.2.1 z.2.2.1 z.2.2.2) (0, 0, C, K3)).bind fun t =>
  fX0_opens_X17 t.1 t.2.1 t.2.2
noncomputable def fX0_open (C : FS) (K : KT) (p1 : Int32) : Option (Int32 × FS × KT) :=
  (fX0_isFrom p1.toInt64 0 9999).bind fun t1 =>
  if t1 = 0 then
  (fX0_none C 5).bind fun t6 =>
    some (t6.1, t6.2, K)
  else
  (some (sI C 111 p1)).bind fun C2 =>
    (fX0_opens C2 K).bind fun t3 =>
    (gM K t3.2.2).bind fun g4 =>
    (fX0_gives t3.2.1 t3.1).bind fun t5 =>
    some (t5.1, t5.2, t3.2.2)
noncomputable def fX0_lump (C : FS) (K : KT) (p1 : Int32) : Option (Int32 × FS) :=
  (fX0_wrongLead C K p1).bind fun t1 =>
  if t1 ≤ 0 then
  ((C.2.2.1 103)).bind fun a2 =>
    (gC K 3 a2).bind fun g3 =>
    (fX4_lump K a2 p1).bind fun t4 =>
    (fX0_gives C t4).bind fun t5 =>
    some (t5.1, t5.2)
  else
  (fX0_none C t1).bind fun t6 =>
    some (t6.1, t6.2)
noncomputable def fX4_largest_L4 (K : KT) (a : Nat) (z4_1 : Int32) (z4_2 : Int32) : Option ((Int32 × Int32) ⊕ (Int32)) :=
  (dI K 3 5 a).bind fun v1 =>
  if v1 ≤ z4_2 then
  some (.inr z4_1)
  else
  (dA K 3 1 a).bind fun a2 =>
    (eA K 5 a2 z4_2).bind fun a3 =>
    (dI K 6 8 a3).bind fun v4 =>
    if v4 = 0 then
    (gC K 3 a).bind fun g5 =>
      (fX4_lump K a z4_2).bind fun t6 =>
      (fJ12_bitCount t6).bind fun t7 =>
      some (.inl ((if z4_1 < t7 then t7 else z4_1), (z4_2 + 1)))
    else
    some (.inl (z4_1, (z4_2 + 1)))
noncomputable def fX4_largest (K : KT) (a : Nat) : Option Int32 :=
  (lp (fun z => fX4_largest_L4 K a z.1 z.2) (0, 0)).bind fun t4_1 =>
  some t4_1
noncomputable def fX4_comes (K : KT) (a : Nat) (p1 : Int32) : Option Int32 :=
  (gC K 3 a).bind fun g1 =>
  (fX4_lump K a p1).bind fun t2 =>
  if t2 = (1 <<< (p1 &&& 31)) then
  some 1
  else
  some 0
noncomputable def fX0_lumps_L37 (C : FS) (K : KT) (z37_2 : Int32) (z37_3 : Int32) : Option ((Int32 × Int32) ⊕ (Int32)) :=
  ((C.2.2.1 103)).bind fun a2 =>
  (dI K 3 5 a2).bind fun v3 =>
  if v3 ≤ z37_3 then
  some (.inr z37_2)
  else
  ((C.2.2.1 103)).bind fun a4 =>
    (dA K 3 1 a4).bind fun a5 =>
    (eA K 5 a5 z37_3).bind fun a6 =>
    (dI K 6 8 a6).bind fun v7 =>
    if v7 = 0 then
    ((C.2.2.1 103)).bind fun a8 =>
      (gC K 3 a8).bind fun g9 =>
      (fX4_comes K a8 z37_3).bind fun t10 =>
      if t10 = 0 then
      ((C.2.2.1 103)).bind fun a11 =>
        (gC K 3 a11).bind fun g12 =>
        (fX4_lump K a11 z37_3).bind fun t13 =>
        if (t13 &&& ((1 <<< (z37_3 &&& 31)) - 1)) = 0 then
        some (.inl ((z37_2 + 1), (z37_3 + 1)))
        else
        some (.inl ((z37_2 + 0), (z37_3 + 1)))
      else
      some (.inl (z37_2, (z37_3 + 1)))
    else
    some (.inl (z37_2, (z37_3 + 1)))
noncomputable def fX0_lumps (C : FS) (K : KT) (p1 : Int32) : Option (Int32 × FS) :=
  (fX0_isFrom p1.toInt64 0 1).bind fun t1 =>
  if t1 = 0 then
  (fX0_none C 5).bind fun t19 =>
    some (t19.1, t19.2)
  else
  if p1 = 1 then
    ((C.2.2.1 103)).bind fun a15 =>
      (gC K 3 a15).bind fun g16 =>
      (fX4_largest K a15).bind fun t17 =>
      (fX0_gives C t17).bind fun t18 =>
      some (t18.1, t18.2)
    else
    (lp (fun z => fX0_lumps_L37 C K z.1 z.2) (0, 0)).bind fun t37_2 =>
      (fX0_gives C t37_2).bind fun t14 =>
      some (t14.1, t14.2)
noncomputable def fX0_comes (C : FS) (K : KT) (p1 : Int32) : Option (Int32 × FS) :=
  (fX0_wrongLead C K p1).bind fun t1 =>
  if t1 ≤ 0 then
  ((C.2.2.1 103)).bind fun a2 =>
    (gC K 3 a2).bind fun g3 =>
    (fX4_comes K a2 p1).bind fun t4 =>
    if t4 = 0 then
    (fX0_gives C 0).bind fun t5 =>
      some (t5.1, t5.2)
    else
    (fX0_gives C 1).bind fun t6 =>
      some (t6.1, t6.2)
  else
  (fX0_none C t1).bind fun t7 =>
    some (t7.1, t7.2)
noncomputable def fX0_easy_L4 (C : FS) (K : KT) (z4_1 : Int32) (z4_2 : Int32) : Option ((Int32 × Int32) ⊕ (Int32)) :=
  ((C.2.2.1 103)).bind fun a1 =>
  (dI K 3 5 a1).bind fun v2 =>
  if v2 ≤ z4_2 then
  some (.inr z4_1)
  else
  ((C.2.2.1 103)).bind fun a3 =>
    (dA K 3 1 a3).bind fun a4 =>
    (eA K 5 a4 z4_2).bind fun a5 =>
    (dI K 6 8 a5).bind fun v6 =>
    if v6 = 0 then
    ((C.2.2.1 103)).bind fun a7 =>
      (gC K 3 a7).bind fun g8 =>
      (fX4_comes K a7 z4_2).bind fun t9 =>
      if t9 = 0 then
      some (.inl ((z4_1 ||| 0), (z4_2 + 1)))
      else
      some (.inl ((z4_1 ||| (1 <<< (z4_2 &&& 31))), (z4_2 + 1)))
    else
    some (.inl ((z4_1 ||| 0), (z4_2 + 1)))
noncomputable def fX0_easy (C : FS) (K : KT) : Option (Int32 × FS) :=
  (lp (fun z => fX0_easy_L4 C K z.1 z.2) (0, 0)).bind fun t4_1 =>
  (fX0_gives C t4_1).bind fun t10 =>
  some (t10.1, t10.2)
noncomputable def fX4_isFree (K : KT) (a : Nat) (p1 : Int32) : Option Int32 :=
  (dA K 3 1 a).bind fun a1 =>
  (eA K 5 a1 p1).bind fun a2 =>
  (dI K 6 8 a2).bind fun v3 =>
  if v3 = 0 then
  (gC K 3 a).bind fun g4 =>
    (fX4_crossings K a p1).bind fun t5 =>
    if t5 = 0 then
    some 1
    else
    some 0
  else
  some 0
noncomputable def fX0_free (C : FS) (K : KT) (p1 : Int32) : Option (Int32 × FS) :=
  (fX0_isLead C K p1).bind fun t1 =>
  if t1 = 0 then
  (fX0_none C 2).bind fun t2 =>
    some (t2.1, t2.2)
  else
  ((C.2.2.1 103)).bind fun a3 =>
    (gC K 3 a3).bind fun g4 =>
    (fX4_isFree K a3 p1).bind fun t5 =>
    if t5 = 0 then
    (fX0_gives C 0).bind fun t6 =>
      some (t6.1, t6.2)
    else
    (fX0_gives C 1).bind fun t7 =>
      some (t7.1, t7.2)
noncomputable def fX0_stateMany_L4 (C : FS) (K : KT) (p1 : Int32) (z4_2 : Int32) (z4_3 : Int32) : Option ((Int32 × Int32) ⊕ (Int32)) :=
  ((C.2.2.1 103)).bind fun a1 =>
  (dI K 3 6 a1).bind fun v2 =>
  if v2 ≤ z4_3 then
  some (.inr z4_2)
  else
  ((C.2.2.1 103)).bind fun a3 =>
    (dA K 3 2 a3).bind fun a4 =>
    (eA K 4 a4 z4_3).bind fun a5 =>
    (vState K a5).bind fun t6 =>
    if t6 = p1 then
    some (.inl ((z4_2 + 1), (z4_3 + 1)))
    else
    some (.inl ((z4_2 + 0), (z4_3 + 1)))
noncomputable def fX0_stateMany (C : FS) (K : KT) (p1 : Int32) : Option Int32 :=
  (lp (fun z => fX0_stateMany_L4 C K p1 z.1 z.2) (0, 0)).bind fun t4_2 =>
  some t4_2
noncomputable def fX0_inState (C : FS) (K : KT) (p1 : Int32) : Option (Int32 × FS) :=
  (fX0_isFrom p1.toInt64 0 3).bind fun t1 =>
  if t1 = 0 then
  (fX0_none C 5).bind fun t2 =>
    some (t2.1, t2.2)
  else
  (fX0_stateMany C K p1).bind fun t3 =>
    (fX0_gives C t3).bind fun t4 =>
    some (t4.1, t4.2)
noncomputable def fX4_init (K : KT) (a : Nat) (p1 : Nat) : Option KT :=
  (mkE K 5 (8, .inr (.inr (.inr (.inr (fun _ => none)))))).bind fun K1 =>
  (uV K1 3 1 a (va_rf (some K.2.1))).bind fun K2 =>
  (mkE K2 4 (24, .inr (.inr (.inr (.inr (fun _ => none)))))).bind fun K3 =>
  (uV K3 3 2 a (va_rf (some K2.2.1))).bind fun K4 =>
  (mkE K4 3 (3, .inr (.inl (fun _ => 0)))).bind fun K5 =>
  (uV K5 3 3 a (va_rf (some K4.2.1))).bind fun K6 =>
  (mkE K6 2 (3, .inl (fun _ => 0))).bind fun K7 =>
  (uV K7 3 4 a (va_rf (some K6.2.1))).bind fun K8 =>
  (uV K8 3 0 a (va_rf (some p1))).bind fun K9 =>
  some K9
noncomputable def fX7_init (K : KT) (a : Nat) (p1 : Int64) : Option KT :=
  (uV K 6 3 a (.int 3)).bind fun K1 =>
  (uV K1 6 4 a (.int 3)).bind fun K2 =>
  (uV K2 6 0 a (.long p1)).bind fun K3 =>
  some K3
noncomputable def fX7_twin (K : KT) (a : Nat) : Option (Nat × KT) :=
  (mkO K 6 [.long 0, .int 0, .int 0, .int 0, .int 0, .int 0, .int 0, .int 0, .int 0]).bind fun K1 =>
  (dL K1 6 0 a).bind fun v2 =>
  (fX7_init K1 K.2.1 v2).bind fun t3 =>
  (gE K1 t3).bind fun g4 =>
  (dI t3 6 1 a).bind fun v5 =>
  (uV t3 6 1 K.2.1 (.int v5)).bind fun K6 =>
  (dI K6 6 2 a).bind fun v7 =>
  (uV K6 6 2 K.2.1 (.int v7)).bind fun K8 =>
  (dI K8 6 3 a).bind fun v9 =>
  (uV K8 6 3 K.2.1 (.int v9)).bind fun K10 =>
  (dI K10 6 4 a).bind fun v11 =>
  (uV K10 6 4 K.2.1 (.int v11)).bind fun K12 =>
  (dI K12 6 5 a).bind fun v13 =>
  (uV K12 6 5 K.2.1 (.int v13)).bind fun K14 =>
  (dI K14 6 6 a).bind fun v15 =>
  (uV K14 6 6 K.2.1 (.int v15)).bind fun K16 =>
  (dI K16 6 7 a).bind fun v17 =>
  (bz v17).bind fun b18 =>
  (uV K16 6 7 K.2.1 (.int v17)).bind fun K19 =>
  (dI K19 6 8 a).bind fun v20 =>
  (bz v20).bind fun b21 =>
  (uV K19 6 8 K.2.1 (.int v20)).bind fun K22 =>
  some (K.2.1, K22)
noncomputable def fX4_twin_L14 (K : KT) (a : Nat) (z14_2 : Int32) (Kz14 : KT) : Option ((Int32 × KT) ⊕ (KT)) :=
  (dI Kz14 3 5 a).bind fun v5 =>
  if v5 ≤ z14_2 then
  some (.inr Kz14)
  else
  (dA Kz14 3 1 K.2.1).bind fun a6 =>
    (dA Kz14 3 1 a).bind fun a7 =>
    (eA Kz14 5 a7 z14_2).bind fun a8 =>
    (gC Kz14 6 a8).bind fun g9 =>
    (fX7_twin Kz14 a8).bind fun t10 =>
    (gM Kz14 t10.2).bind fun g11 =>
    (wR t10.2 5 a6 z14_2 t10.1).bind fun K12 =>
    some (.inl ((z14_2 + 1), K12))
noncomputable def fX4_twin (K : KT) (a : Nat) : Option (Nat × KT) :=
  (mkO K 3 [.null, .null, .null, .null, .null, .int 0, .int 0, .int 0, .int 0, .int 0, .int 0]).bind fun K1 =>
  (dA K1 3 0 a).bind fun a2 =>
  (fX4_init K1 K.2.1 a2).bind fun t3 =>
  (gM K1 t3).bind fun g4 =>
  (lp (fun z => fX4_twin_L14 K a z.1 z.2) (0, t3)).bind fun Kt14 =>
  (dA Kt14 3 2 a).bind fun a13 =>
  (dA Kt14 3 2 K.2.1).bind fun a14 =>
  (cpQ Kt14 4 a13 0 a14 0 24).bind fun K15 =>
  (dA K15 3 3 a).bind fun a16 =>
  (dA K15 3 3 K.2.1).bind fun a17 =>
  (cpL K15 a16 0 a17 0 3).bind fun K18 =>
  (dA K18 3 4 a).bind fun a19 =>
  (dA K18 3 4 K.2.1).bind fun a20 =>
  (cpI K18 a19 0 a20 0 3).bind fun K21 =>
  (dI K21 3 5 a).bind fun v22 =>
  (uV K21 3 5 K.2.1 (.int v22)).bind fun K23 =>
  (dI K23 3 6 a).bind fun v24 =>
  (uV K23 3 6 K.2.1 (.int v24)).bind fun K25 =>
  (dI K25 3 7 a).bind fun v26 =>
  (uV K25 3 7 K.2.1 (.int v26)).bind fun K27 =>
  (dI K27 3 8 a).bind fun v28 =>
  (uV K27 3 8 K.2.1 (.int v28)).bind fun K29 =>
  (dI K29 3 9 a).bind fun v30 =>
  (uV K29 3 9 K.2.1 (.int v30)).bind fun K31 =>
  (dI K31 3 10 a).bind fun v32 =>
  (uV K31 3 10 K.2.1 (.int v32)).bind fun K33 =>
  some (K.2.1, K33)
noncomputable def fX0_worse (C : FS) (K : KT) (p1 : Int32) (p2 : Int32) : Option (Int32 × FS × KT) :=
  (fX0_isLead C K p1).bind fun t1 =>
  if t1 = 0 then
  (fX0_none C 2).bind fun t22 =>
    some (t22.1, t22.2, K)
  else
  (fX0_isFrom p2.toInt64 0 3).bind fun t2 =>
    if t2 = 0 then
    (fX0_none C 5).bind fun t21 =>
      some (t21.1, t21.2, K)
    else
    ((C.2.2.1 103)).bind fun a3 =>
      (dA K 3 1 a3).bind fun a4 =>
      (eA K 5 a4 p1).bind fun a5 =>
      (dI K 6 8 a5).bind fun v6 =>
      if v6 = 0 then
      ((C.2.2.1 103)).bind fun a7 =>
        (fX0_stateMany C K p2).bind fun t8 =>
        (gC K 3 a7).bind fun g9 =>
        (fX4_twin K a7).bind fun t10 =>
        (gM K t10.2).bind fun g11 =>
        (some (sR C 103 (some t10.1))).bind fun C12 =>
        ((C12.2.2.1 103)).bind fun a13 =>
        (gC t10.2 3 a13).bind fun g14 =>
        (fX4_pulls t10.2 a13 p1).bind fun t15 =>
        (gM t10.2 t15.2).bind fun g16 =>
        (fX0_stateMany C12 t15.2 p2).bind fun t17 =>
        (some (sR C12 103 (some a7))).bind fun C18 =>
        (fX0_gives C18 (t17 - t8)).bind fun t19 =>
        some (t19.1, t19.2, t15.2)
      else
      (fX0_none C 9).bind fun t20 =>
        some (t20.1, t20.2, K)
noncomputable def fX0_worst_L4 (C : FS) (K : KT) (z4_1 : Int32) (z4_2 : Int32) : Option ((Int32 × Int32) ⊕ (Int32)) :=
  ((C.2.2.1 103)).bind fun a1 =>
  (dI K 3 5 a1).bind fun v2 =>
  if v2 ≤ z4_2 then
  some (.inr z4_1)
  else
  ((C.2.2.1 103)).bind fun a3 =>
    (dA K 3 1 a3).bind fun a4 =>
    (eA K 5 a4 z4_2).bind fun a5 =>
    (dI K 6 8 a5).bind fun v6 =>
    if v6 = 0 then
    if z4_1 = (-1) then
      some (.inl (z4_2, (z4_2 + 1)))
      else
      ((C.2.2.1 103)).bind fun a7 =>
        (gC K 3 a7).bind fun g8 =>
        (fX4_crossings K a7 z4_2).bind fun t9 =>
        ((C.2.2.1 103)).bind fun a10 =>
        (gC K 3 a10).bind fun g11 =>
        (fX4_crossings K a10 z4_1).bind fun t12 =>
        if t9 ≤ t12 then
        some (.inl (z4_1, (z4_2 + 1)))
        else
        some (.inl (z4_2, (z4_2 + 1)))
    else
    some (.inl (z4_1, (z4_2 + 1)))
noncomputable def fX0_worst (C : FS) (K : KT) : Option (Int32 × FS) :=
  (lp (fun z => fX0_worst_L4 C K z.1 z.2) ((-1), 0)).bind fun t4_1 =>
  (fX0_orNothing C t4_1).bind fun t13 =>
  some (t13.1, t13.2)
noncomputable def fX0_key_J74 (z12_4 : Int32) (C9 : FS) (t12 : Int32 × KT) : Option ((Int32 × Int32 × Int32 × FS × KT) ⊕ (Int32 × FS × KT)) :=
  ((C9.2.2.1 103)).bind fun a14 =>
  (gC t12.2 3 a14).bind fun g15 =>
  (fX4_largest t12.2 a14).bind fun t16 =>
  some (.inl (z12_4, t16, (z12_4 + 1), C9, t12.2))
noncomputable def fX0_key_L12 (a1 : Nat) (z12_2 : Int32) (z12_3 : Int32) (z12_4 : Int32) (Cz12 : FS) (Kz12 : KT) : Option ((Int32 × Int32 × Int32 × FS × KT) ⊕ (Int32 × FS × KT)) :=
  (dI Kz12 3 5 a1).bind fun v2 =>
  if v2 ≤ z12_4 then
  some (.inr (z12_2, Cz12, Kz12))
  else
  (dA Kz12 3 1 a1).bind fun a3 =>
    (eA Kz12 5 a3 z12_4).bind fun a4 =>
    (dI Kz12 6 8 a4).bind fun v5 =>
    if v5 = 0 then
    (gC Kz12 3 a1).bind fun g6 =>
      (fX4_twin Kz12 a1).bind fun t7 =>
      (gM Kz12 t7.2).bind fun g8 =>
      (some (sR Cz12 103 (some t7.1))).bind fun C9 =>
      ((C9.2.2.1 103)).bind fun a10 =>
      (gC t7.2 3 a10).bind fun g11 =>
      (fX4_cuts t7.2 a10 z12_4).bind fun t12 =>
      (gE t7.2 t12.2).bind fun g13 =>
      if z12_2 = (-1) then
      fX0_key_J74 z12_4 C9 t12 
      else
      ((C9.2.2.1 103)).bind fun a17 =>
        (gC t12.2 3 a17).bind fun g18 =>
        (fX4_largest t12.2 a17).bind fun t19 =>
        if t19 < z12_3 then
        fX0_key_J74 z12_4 C9 t12 
        else
        some (.inl (z12_2, z12_3, (z12_4 + 1), C9, t12.2))
    else
    some (.inl (z12_2, z12_3, (z12_4 + 1), Cz12, Kz12))
noncomputable def fX0_key_X12 (a1 : Nat) (t12_2 : Int32) (Ct12 : FS) (Kt12 : KT) : Option (Int32 × FS × KT) :=
  (some (sR Ct12 103 (some a1))).bind fun C20 =>
  (fX0_orNothing C20 t12_2).bind fun t21 =>
  some (t21.1, t21.2, Kt12)
noncomputable def fX0_key (C : FS) (K : KT) : Option (Int32 × FS × KT) :=
  ((C.2.2.1 103)).bind fun a1 =>
  (lp (fun z => fX0_key_L12 a1 z.1 z.2.1 z.2.2.1 z.2.2.2.1 z.2.2.2.2) ((-1), 0, 0, C, K)).bind fun t =>
  fX0_key_X12 a1 t.1 t.2.1 t.2.2
noncomputable def fX0_loosened (p1 : Int32) (p2 : Int32) : Option Int32 :=
  if p1 = 3 then
  some p1
  else
  some (if (-1) < (p1 - p2) then (p1 - p2) else (-1))
noncomputable def fX0_lays_L8 (K : KT) (p1 : Int32) (p2 : Int32) (p3 : Int32) (z8_4 : Int32) (Cz8 : FS) : Option ((Int32 × FS) ⊕ (FS)) :=
  ((Cz8.2.2.1 103)).bind fun a2 =>
  (dI K 3 6 a2).bind fun v3 =>
  if v3 ≤ z8_4 then
  some (.inr Cz8)
  else
  ((Cz8.2.2.1 103)).bind fun a4 =>
    (dA K 3 2 a4).bind fun a5 =>
    (eA K 4 a5 z8_4).bind fun a6 =>
    (vState K a6).bind fun t7 =>
    (fX0_loosened t7 p3).bind fun t8 =>
    if t8 = (-1) then
    some (.inl ((z8_4 + 1), Cz8))
    else
    (vIsOf K a6 p1).bind fun t9 =>
      if t9 = 0 then
      some (.inl ((z8_4 + 1), Cz8))
      else
      (vOther K a6 p1).bind fun t10 =>
        if ((p2 >>> (t10 &&& 31)) &&& 1) = 1 then
        some (.inl ((z8_4 + 1), Cz8))
        else
        (wA Cz8 112 24 (Cz8.1 114) t8).bind fun C11 =>
          (vOther K a6 p1).bind fun t12 =>
          (wA C11 113 24 (C11.1 114) t12).bind fun C13 =>
          (some (sI C13 114 ((C13.1 114) + 1))).bind fun C14 =>
          some (.inl ((z8_4 + 1), C14))
noncomputable def fX0_lays (C : FS) (K : KT) (p1 : Int32) (p2 : Int32) (p3 : Int32) : Option FS :=
  (some (sI C 114 0)).bind fun C1 =>
  (lp (fun z => fX0_lays_L8 K p1 p2 p3 z.1 z.2) (0, C1)).bind fun Ct8 =>
  some Ct8
noncomputable def fX0_secondsAt_J44 (C : FS) (K : KT) (p1 : Int32) (y0_44 : Int32) : Option Int32 :=
  ((C.2.2.1 103)).bind fun a2 =>
  (dA K 3 1 a2).bind fun a3 =>
  (rA C 113 24 p1).bind fun v4 =>
  (eA K 5 a3 v4).bind fun a5 =>
  (dI K 6 2 a5).bind fun v6 =>
  some (y0_44 + v6)
noncomputable def fX0_secondsAt (C : FS) (K : KT) (p1 : Int32) : Option Int32 :=
  (rA C 112 24 p1).bind fun v1 =>
  if v1 = 0 then
  fX0_secondsAt_J44 C K p1 1
  else
  (rA C 112 24 p1).bind fun v7 =>
    if v7 = 1 then
    fX0_secondsAt_J44 C K p1 3
    else
    (rA C 112 24 p1).bind fun v8 =>
      if v8 = 2 then
      fX0_secondsAt_J44 C K p1 6
      else
      fX0_secondsAt_J44 C K p1 15
noncomputable def fX0_secondsBy_J45 (C : FS) (K : KT) (z19_3 : Int32) (z19_4 : Int32) : Option ((Int32 × Int32) ⊕ (Int32 ⊕ (Int32))) :=
  (fX0_secondsAt C K z19_4).bind fun t1 =>
  some (.inl ((z19_3 + t1), (z19_4 + 1)))
noncomputable def fX0_secondsBy_L19 (C : FS) (K : KT) (p1 : Int32) (p2 : Int32) (z19_3 : Int32) (z19_4 : Int32) : Option ((Int32 × Int32) ⊕ (Int32 ⊕ (Int32))) :=
  if (C.1 114) ≤ z19_4 then
  some (.inr (.inr z19_3))
  else
  if z19_4 < p1 then
    fX0_secondsBy_J45 C K z19_3 z19_4 
    else
    if z19_4 < ((C.1 114) - p2) then
      (rA C 112 24 z19_4).bind fun v2 =>
        if v2 ≤ 0 then
        some (.inl (z19_3, (z19_4 + 1)))
        else
        some (.inr (.inl 1000000))
      else
      fX0_secondsBy_J45 C K z19_3 z19_4 
noncomputable def fX0_secondsBy_J15 (C : FS) (K : KT) (p1 : Int32) (p2 : Int32) (y0_15 : Int32) : Option Int32 :=
  (lp (fun z => fX0_secondsBy_L19 C K p1 p2 z.1 z.2) (y0_15, 0)).bind (Sum.elim (fun v => some v) (fun t19_3 =>
  some t19_3))
noncomputable def fX0_secondsBy (C : FS) (K : KT) (p1 : Int32) (p2 : Int32) : Option Int32 :=
  if (C.1 114) ≤ (p1 + p2) then
  fX0_secondsBy_J15 C K p1 p2 0
  else
  fX0_secondsBy_J15 C K p1 p2 2
noncomputable def fX0_least_L27 (K : KT) (z15_5 : Int32) (z27_4 : Int32) (z27_6 : Int32) (Cz27 : FS) : Option ((Int32 × Int32 × FS) ⊕ (Int32 × FS)) :=
  if (Cz27.1 114) < (z15_5 + z27_6) then
  some (.inr (z27_4, Cz27))
  else
  (fX0_secondsBy Cz27 K z15_5 z27_6).bind fun t2 =>
    if t2 < z27_4 then
    (some (sI Cz27 115 z15_5)).bind fun C3 =>
      (some (sI C3 116 z27_6)).bind fun C4 =>
      some (.inl (t2, (z27_6 + 1), C4))
    else
    some (.inl (z27_4, (z27_6 + 1), Cz27))
noncomputable def fX0_least_X27 (z15_5 : Int32) (t27_4 : Int32) (Ct27 : FS) : Option ((Int32 × Int32 × FS) ⊕ (Int32 × FS)) :=
  some (.inl (t27_4, (z15_5 + 1), Ct27))
noncomputable def fX0_least_L15 (K : KT) (z15_4 : Int32) (z15_5 : Int32) (Cz15 : FS) : Option ((Int32 × Int32 × FS) ⊕ (Int32 × FS)) :=
  if (Cz15.1 114) < z15_5 then
  some (.inr (z15_4, Cz15))
  else
  (lp (fun z => fX0_least_L27 K z15_5 z.1 z.2.1 z.2.2) (z15_4, 0, Cz15)).bind fun t =>
    fX0_least_X27 z15_5 t.1 t.2
noncomputable def fX0_least_X15 (t15_4 : Int32) (Ct15 : FS) : Option (Int32 × FS) :=
  some (t15_4, Ct15)
noncomputable def fX0_least (C : FS) (K : KT) (p1 : Int32) (p2 : Int32) (p3 : Int32) : Option (Int32 × FS) :=
  (fX0_lays C K p1 p2 p3).bind fun t1 =>
  (lp (fun z => fX0_least_L15 K z.1 z.2.1 z.2.2) (1000000, 0, t1)).bind fun t =>
  fX0_least_X15 t.1 t.2
noncomputable def fX0_leftBy_L4 (C : FS) (K : KT) (p1 : Int32) (z4_2 : Int32) (z4_3 : Int32) : Option ((Int32 × Int32) ⊕ (Int32)) :=
  ((C.2.2.1 103)).bind fun a1 =>
  (dI K 3 6 a1).bind fun v2 =>
  if v2 ≤ z4_3 then
  some (.inr z4_2)
  else
  ((C.2.2.1 103)).bind fun a3 =>
    (dA K 3 2 a3).bind fun a4 =>
    (eA K 4 a4 z4_3).bind fun a5 =>
    (vState K a5).bind fun t6 =>
    (fX0_loosened t6 p1).bind fun t7 =>
    if t7 = (-1) then
    some (.inl ((z4_2 + 0), (z4_3 + 1)))
    else
    some (.inl ((z4_2 + 1), (z4_3 + 1)))
noncomputable def fX0_leftBy (C : FS) (K : KT) (p1 : Int32) : Option Int32 :=
  (lp (fun z => fX0_leftBy_L4 C K p1 z.1 z.2) (0, 0)).bind fun t4_2 =>
  some t4_2
noncomputable def fX0_aloneOf_L9 (K : KT) (p1 : Int32) (z9_2 : Int32) (z9_3 : Int32) (z9_4 : Int32) (Cz9 : FS) : Option ((Int32 × Int32 × Int32 × FS) ⊕ (Int32 × FS)) :=
  if 4 ≤ z9_4 then
  some (.inr (z9_2, Cz9))
  else
  (fX0_least Cz9 K p1 0 z9_4).bind fun t1 =>
    (fX0_leftBy t1.2 K z9_4).bind fun t2 =>
    if (z9_3 + t1.1) < z9_2 then
    (wA t1.2 117 4 0 z9_4).bind fun C3 =>
      (wA C3 117 4 1 (C3.1 115)).bind fun C4 =>
      (wA C4 117 4 2 (C4.1 116)).bind fun C5 =>
      if (C5.1 114) ≤ ((C5.1 115) + (C5.1 116)) then
      (wA C5 117 4 3 0).bind fun C6 =>
        some (.inl ((z9_3 + t1.1), (z9_3 + t2), (z9_4 + 1), C6))
      else
      (wA C5 117 4 3 1).bind fun C7 =>
        some (.inl ((z9_3 + t1.1), (z9_3 + t2), (z9_4 + 1), C7))
    else
    some (.inl (z9_2, (z9_3 + t2), (z9_4 + 1), t1.2))
noncomputable def fX0_aloneOf_X9 (t9_2 : Int32) (Ct9 : FS) : Option (Int32 × FS) :=
  some (t9_2, Ct9)
noncomputable def fX0_aloneOf (C : FS) (K : KT) (p1 : Int32) : Option (Int32 × FS) :=
  (lp (fun z => fX0_aloneOf_L9 K p1 z.1 z.2.1 z.2.2.1 z.2.2.2) (1000000, 0, 0, C)).bind fun t =>
  fX0_aloneOf_X9 t.1 t.2
noncomputable def fX0_alone (C : FS) (K : KT) (p1 : Int32) : Option (Int32 × FS) :=
  (fX0_wrongLead C K p1).bind fun t1 =>
  if t1 ≤ 0 then
  (fX0_aloneOf C K p1).bind fun t2 =>
    (cpF t2.2 117 4 0 119 4 0 4).bind fun C3 =>
    (some (sI C3 118 1)).bind fun C4 =>
    (fX0_gives C4 t2.1).bind fun t5 =>
    some (t5.1, t5.2)
  else
  (fX0_none C t1).bind fun t6 =>
    some (t6.1, t6.2)
noncomputable def fX0_way (C : FS) (p1 : Int32) : Option (Int32 × FS) :=
  (fX0_isFrom p1.toInt64 0 3).bind fun t1 =>
  if t1 = 0 then
  (fX0_none C 5).bind fun t5 =>
    some (t5.1, t5.2)
  else
  if (C.1 118) = 0 then
    (fX0_none C 8).bind fun t2 =>
      some (t2.1, t2.2)
    else
    (rA C 119 4 p1).bind fun v3 =>
      (fX0_gives C v3).bind fun t4 =>
      some (t4.1, t4.2)
noncomputable def fX0_follows_J96 (K : KT) (t2 : FS) (z68_5 : Int32) (z68_6 : Int32) : Option ((Int32 × Int32) ⊕ (Int32)) :=
  (fX0_secondsAt t2 K z68_6).bind fun t6 =>
  some (.inl ((z68_5 + t6), (z68_6 + 1)))
noncomputable def fX0_follows_L68 (K : KT) (p2 : Int32) (p3 : Int32) (t2 : FS) (z68_5 : Int32) (z68_6 : Int32) : Option ((Int32 × Int32) ⊕ (Int32)) :=
  if (t2.1 114) ≤ z68_6 then
  some (.inr z68_5)
  else
  if z68_6 < p2 then
    fX0_follows_J96 K t2 z68_5 z68_6 
    else
    if z68_6 < ((t2.1 114) - p3) then
      some (.inl ((z68_5 + 0), (z68_6 + 1)))
      else
      fX0_follows_J96 K t2 z68_5 z68_6 
noncomputable def fX0_follows (C : FS) (K : KT) (p1 : Int32) (p2 : Int32) (p3 : Int32) : Option (Int32 × FS) :=
  (fX0_wrongLead C K p1).bind fun t1 =>
  if t1 ≤ 0 then
  (fX0_lays C K p1 0 0).bind fun t2 =>
    (fX0_isFrom p2.toInt64 0 ((t2.1 114).toInt64)).bind fun t3 =>
    if t3 = 0 then
    (fX0_none t2 5).bind fun t4 =>
      some (t4.1, t4.2)
    else
    (fX0_isFrom p3.toInt64 0 (((t2.1 114) - p2).toInt64)).bind fun t5 =>
      if t5 = 0 then
      (fX0_none t2 5).bind fun t8 =>
        some (t8.1, t8.2)
      else
      (lp (fun z => fX0_follows_L68 K p2 p3 t2 z.1 z.2) (0, 0)).bind fun t68_5 =>
        (fX0_gives t2 t68_5).bind fun t7 =>
        some (t7.1, t7.2)
  else
  (fX0_none C t1).bind fun t9 =>
    some (t9.1, t9.2)
noncomputable def fX0_restOf_L42 (K : KT) (p1 : Int32) (t3 : Int32) (z10_3 : Int32) (z42_4 : Int32) (z42_5 : Int32) (Cz42 : FS) : Option ((Int32 × Int32 × FS) ⊕ (Int32 × FS)) :=
  ((Cz42.2.2.1 103)).bind fun a4 =>
  (dI K 3 5 a4).bind fun v5 =>
  if v5 ≤ z42_5 then
  some (.inr (z42_4, Cz42))
  else
  if (((t3 &&& (z10_3 ^^^ (-1))) >>> (z42_5 &&& 31)) &&& 1) = 1 then
    (fX0_least Cz42 K z42_5 z10_3 p1).bind fun t6 =>
      (rA t6.2 120 256 (z10_3 ||| (1 <<< (z42_5 &&& 31)))).bind fun v7 =>
      some (.inl ((if (t6.1 + v7) < z42_4 then (t6.1 + v7) else z42_4), (z42_5 + 1), t6.2))
    else
    some (.inl (z42_4, (z42_5 + 1), Cz42))
noncomputable def fX0_restOf_X42 (z10_3 : Int32) (t42_4 : Int32) (Ct42 : FS) : Option ((Int32 × FS) ⊕ (FS)) :=
  (wA Ct42 120 256 z10_3 t42_4).bind fun C8 =>
  some (.inl ((z10_3 + (-1)), C8))
noncomputable def fX0_restOf_J37 (K : KT) (p1 : Int32) (t3 : Int32) (z10_3 : Int32) (Cz10 : FS) (y0_37 : Int32) : Option ((Int32 × FS) ⊕ (FS)) :=
  (lp (fun z => fX0_restOf_L42 K p1 t3 z10_3 z.1 z.2.1 z.2.2) (y0_37, 0, Cz10)).bind fun t =>
  fX0_restOf_X42 z10_3 t.1 t.2
noncomputable def fX0_restOf_L10 (K : KT) (p1 : Int32) (t3 : Int32) (z10_3 : Int32) (Cz10 : FS) : Option ((Int32 × FS) ⊕ (FS)) :=
  if z10_3 < 0 then
  some (.inr Cz10)
  else
  if (z10_3 &&& (t3 ^^^ (-1))) = 0 then
    if z10_3 = t3 then
      fX0_restOf_J37 K p1 t3 z10_3 Cz10 0
      else
      fX0_restOf_J37 K p1 t3 z10_3 Cz10 1000000
    else
    some (.inl ((z10_3 + (-1)), Cz10))
noncomputable def fX0_restOf (C : FS) (K : KT) (p1 : Int32) : Option (Int32 × FS) :=
  ((C.2.2.1 103)).bind fun a1 =>
  (gC K 3 a1).bind fun g2 =>
  (fX4_inSet K a1).bind fun t3 =>
  (lp (fun z => fX0_restOf_L10 K p1 t3 z.1 z.2) (t3, C)).bind fun Ct10 =>
  (rA Ct10 120 256 0).bind fun v9 =>
  some (v9, Ct10)
noncomputable def fX0_ordersBy_L23 (K : KT) (p1 : Int32) (t3 : Int32) (z15_3 : Int32) (z23_4 : Int32) (Cz23 : FS) : Option ((Int32 × FS) ⊕ (Int32 × FS)) :=
  if (((t3 &&& (z15_3 ^^^ (-1))) >>> (z23_4 &&& 31)) &&& 1) = 0 then
  some (.inl ((z23_4 + 1), Cz23))
  else
  (fX0_least Cz23 K z23_4 z15_3 p1).bind fun t5 =>
    (rA t5.2 120 256 (z15_3 ||| (1 <<< (z23_4 &&& 31)))).bind fun v6 =>
    (rA t5.2 120 256 z15_3).bind fun v7 =>
    if (t5.1 + v6) = v7 then
    some (.inr (z23_4, t5.2))
    else
    some (.inl ((z23_4 + 1), t5.2))
noncomputable def fX0_ordersBy_X23 (z15_3 : Int32) (t23_4 : Int32) (Ct23 : FS) : Option ((Int32 × FS) ⊕ (FS)) :=
  (wA Ct23 121 8 (Ct23.1 122) t23_4).bind fun C8 =>
  (some (sI C8 122 ((C8.1 122) + 1))).bind fun C9 =>
  some (.inl ((z15_3 ||| (1 <<< (t23_4 &&& 31))), C9))
noncomputable def fX0_ordersBy_L15 (K : KT) (p1 : Int32) (t3 : Int32) (z15_3 : Int32) (Cz15 : FS) : Option ((Int32 × FS) ⊕ (FS)) :=
  if z15_3 = t3 then
  some (.inr Cz15)
  else
  (lp (fun z => fX0_ordersBy_L23 K p1 t3 z15_3 z.1 z.2) (0, Cz15)).bind fun t =>
    fX0_ordersBy_X23 z15_3 t.1 t.2
noncomputable def fX0_ordersBy (C : FS) (K : KT) (p1 : Int32) : Option FS :=
  ((C.2.2.1 103)).bind fun a1 =>
  (gC K 3 a1).bind fun g2 =>
  (fX4_inSet K a1).bind fun t3 =>
  (some (sI C 122 0)).bind fun C4 =>
  (lp (fun z => fX0_ordersBy_L15 K p1 t3 z.1 z.2) (0, C4)).bind fun Ct15 =>
  some Ct15
noncomputable def fX0_all_L8 (K : KT) (z8_1 : Int32) (z8_2 : Int32) (z8_3 : Int32) (Cz8 : FS) : Option ((Int32 × Int32 × Int32 × FS) ⊕ (Int32 × FS)) :=
  if 4 ≤ z8_3 then
  some (.inr (z8_1, Cz8))
  else
  (fX0_restOf Cz8 K z8_3).bind fun t1 =>
    (fX0_leftBy t1.2 K z8_3).bind fun t2 =>
    if (z8_2 + t1.1) < z8_1 then
    (some (sI t1.2 123 z8_3)).bind fun C3 =>
      (fX0_ordersBy C3 K z8_3).bind fun t4 =>
      some (.inl ((z8_2 + t1.1), (z8_2 + t2), (z8_3 + 1), t4))
    else
    some (.inl (z8_1, (z8_2 + t2), (z8_3 + 1), t1.2))
noncomputable def fX0_all_X8 (t8_1 : Int32) (Ct8 : FS) : Option (Int32 × FS) :=
  (fX0_gives Ct8 t8_1).bind fun t5 =>
  some (t5.1, t5.2)
noncomputable def fX0_all (C : FS) (K : KT) : Option (Int32 × FS) :=
  (lp (fun z => fX0_all_L8 K z.1 z.2.1 z.2.2.1 z.2.2.2) (1000000, 0, 0, C)).bind fun t =>
  fX0_all_X8 t.1 t.2
noncomputable def fX0_order (C : FS) (p1 : Int32) : Option (Int32 × FS) :=
  if p1 < 0 then
  (fX0_none C 8).bind fun t1 =>
    some (t1.1, t1.2)
  else
  if p1 < (C.1 122) then
    (rA C 121 8 p1).bind fun v2 =>
      (fX0_gives C v2).bind fun t3 =>
      some (t3.1, t3.2)
    else
    (fX0_none C 8).bind fun t4 =>
      some (t4.1, t4.2)
noncomputable def fX0_loosens (C : FS) : Option (Int32 × FS) :=
  (fX0_orNothing C (C.1 123)).bind fun t1 =>
  some (t1.1, t1.2)
noncomputable def fX0_soonest_L6 (K : KT) (z6_1 : Int32) (z6_2 : Int32) (z6_3 : Int32) (Cz6 : FS) : Option ((Int32 × Int32 × Int32 × FS) ⊕ (Int32 × FS)) :=
  ((Cz6.2.2.1 103)).bind fun a1 =>
  (dI K 3 5 a1).bind fun v2 =>
  if v2 ≤ z6_3 then
  some (.inr (z6_1, Cz6))
  else
  ((Cz6.2.2.1 103)).bind fun a3 =>
    (dA K 3 1 a3).bind fun a4 =>
    (eA K 5 a4 z6_3).bind fun a5 =>
    (dI K 6 8 a5).bind fun v6 =>
    if v6 = 0 then
    (fX0_aloneOf Cz6 K z6_3).bind fun t7 =>
      if z6_1 = (-1) then
      some (.inl (z6_3, t7.1, (z6_3 + 1), t7.2))
      else
      if t7.1 < z6_2 then
        some (.inl (z6_3, t7.1, (z6_3 + 1), t7.2))
        else
        some (.inl (z6_1, z6_2, (z6_3 + 1), t7.2))
    else
    some (.inl (z6_1, z6_2, (z6_3 + 1), Cz6))
noncomputable def fX0_soonest_X6 (t6_1 : Int32) (Ct6 : FS) : Option (Int32 × FS) :=
  (fX0_orNothing Ct6 t6_1).bind fun t8 =>
  some (t8.1, t8.2)
noncomputable def fX0_soonest (C : FS) (K : KT) : Option (Int32 × FS) :=
  (lp (fun z => fX0_soonest_L6 K z.1 z.2.1 z.2.2.1 z.2.2.2) ((-1), 0, 0, C)).bind fun t =>
  fX0_soonest_X6 t.1 t.2
noncomputable def fX0_tell_L9 (z9_5 : Int64) (z9_7 : Int64) : Option ((Int64 × Int64) ⊕ (Int64)) :=
  if z9_7 = 0 then
  some (.inr z9_5)
  else
  (nzl z9_7).bind fun u1 =>
    some (.inl (z9_7, (z9_5 - z9_5 / z9_7 * z9_7)))
noncomputable def fX0_tell (C : FS) (p1 : Int64) (p2 : Int64) : Option (Int32 × FS) :=
  (lp (fun z => fX0_tell_L9 z.1 z.2) ((if 0 < p1 then p1 else -p1), p2)).bind fun t9_5 =>
  (nzl t9_5).bind fun u2 =>
  (some (sL C 109 (p1 / t9_5))).bind fun C3 =>
  (nzl t9_5).bind fun u4 =>
  (some (sL C3 110 (p2 / t9_5))).bind fun C5 =>
  (fX0_is C5 0).bind fun t6 =>
  (bz t6.1).bind fun b7 =>
  some (t6.1, t6.2)
noncomputable def fX0_fresh (C : FS) (K : KT) (p1 : Int32) (p2 : Int32) : Option (Int32 × FS) :=
  (fX0_wrongLead C K p1).bind fun t1 =>
  if t1 ≤ 0 then
  (fX0_isFrom p2.toInt64 0 999).bind fun t2 =>
    if t2 = 0 then
    (fX0_is C 5).bind fun t10 =>
      (bz t10.1).bind fun b11 =>
      some (t10.1, t10.2)
    else
    (fX0_aloneOf C K p1).bind fun t3 =>
      ((t3.2.2.2.1 103)).bind fun a4 =>
      (dA K 3 1 a4).bind fun a5 =>
      (eA K 5 a5 p1).bind fun a6 =>
      (dI K 6 5 a6).bind fun v7 =>
      (fX0_tell t3.2 ((t3.1.toInt64 * p2.toInt64) - (60 * v7.toInt64)) 60).bind fun t8 =>
      (bz t8.1).bind fun b9 =>
      some (t8.1, t8.2)
  else
  (fX0_is C t1).bind fun t12 =>
    (bz t12.1).bind fun b13 =>
    some (t12.1, t12.2)
noncomputable def fX0_risks_L4 (C : FS) (K : KT) (z4_1 : Int32) (z4_2 : Int32) : Option ((Int32 × Int32) ⊕ (Int32)) :=
  ((C.2.2.1 103)).bind fun a1 =>
  (dI K 3 5 a1).bind fun v2 =>
  if v2 ≤ z4_2 then
  some (.inr z4_1)
  else
  ((C.2.2.1 103)).bind fun a3 =>
    (dA K 3 1 a3).bind fun a4 =>
    (eA K 5 a4 z4_2).bind fun a5 =>
    (gC K 6 a5).bind fun g6 =>
    (fX7_mayTangle K a5).bind fun t7 =>
    if t7 = 0 then
    some (.inl ((z4_1 + 0), (z4_2 + 1)))
    else
    (fX0_others C K z4_2).bind fun t8 =>
      if t8 ≤ 0 then
      some (.inl ((z4_1 + 0), (z4_2 + 1)))
      else
      ((C.2.2.1 103)).bind fun a9 =>
        (dA K 3 1 a9).bind fun a10 =>
        (eA K 5 a10 z4_2).bind fun a11 =>
        (gC K 6 a11).bind fun g12 =>
        (fX7_risk K a11).bind fun t13 =>
        some (.inl ((z4_1 + t13), (z4_2 + 1)))
noncomputable def fX0_risks (C : FS) (K : KT) : Option Int32 :=
  (lp (fun z => fX0_risks_L4 C K z.1 z.2) (0, 0)).bind fun t4_1 =>
  some t4_1
noncomputable def fX0_grows (C : FS) (K : KT) : Option (Int32 × FS) :=
  (fX0_risks C K).bind fun t1 =>
  (fX0_tell C t1.toInt64 16).bind fun t2 =>
  (bz t2.1).bind fun b3 =>
  some (t2.1, t2.2)
noncomputable def fX0_clips_L20 (K : KT) (t5 : Int32) (z20_2 : Int32) (Cz20 : FS) : Option ((Int32 × FS) ⊕ ((Int32 × FS) ⊕ (FS))) :=
  if 999 < z20_2 then
  some (.inr (.inr Cz20))
  else
  (fX0_risks Cz20 K).bind fun t6 =>
    if ((z20_2 * t6) * 5) ≤ ((12 * t5) * 16) then
    some (.inl ((z20_2 + 1), Cz20))
    else
    (fX0_gives Cz20 z20_2).bind fun t7 =>
      some (.inr (.inl (t7.1, t7.2)))
noncomputable def fX0_clips (C : FS) (K : KT) : Option (Int32 × FS) :=
  ((C.2.2.1 103)).bind fun a1 =>
  (gC K 3 a1).bind fun g2 =>
  (fX4_inSet K a1).bind fun t3 =>
  (fX0_clipped C K).bind fun t4 =>
  (fJ12_bitCount (t3 &&& (t4 ^^^ (-1)))).bind fun t5 =>
  (lp (fun z => fX0_clips_L20 K t5 z.1 z.2) (1, C)).bind (Sum.elim (fun v => some v) (fun Ct20 =>
  (fX0_none Ct20 8).bind fun t8 =>
  some (t8.1, t8.2)))
noncomputable def fX0_tryOf_L39 (C : FS) (K : KT) (v3 : Int32) (t6 : Int32) (z21_4 : Int32) (z39_5 : Int32) (z39_6 : Int32) : Option ((Int32 × Int32) ⊕ (Int32)) :=
  ((C.2.2.1 103)).bind fun a9 =>
  (dI K 3 5 a9).bind fun v10 =>
  if v10 ≤ z39_6 then
  some (.inr z39_5)
  else
  if (((v3 &&& t6) >>> (z39_6 &&& 31)) &&& 1) = 1 then
    ((C.2.2.1 103)).bind fun a11 =>
      (dA K 3 1 a11).bind fun a12 =>
      (eA K 5 a12 z39_6).bind fun a13 =>
      (dI K 6 6 a13).bind fun v14 =>
      ((C.2.2.1 103)).bind fun a15 =>
      (dA K 3 1 a15).bind fun a16 =>
      (eA K 5 a16 z21_4).bind fun a17 =>
      (dI K 6 6 a17).bind fun v18 =>
      if v18 < v14 then
      some (.inl ((z39_5 + 1), (z39_6 + 1)))
      else
      ((C.2.2.1 103)).bind fun a19 =>
        (dA K 3 1 a19).bind fun a20 =>
        (eA K 5 a20 z39_6).bind fun a21 =>
        (dI K 6 6 a21).bind fun v22 =>
        ((C.2.2.1 103)).bind fun a23 =>
        (dA K 3 1 a23).bind fun a24 =>
        (eA K 5 a24 z21_4).bind fun a25 =>
        (dI K 6 6 a25).bind fun v26 =>
        if v22 = v26 then
        if z21_4 ≤ z39_6 then
          some (.inl ((z39_5 + 0), (z39_6 + 1)))
          else
          some (.inl ((z39_5 + 1), (z39_6 + 1)))
        else
        some (.inl ((z39_5 + 0), (z39_6 + 1)))
    else
    some (.inl ((z39_5 + 0), (z39_6 + 1)))
noncomputable def fX0_tryOf_L21 (C : FS) (K : KT) (p2 : Int32) (v3 : Int32) (t6 : Int32) (z21_4 : Int32) : Option ((Int32) ⊕ (Int32 ⊕ (Unit))) :=
  ((C.2.2.1 103)).bind fun a7 =>
  (dI K 3 5 a7).bind fun v8 =>
  if v8 ≤ z21_4 then
  some (.inr (.inr ()))
  else
  (lp (fun z => fX0_tryOf_L39 C K v3 t6 z21_4 z.1 z.2) (0, 0)).bind fun t39_5 =>
    if (((v3 &&& t6) >>> (z21_4 &&& 31)) &&& 1) = 1 then
    if t39_5 = p2 then
      some (.inr (.inl z21_4))
      else
      some (.inl (z21_4 + 1))
    else
    some (.inl (z21_4 + 1))
noncomputable def fX0_tryOf (C : FS) (K : KT) (p1 : Int32) (p2 : Int32) : Option Int32 :=
  ((C.2.2.1 103)).bind fun a1 =>
  (dA K 3 4 a1).bind fun a2 =>
  (eI K 2 a2 p1).bind fun v3 =>
  ((C.2.2.1 103)).bind fun a4 =>
  (gC K 3 a4).bind fun g5 =>
  (fX4_inSet K a4).bind fun t6 =>
  (lp (fX0_tryOf_L21 C K p2 v3 t6) 0).bind (Sum.elim (fun v => some v) (fun _ =>
  some (-1)))
noncomputable def fX0_tries_L38 (C : FS) (K : KT) (p1 : Int32) (z38_2 : Int32) (z38_3 : Int32) (z38_4 : Int32) : Option ((Int32 × Int32 × Int32) ⊕ (Int32 × Int32)) :=
  (fX0_tryOf C K p1 z38_4).bind fun t3 =>
  if t3 = (-1) then
  some (.inr (z38_2, z38_3))
  else
  ((C.2.2.1 103)).bind fun a4 =>
    (dA K 3 1 a4).bind fun a5 =>
    (fX0_tryOf C K p1 z38_4).bind fun t6 =>
    (eA K 5 a5 t6).bind fun a7 =>
    (dI K 6 6 a7).bind fun v8 =>
    some (.inl ((z38_2 + v8), (z38_3 + ((z38_4 + 1) * v8)), (z38_4 + 1)))
noncomputable def fX0_tries_X38 (C : FS) (t38_2 : Int32) (t38_3 : Int32) : Option (Int32 × FS) :=
  if t38_2 = 0 then
  (fX0_is C 9).bind fun t11 =>
    (bz t11.1).bind fun b12 =>
    some (t11.1, t11.2)
  else
  (fX0_tell C t38_3.toInt64 t38_2.toInt64).bind fun t9 =>
    (bz t9.1).bind fun b10 =>
    some (t9.1, t9.2)
noncomputable def fX0_tries (C : FS) (K : KT) (p1 : Int32) : Option (Int32 × FS) :=
  (fX0_isLook C K p1).bind fun t1 =>
  if t1 = 0 then
  (fX0_is C 2).bind fun t15 =>
    (bz t15.1).bind fun b16 =>
    some (t15.1, t15.2)
  else
  (fX0_tryOf C K p1 0).bind fun t2 =>
    if t2 = (-1) then
    (fX0_is C 8).bind fun t13 =>
      (bz t13.1).bind fun b14 =>
      some (t13.1, t13.2)
    else
    (lp (fun z => fX0_tries_L38 C K p1 z.1 z.2.1 z.2.2) (0, 0, 0)).bind fun t =>
      fX0_tries_X38 C t.1 t.2
noncomputable def fX0_nextTry (C : FS) (K : KT) (p1 : Int32) (p2 : Int32) : Option (Int32 × FS) :=
  (fX0_isLook C K p1).bind fun t1 =>
  if t1 = 0 then
  (fX0_none C 2).bind fun t2 =>
    some (t2.1, t2.2)
  else
  (fX0_tryOf C K p1 p2).bind fun t3 =>
    (fX0_orNothing C t3).bind fun t4 =>
    some (t4.1, t4.2)
noncomputable def fX0_boxes_L28 (K : KT) (p1 : Int32) (t4 : Int32) (z28_3 : Int32) (Cz28 : FS) : Option ((Int32 × FS) ⊕ ((Int32 × FS) ⊕ (FS))) :=
  ((Cz28.2.2.1 103)).bind fun a5 =>
  (dI K 3 5 a5).bind fun v6 =>
  if v6 ≤ z28_3 then
  some (.inr (.inr Cz28))
  else
  if ((t4 >>> (z28_3 &&& 31)) &&& 1) = 1 then
    ((Cz28.2.2.1 103)).bind fun a7 =>
      (dA K 3 1 a7).bind fun a8 =>
      (eA K 5 a8 z28_3).bind fun a9 =>
      (dI K 6 1 a9).bind fun v10 =>
      if v10 ≤ p1 then
      some (.inl ((z28_3 + 1), Cz28))
      else
      (fX0_none Cz28 9).bind fun t11 =>
        some (.inr (.inl (t11.1, t11.2)))
    else
    some (.inl ((z28_3 + 1), Cz28))
noncomputable def fX0_boxes_L110 (K : KT) (p1 : Int32) (z86_3 : Int32) (Cz86 : FS) (z110_4 : Int32) (z110_5 : Int32) : Option ((Int32 × Int32) ⊕ (Int32)) :=
  ((Cz86.2.2.1 103)).bind fun a13 =>
  (dI K 3 5 a13).bind fun v14 =>
  if v14 ≤ z110_5 then
  some (.inr z110_4)
  else
  if ((z86_3 >>> (z110_5 &&& 31)) &&& 1) = 0 then
    some (.inl (z110_4, (z110_5 + 1)))
    else
    (rA Cz86 124 256 (z86_3 &&& ((1 <<< (z110_5 &&& 31)) ^^^ (-1)))).bind fun v15 =>
      ((Cz86.2.2.1 103)).bind fun a16 =>
      (dA K 3 1 a16).bind fun a17 =>
      (eA K 5 a17 z110_5).bind fun a18 =>
      (dI K 6 1 a18).bind fun v19 =>
      if p1 < ((v15 - v15 / 100 * 100) + v19) then
      some (.inl ((if ((((v15 / 100) * 100) + 100) + v19) < z110_4 then ((((v15 / 100) * 100) + 100) + v19) else z110_4), (z110_5 + 1)))
      else
      some (.inl ((if (v15 + v19) < z110_4 then (v15 + v19) else z110_4), (z110_5 + 1)))
noncomputable def fX0_boxes_L86 (K : KT) (p1 : Int32) (t4 : Int32) (z86_3 : Int32) (Cz86 : FS) : Option ((Int32 × FS) ⊕ (FS)) :=
  if t4 < z86_3 then
  some (.inr Cz86)
  else
  if (z86_3 &&& (t4 ^^^ (-1))) = 0 then
    (lp (fun z => fX0_boxes_L110 K p1 z86_3 Cz86 z.1 z.2) (1000000, 0)).bind fun t110_4 =>
      (wA Cz86 124 256 z86_3 t110_4).bind fun C20 =>
      some (.inl ((z86_3 + 1), C20))
    else
    some (.inl ((z86_3 + 1), Cz86))
noncomputable def fX0_boxes (C : FS) (K : KT) (p1 : Int32) : Option (Int32 × FS) :=
  (fX0_isFrom p1.toInt64 1 99).bind fun t1 =>
  if t1 = 0 then
  (fX0_none C 5).bind fun t23 =>
    some (t23.1, t23.2)
  else
  ((C.2.2.1 103)).bind fun a2 =>
    (gC K 3 a2).bind fun g3 =>
    (fX4_inSet K a2).bind fun t4 =>
    (lp (fun z => fX0_boxes_L28 K p1 t4 z.1 z.2) (0, C)).bind (Sum.elim (fun v => some v) (fun Ct28 =>
    (wA Ct28 124 256 0 p1).bind fun C12 =>
    (lp (fun z => fX0_boxes_L86 K p1 t4 z.1 z.2) (1, C12)).bind fun Ct86 =>
    (rA Ct86 124 256 t4).bind fun v21 =>
    (fX0_gives Ct86 (v21 / 100)).bind fun t22 =>
    some (t22.1, t22.2)))
noncomputable def fX0_waste_L22 (C : FS) (K : KT) (p1 : Int32) (z22_2 : Int32) (z22_3 : Int32) : Option ((Int32 × Int32) ⊕ (Int32)) :=
  ((C.2.2.1 103)).bind fun a2 =>
  (dI K 3 5 a2).bind fun v3 =>
  if v3 ≤ z22_3 then
  some (.inr z22_2)
  else
  ((C.2.2.1 103)).bind fun a4 =>
    (dA K 3 1 a4).bind fun a5 =>
    (eA K 5 a5 z22_3).bind fun a6 =>
    (dI K 6 8 a6).bind fun v7 =>
    if v7 = 0 then
    ((C.2.2.1 103)).bind fun a8 =>
      (dA K 3 1 a8).bind fun a9 =>
      (eA K 5 a9 z22_3).bind fun a10 =>
      (dI K 6 5 a10).bind fun v11 =>
      ((C.2.2.1 103)).bind fun a12 =>
      (dA K 3 1 a12).bind fun a13 =>
      (eA K 5 a13 z22_3).bind fun a14 =>
      (dI K 6 6 a14).bind fun v15 =>
      ((C.2.2.1 103)).bind fun a16 =>
      (gC K 3 a16).bind fun g17 =>
      (fX4_crossings K a16 z22_3).bind fun t18 =>
      if ((16 * p1) * t18) ≤ (v11 * v15) then
      some (.inl ((z22_2 ||| 0), (z22_3 + 1)))
      else
      some (.inl ((z22_2 ||| (1 <<< (z22_3 &&& 31))), (z22_3 + 1)))
    else
    some (.inl ((z22_2 ||| 0), (z22_3 + 1)))
noncomputable def fX0_waste (C : FS) (K : KT) (p1 : Int32) : Option (Int32 × FS) :=
  (fX0_isFrom p1.toInt64 0 999).bind fun t1 =>
  if t1 = 0 then
  (fX0_none C 5).bind fun t20 =>
    some (t20.1, t20.2)
  else
  (lp (fun z => fX0_waste_L22 C K p1 z.1 z.2) (0, 0)).bind fun t22_2 =>
    (fX0_gives C t22_2).bind fun t19 =>
    some (t19.1, t19.2)
noncomputable def fX0_frees_L25 (t5 : Int32 × FS) (z25_2 : Int32) (Kz25 : KT) : Option ((Int32 × KT) ⊕ (KT)) :=
  (rA t5.2 117 4 0).bind fun v6 =>
  if v6 ≤ z25_2 then
  some (.inr Kz25)
  else
  ((t5.2.2.2.1 103)).bind fun a7 =>
    (gC Kz25 3 a7).bind fun g8 =>
    (fX4_loosens Kz25 a7).bind fun t9 =>
    (gM Kz25 t9.2).bind fun g10 =>
    some (.inl ((z25_2 + 1), t9.2))
noncomputable def fX0_frees_L51 (p1 : Int32) (t5 : Int32 × FS) (z51_2 : Int32) (Kz51 : KT) : Option ((Int32 × KT) ⊕ (KT)) :=
  (rA t5.2 117 4 1).bind fun v11 =>
  if v11 ≤ z51_2 then
  some (.inr Kz51)
  else
  ((t5.2.2.2.1 103)).bind fun a12 =>
    (gC Kz51 3 a12).bind fun g13 =>
    (fX4_follows Kz51 a12 p1 0).bind fun t14 =>
    (gE Kz51 t14.2).bind fun g15 =>
    some (.inl ((z51_2 + 1), t14.2))
noncomputable def fX0_frees_L79 (p1 : Int32) (t5 : Int32 × FS) (z79_2 : Int32) (Kz79 : KT) : Option ((Int32 × KT) ⊕ (KT)) :=
  (rA t5.2 117 4 2).bind fun v16 =>
  if v16 ≤ z79_2 then
  some (.inr Kz79)
  else
  ((t5.2.2.2.1 103)).bind fun a17 =>
    (gC Kz79 3 a17).bind fun g18 =>
    (fX4_follows Kz79 a17 p1 1).bind fun t19 =>
    (gE Kz79 t19.2).bind fun g20 =>
    some (.inl ((z79_2 + 1), t19.2))
noncomputable def fX0_frees_J124 (t5 : Int32 × FS) (K_124 : KT) : Option (Int32 × FS × KT) :=
  (rA t5.2 126 5 3).bind fun v22 =>
  (wA t5.2 126 5 3 (v22 + 1)).bind fun C23 =>
  some (1, C23, K_124)
noncomputable def fX0_frees (C : FS) (K : KT) (p1 : Int32) : Option (Int32 × FS × KT) :=
  ((C.2.2.1 103)).bind fun a1 =>
  (dA K 3 1 a1).bind fun a2 =>
  (eA K 5 a2 p1).bind fun a3 =>
  (dI K 6 8 a3).bind fun v4 =>
  if v4 = 0 then
  (fX0_aloneOf C K p1).bind fun t5 =>
    (lp (fun z => fX0_frees_L25 t5 z.1 z.2) (0, K)).bind fun Kt25 =>
    (lp (fun z => fX0_frees_L51 p1 t5 z.1 z.2) (0, Kt25)).bind fun Kt51 =>
    (lp (fun z => fX0_frees_L79 p1 t5 z.1 z.2) (0, Kt51)).bind fun Kt79 =>
    (rA t5.2 117 4 3).bind fun v21 =>
    if v21 = 1 then
    ((t5.2.2.2.1 103)).bind fun a24 =>
      (gC Kt79 3 a24).bind fun g25 =>
      (fX4_pulls Kt79 a24 p1).bind fun t26 =>
      (gM Kt79 t26.2).bind fun g27 =>
      fX0_frees_J124 t5 t26.2
    else
    fX0_frees_J124 t5 Kt79
  else
  some (0, C, K)
noncomputable def fX0_does_L54 (p1 : Nat) (z54_2 : Int32) (Cz54 : FS) (Kz54 : KT) : Option ((Int32 × FS × KT) ⊕ (FS × KT)) :=
  (dI Kz54 11 1 p1).bind fun v2 =>
  if v2 ≤ z54_2 then
  some (.inr (Cz54, Kz54))
  else
  (rA Cz54 126 5 2).bind fun v3 =>
    (fX0_opens Cz54 Kz54).bind fun t4 =>
    (gM Kz54 t4.2.2).bind fun g5 =>
    (wA t4.2.1 126 5 2 (v3 + t4.1)).bind fun C6 =>
    some (.inl ((z54_2 + 1), C6, t4.2.2))
noncomputable def fX0_does_X54 (p1 : Nat) (Ct54 : FS) (Kt54 : KT) : Option (Int32 × FS × KT) :=
  (rA Ct54 126 5 1).bind fun v7 =>
  (dI Kt54 11 1 p1).bind fun v8 =>
  (wA Ct54 126 5 1 (v7 + v8)).bind fun C9 =>
  some (1, C9, Kt54)
noncomputable def fX0_does (C : FS) (K : KT) (p1 : Nat) : Option (Int32 × FS × KT) :=
  (dI K 11 0 p1).bind fun v1 =>
  if v1 < 12 ∨ 19 < v1 then
  some (1, C, K)
  else if v1 = 12 then
  (lp (fun z => fX0_does_L54 p1 z.1 z.2.1 z.2.2) (0, C, K)).bind fun t =>
    fX0_does_X54 p1 t.1 t.2
  else if v1 = 13 then
  (dI K 11 1 p1).bind fun v10 =>
    (fX0_frees C K v10).bind fun t11 =>
    (gM K t11.2.2).bind fun g12 =>
    (bz t11.1).bind fun b13 =>
    some (t11.1, t11.2.1, t11.2.2)
  else if v1 = 14 then
  ((C.2.2.1 103)).bind fun a14 =>
    (gC K 3 a14).bind fun g15 =>
    (fX4_loosens K a14).bind fun t16 =>
    (gM K t16.2).bind fun g17 =>
    if t16.1 < 0 then
    some (0, C, t16.2)
    else
    some (1, C, t16.2)
  else if v1 = 15 then
  ((C.2.2.1 103)).bind fun a18 =>
    (dA K 3 1 a18).bind fun a19 =>
    (dI K 11 1 p1).bind fun v20 =>
    (eA K 5 a19 v20).bind fun a21 =>
    (dI K 6 8 a21).bind fun v22 =>
    if v22 = 0 then
    ((C.2.2.1 103)).bind fun a23 =>
      (dI K 11 1 p1).bind fun v24 =>
      (gC K 3 a23).bind fun g25 =>
      (fX4_pulls K a23 v24).bind fun t26 =>
      (gM K t26.2).bind fun g27 =>
      if t26.1 ≤ 0 then
      some (0, C, t26.2)
      else
      some (1, C, t26.2)
    else
    some (0, C, K)
  else if v1 = 16 then
  ((C.2.2.1 103)).bind fun a28 =>
    (dA K 3 1 a28).bind fun a29 =>
    (dI K 11 1 p1).bind fun v30 =>
    (eA K 5 a29 v30).bind fun a31 =>
    (dI K 6 8 a31).bind fun v32 =>
    if v32 = 0 then
    ((C.2.2.1 103)).bind fun a33 =>
      (dI K 11 1 p1).bind fun v34 =>
      (gC K 3 a33).bind fun g35 =>
      (fX4_cuts K a33 v34).bind fun t36 =>
      (gE K t36.2).bind fun g37 =>
      if t36.1 < 0 then
      some (0, C, t36.2)
      else
      some (1, C, t36.2)
    else
    some (0, C, K)
  else if v1 = 17 then
  ((C.2.2.1 103)).bind fun a38 =>
    (dI K 11 1 p1).bind fun v39 =>
    (gC K 3 a38).bind fun g40 =>
    (fX4_clips K a38 v39).bind fun t41 =>
    (gE K t41.2).bind fun g42 =>
    (bz t41.1).bind fun b43 =>
    some (t41.1, C, t41.2)
  else if v1 = 18 then
  some (1, C, K)
  else if v1 = 19 then
  (dI K 11 1 p1).bind fun v44 =>
    (uV K 11 6 p1 (.int v44)).bind fun K45 =>
    some (1, C, K45)
  else none
noncomputable def fX0_holds_J47 (K : KT) (p1 : Nat) (y0_47 : Int32) : Option Int32 :=
  (dI K 11 4 p1).bind fun v3 =>
  if v3 = 60 then
  (dI K 11 2 p1).bind fun v7 =>
    if v7 ≤ y0_47 then
    some 0
    else
    some 1
  else
  (dI K 11 4 p1).bind fun v4 =>
    if v4 = 62 then
    (dI K 11 2 p1).bind fun v6 =>
      if y0_47 ≤ v6 then
      some 0
      else
      some 1
    else
    (dI K 11 2 p1).bind fun v5 =>
      if y0_47 = v5 then
      some 1
      else
      some 0
noncomputable def fX0_holds (C : FS) (K : KT) (p1 : Nat) : Option Int32 :=
  (dI K 11 3 p1).bind fun v1 =>
  if v1 = 23 then
  ((C.2.2.1 103)).bind fun a13 =>
    (dI K 11 1 p1).bind fun v14 =>
    (gC K 3 a13).bind fun g15 =>
    (fX4_isFree K a13 v14).bind fun t16 =>
    (bz t16).bind fun b17 =>
    some t16
  else
  (dI K 11 3 p1).bind fun v2 =>
    if v2 = 22 then
    ((C.2.2.1 103)).bind fun a10 =>
      (gC K 3 a10).bind fun g11 =>
      (fX4_largest K a10).bind fun t12 =>
      fX0_holds_J47 K p1 t12
    else
    ((C.2.2.1 103)).bind fun a8 =>
      (dI K 3 6 a8).bind fun v9 =>
      fX0_holds_J47 K p1 v9
noncomputable def fX0_behindEnds_J75 (C : FS) (z2_2 : Int32) (x4_75 : Int32) (K_75 : KT) : Option ((Int32 × KT) ⊕ (Int32 × KT)) :=
  if x4_75 = 0 then
  some (.inl ((z2_2 + 1), K_75))
  else
  ((C.2.2.1 104)).bind fun a9 =>
    (eA K_75 6 a9 z2_2).bind fun a10 =>
    (dI K_75 11 5 a10).bind fun v11 =>
    some (.inl ((v11 + 1), K_75))
noncomputable def fX0_behindEnds_L2 (C : FS) (z2_2 : Int32) (Kz2 : KT) : Option ((Int32 × KT) ⊕ (Int32 × KT)) :=
  if (C.1 105) ≤ z2_2 then
  some (.inr (z2_2, Kz2))
  else
  ((C.2.2.1 104)).bind fun a1 =>
    (eA Kz2 6 a1 z2_2).bind fun a2 =>
    (dI Kz2 11 0 a2).bind fun v3 =>
    if v3 = 21 then
    ((C.2.2.1 104)).bind fun a4 =>
      (eA Kz2 6 a4 z2_2).bind fun a5 =>
      (dI Kz2 11 5 a5).bind fun v6 =>
      (eA Kz2 6 a4 v6).bind fun a7 =>
      (dI Kz2 11 0 a7).bind fun v8 =>
      if v8 = 19 then
      (dI Kz2 11 6 a7).bind fun v12 =>
        (uV Kz2 11 6 a7 (.int (v12 - 1))).bind fun K13 =>
        (dI K13 11 6 a7).bind fun v14 =>
        if v14 ≤ 0 then
        fX0_behindEnds_J75 C z2_2 0 K13
        else
        fX0_behindEnds_J75 C z2_2 1 K13
      else
      fX0_behindEnds_J75 C z2_2 0 Kz2
    else
    some (.inr (z2_2, Kz2))
noncomputable def fX0_behindEnds_X2 (t2_2 : Int32) (Kt2 : KT) : Option (Int32 × KT) :=
  some (t2_2, Kt2)
noncomputable def fX0_behindEnds (C : FS) (K : KT) (p1 : Int32) : Option (Int32 × KT) :=
  (lp (fun z => fX0_behindEnds_L2 C z.1 z.2) (p1, K)).bind fun t =>
  fX0_behindEnds_X2 t.1 t.2
noncomputable def fX0_goesBy_L12 (z12_2 : Int32) (Cz12 : FS) : Option ((Int32 × FS) ⊕ (FS)) :=
  if 5 ≤ z12_2 then
  some (.inr Cz12)
  else
  (wA Cz12 126 5 z12_2 0).bind fun C3 =>
    some (.inl ((z12_2 + 1), C3))
noncomputable def fX0_goesBy_J103 (z32_2 : Int32) (a5 : Nat) (t8 : Int32 × FS × KT) (C_103 : FS) : Option ((Int32 × FS × KT) ⊕ ((FS × KT) ⊕ (FS × KT))) :=
  (dI t8.2.2 11 0 a5).bind fun v10 =>
  if v10 = 18 then
  (fX0_holds C_103 t8.2.2 a5).bind fun t13 =>
    if t13 = 0 then
    (dI t8.2.2 11 5 a5).bind fun v16 =>
      (fX0_behindEnds C_103 t8.2.2 (v16 + 1)).bind fun t17 =>
      (gE t8.2.2 t17.2).bind fun g18 =>
      some (.inl (t17.1, C_103, t17.2))
    else
    (fX0_behindEnds C_103 t8.2.2 (z32_2 + 1)).bind fun t14 =>
      (gE t8.2.2 t14.2).bind fun g15 =>
      some (.inl (t14.1, C_103, t14.2))
  else
  (fX0_behindEnds C_103 t8.2.2 (z32_2 + 1)).bind fun t11 =>
    (gE t8.2.2 t11.2).bind fun g12 =>
    some (.inl (t11.1, C_103, t11.2))
noncomputable def fX0_goesBy_L32 (z32_2 : Int32) (Cz32 : FS) (Kz32 : KT) : Option ((Int32 × FS × KT) ⊕ ((FS × KT) ⊕ (FS × KT))) :=
  if (Cz32.1 105) ≤ z32_2 then
  some (.inr (.inr (Cz32, Kz32)))
  else
  if (Cz32.1 125) = 300 then
    (wA Cz32 126 5 4 1).bind fun C21 =>
      some (.inr (.inl (C21, Kz32)))
    else
    ((Cz32.2.2.1 104)).bind fun a4 =>
      (eA Kz32 6 a4 z32_2).bind fun a5 =>
      (some (sI Cz32 125 ((Cz32.1 125) + 1))).bind fun C6 =>
      (dI Kz32 11 0 a5).bind fun v7 =>
      if v7 = 20 then
      some (.inr (.inl (C6, Kz32)))
      else
      (fX0_does C6 Kz32 a5).bind fun t8 =>
        (gM Kz32 t8.2.2).bind fun g9 =>
        if t8.1 = 0 then
        (rA t8.2.1 126 5 0).bind fun v19 =>
          (wA t8.2.1 126 5 0 (v19 + 1)).bind fun C20 =>
          fX0_goesBy_J103 z32_2 a5 t8 C20
        else
        fX0_goesBy_J103 z32_2 a5 t8 t8.2.1
noncomputable def fX0_goesBy_X32 (Ct32 : FS) (Kt32 : KT) : Option (FS × KT) :=
  some (Ct32, Kt32)
noncomputable def fX0_goesBy (C : FS) (K : KT) (p1 : Int32) : Option (FS × KT) :=
  (some (sI C 111 p1)).bind fun C1 =>
  (some (sI C1 125 0)).bind fun C2 =>
  (lp (fun z => fX0_goesBy_L12 z.1 z.2) (0, C2)).bind fun Ct12 =>
  (lp (fun z => fX0_goesBy_L32 z.1 z.2.1 z.2.2) (0, Ct12, K)).bind (Sum.elim (fun v => some v) (fun t =>
  fX0_goesBy_X32 t.1 t.2))
noncomputable def fX0_live (C : FS) (K : KT) (p1 : Int32) : Option (Int32 × FS × KT) :=
  (fX0_isFrom p1.toInt64 0 9999).bind fun t1 =>
  if t1 = 0 then
  (fX0_none C 5).bind fun t8 =>
    some (t8.1, t8.2, K)
  else
  if (C.2.2.1 104) = none then
    (fX0_none C 8).bind fun t7 =>
      some (t7.1, t7.2, K)
    else
    (fX0_goesBy C K p1).bind fun t2 =>
      (gM K t2.2).bind fun g3 =>
      (cpF t2.1 126 5 0 127 5 0 5).bind fun C4 =>
      (some (sI C4 128 1)).bind fun C5 =>
      (fX0_gives C5 (C5.1 125)).bind fun t6 =>
      some (t6.1, t6.2, t2.2)
noncomputable def fX0_lived (C : FS) (p1 : Int32) : Option (Int32 × FS) :=
  if p1 < 0 then
  (fX0_none C 5).bind fun t1 =>
    some (t1.1, t1.2)
  else
  if p1 ≤ 4 then
    if (C.1 128) = 0 then
      (fX0_none C 8).bind fun t2 =>
        some (t2.1, t2.2)
      else
      (rA C 127 5 p1).bind fun v3 =>
        (fX0_gives C v3).bind fun t4 =>
        some (t4.1, t4.2)
    else
    (fX0_none C 5).bind fun t5 =>
      some (t5.1, t5.2)
noncomputable def fX0_wrongSeeds (C : FS) (p1 : Int32) (p2 : Int32) : Option Int32 :=
  (fX0_isFrom p1.toInt64 0 9999).bind fun t1 =>
  if t1 = 0 then
  some 5
  else
  (fX0_isFrom p2.toInt64 1 20).bind fun t2 =>
    if t2 = 0 then
    some 5
    else
    if ((p1 + p2) - 1) ≤ 9999 then
      if (C.2.2.1 104) = none then
        some 8
        else
        some 0
      else
      some 5
noncomputable def fX0_sumsOf_L12 (p1 : Int32) (p2 : Int32) (p3 : Int32) (a1 : Nat) (z12_5 : Int64) (z12_7 : Int32) (Cz12 : FS) (Kz12 : KT) : Option ((Int64 × Int32 × FS × KT) ⊕ (Int64 × FS × KT)) :=
  if p3 ≤ z12_7 then
  some (.inr (z12_5, Cz12, Kz12))
  else
  (gC Kz12 3 a1).bind fun g2 =>
    (fX4_twin Kz12 a1).bind fun t3 =>
    (gM Kz12 t3.2).bind fun g4 =>
    (some (sR Cz12 103 (some t3.1))).bind fun C5 =>
    (fX0_goesBy C5 t3.2 (p2 + z12_7)).bind fun t6 =>
    (gM t3.2 t6.2).bind fun g7 =>
    if p1 = (-1) then
    ((t6.1.2.2.1 103)).bind fun a11 =>
      (dI t6.2 3 8 a11).bind fun v12 =>
      (dI t6.2 3 8 a1).bind fun v13 =>
      some (.inl ((z12_5 + (v12 - v13).toInt64), (z12_7 + 1), t6.1, t6.2))
    else
    ((t6.1.2.2.1 103)).bind fun a8 =>
      (gC t6.2 3 a8).bind fun g9 =>
      (fX4_isFree t6.2 a8 p1).bind fun t10 =>
      if t10 = 0 then
      some (.inl ((z12_5 + 0), (z12_7 + 1), t6.1, t6.2))
      else
      some (.inl ((z12_5 + 1), (z12_7 + 1), t6.1, t6.2))
noncomputable def fX0_sumsOf_X12 (a1 : Nat) (t12_5 : Int64) (Ct12 : FS) (Kt12 : KT) : Option (Int64 × FS × KT) :=
  (some (sR Ct12 103 (some a1))).bind fun C14 =>
  some (t12_5, C14, Kt12)
noncomputable def fX0_sumsOf (C : FS) (K : KT) (p1 : Int32) (p2 : Int32) (p3 : Int32) : Option (Int64 × FS × KT) :=
  ((C.2.2.1 103)).bind fun a1 =>
  (lp (fun z => fX0_sumsOf_L12 p1 p2 p3 a1 z.1 z.2.1 z.2.2.1 z.2.2.2) (0, 0, C, K)).bind fun t =>
  fX0_sumsOf_X12 a1 t.1 t.2.1 t.2.2
noncomputable def fX0_mean (C : FS) (K : KT) (p1 : Int32) (p2 : Int32) : Option (Int32 × FS × KT) :=
  (fX0_wrongSeeds C p1 p2).bind fun t1 =>
  if t1 ≤ 0 then
  (fX0_sumsOf C K (-1) p1 p2).bind fun t2 =>
    (gM K t2.2.2).bind fun g3 =>
    (fX0_tell t2.2.1 t2.1 p2.toInt64).bind fun t4 =>
    (bz t4.1).bind fun b5 =>
    some (t4.1, t4.2, t2.2.2)
  else
  (fX0_is C t1).bind fun t6 =>
    (bz t6.1).bind fun b7 =>
    some (t6.1, t6.2, K)
noncomputable def fX0_odds_J18 (C : FS) (K : KT) (p1 : Int32) (p2 : Int32) (p3 : Int32) (y0_18 : Int32) : Option (Int32 × FS × KT) :=
  if y0_18 ≤ 0 then
  (fX0_sumsOf C K p1 p2 p3).bind fun t2 =>
    (gM K t2.2.2).bind fun g3 =>
    (fX0_tell t2.2.1 t2.1 p3.toInt64).bind fun t4 =>
    (bz t4.1).bind fun b5 =>
    some (t4.1, t4.2, t2.2.2)
  else
  (fX0_is C y0_18).bind fun t6 =>
    (bz t6.1).bind fun b7 =>
    some (t6.1, t6.2, K)
noncomputable def fX0_odds (C : FS) (K : KT) (p1 : Int32) (p2 : Int32) (p3 : Int32) : Option (Int32 × FS × KT) :=
  (fX0_isLead C K p1).bind fun t1 =>
  if t1 = 0 then
  fX0_odds_J18 C K p1 p2 p3 2
  else
  (fX0_wrongSeeds C p2 p3).bind fun t8 =>
    fX0_odds_J18 C K p1 p2 p3 t8
noncomputable def fX14_init (K : KT) (a : Nat) (p1 : Nat) (p2 : Option Nat) (p3 : Int32) : Option KT :=
  (uV K 12 0 a (va_rf (some p1))).bind fun K1 =>
  (uV K1 12 1 a (va_rf p2)).bind fun K2 =>
  (uV K2 12 2 a (.int p3)).bind fun K3 =>
  some K3
noncomputable def fX0_mark (C : FS) (K : KT) : Option (Int32 × FS × KT) :=
  if (C.1 130) = 3 then
  (fX0_none C 7).bind fun t12 =>
    some (t12.1, t12.2, K)
  else
  (mkO K 12 [.null, .null, .int 0]).bind fun K1 =>
    ((C.2.2.1 103)).bind fun a2 =>
    (gC K1 3 a2).bind fun g3 =>
    (fX4_twin K1 a2).bind fun t4 =>
    (gM K1 t4.2).bind fun g5 =>
    (fX14_init t4.2 K.2.1 t4.1 (C.2.2.1 104) (C.1 105)).bind fun t6 =>
    (gE t4.2 t6).bind fun g7 =>
    (gC t6 12 K.2.1).bind fun g8 =>
    (wQ C 129 3 (C.1 130) (some K.2.1)).bind fun C9 =>
    (some (sI C9 130 ((C9.1 130) + 1))).bind fun C10 =>
    (fX0_gives C10 (C10.1 130)).bind fun t11 =>
    some (t11.1, t11.2, t6)
noncomputable def fX0_back (C : FS) (K : KT) : Option (Int32 × FS) :=
  if (C.1 130) = 0 then
  (fX0_none C 8).bind fun t11 =>
    some (t11.1, t11.2)
  else
  (some (sI C 130 ((C.1 130) - 1))).bind fun C1 =>
    (rQ C1 129 3 (C1.1 130)).bind fun v2 =>
    (v2).bind fun a3 =>
    (dA K 12 0 a3).bind fun a4 =>
    (some (sR C1 103 (some a4))).bind fun C5 =>
    (dQ K 12 1 a3).bind fun v6 =>
    (some (sR C5 104 v6)).bind fun C7 =>
    (dI K 12 2 a3).bind fun v8 =>
    (some (sI C7 105 v8)).bind fun C9 =>
    (fX0_gives C9 (C9.1 130)).bind fun t10 =>
    some (t10.1, t10.2)
noncomputable def fX13_init (K : KT) (a : Nat) (p1 : Int32) : Option KT :=
  (uV K 11 0 a (.int p1)).bind fun K1 =>
  some K1
noncomputable def fX4_lead_L2 (K : KT) (a : Nat) (p1 : Int64) (z2_3 : Int32) : Option ((Int32) ⊕ (Int32 ⊕ (Unit))) :=
  (dI K 3 5 a).bind fun v1 =>
  if v1 ≤ z2_3 then
  some (.inr (.inr ()))
  else
  (dA K 3 1 a).bind fun a2 =>
    (eA K 5 a2 z2_3).bind fun a3 =>
    (dL K 6 0 a3).bind fun v4 =>
    if v4 = p1 then
    some (.inr (.inl z2_3))
    else
    some (.inl (z2_3 + 1))
noncomputable def fX4_lead (K : KT) (a : Nat) (p1 : Int64) : Option Int32 :=
  (lp (fX4_lead_L2 K a p1) 0).bind (Sum.elim (fun v => some v) (fun _ =>
  some (-1)))
noncomputable def fX4_look_L2 (K : KT) (a : Nat) (p1 : Int64) (z2_3 : Int32) : Option ((Int32) ⊕ (Int32 ⊕ (Unit))) :=
  (dI K 3 7 a).bind fun v1 =>
  if v1 ≤ z2_3 then
  some (.inr (.inr ()))
  else
  (dA K 3 3 a).bind fun a2 =>
    (eL K a2 z2_3).bind fun v3 =>
    if v3 = p1 then
    some (.inr (.inl z2_3))
    else
    some (.inl (z2_3 + 1))
noncomputable def fX4_look (K : KT) (a : Nat) (p1 : Int64) : Option Int32 :=
  (lp (fX4_look_L2 K a p1) 0).bind (Sum.elim (fun v => some v) (fun _ =>
  some (-1)))
noncomputable def fX5_init (a : Nat) : Option Unit :=
  some ()
