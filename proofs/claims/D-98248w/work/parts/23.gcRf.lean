noncomputable def fX1_at (C : FS) (p1 : Int32) : Option Int32 :=
  if (C.1 201) ≤ p1 then
  some (-1)
  else
  (rA C 200 900 p1).bind fun v1 =>
    some (v1 &&& 255)
noncomputable def fX1_isSmall (p1 : Int32) : Option Int32 :=
  if p1 < 97 then
  some 0
  else
  if 122 < p1 then
    some 0
    else
    some 1
noncomputable def fX1_isDigit (p1 : Int32) : Option Int32 :=
  if p1 < 48 then
  some 0
  else
  if 57 < p1 then
    some 0
    else
    some 1
noncomputable def fX1_isSign_L2 (p1 : Int32) (z2_2 : Int32) : Option ((Int32) ⊕ (Int32 ⊕ (Unit))) :=
  if (sLen 1) ≤ z2_2 then
  some (.inr (.inr ()))
  else
  (sAt 1 z2_2).bind fun v1 =>
    if v1 = p1 then
    some (.inr (.inl 1))
    else
    some (.inl (z2_2 + 1))
noncomputable def fX1_isSign (C : FS) (p1 : Int32) : Option Int32 :=
  (lp (fX1_isSign_L2 p1) 0).bind (Sum.elim (fun v => some v) (fun _ =>
  some 0))
noncomputable def fX1_next_L0 (Cz0 : FS) : Option ((FS) ⊕ (FS)) :=
  (fX1_at Cz0 (Cz0.1 204)).bind fun t1 =>
  if t1 = 32 then
  (some (sI Cz0 204 ((Cz0.1 204) + 1))).bind fun C2 =>
    some (.inl C2)
  else
  (fX1_at Cz0 (Cz0.1 204)).bind fun t3 =>
    if t3 = 10 then
    (some (sI Cz0 204 ((Cz0.1 204) + 1))).bind fun C4 =>
      some (.inl C4)
    else
    some (.inr Cz0)
noncomputable def fX1_next_L128 (Cz128 : FS) : Option ((FS) ⊕ (FS)) :=
  (fX1_at Cz128 (Cz128.1 204)).bind fun t15 =>
  (fX1_isDigit t15).bind fun t16 =>
  if t16 = 0 then
  some (.inr Cz128)
  else
  (fX1_at Cz128 (Cz128.1 204)).bind fun t17 =>
    (some (sI Cz128 205 (if (((10 * (Cz128.1 205)) + t17) - 48) < 100000 then (((10 * (Cz128.1 205)) + t17) - 48) else 100000))).bind fun C18 =>
    (some (sI C18 204 ((C18.1 204) + 1))).bind fun C19 =>
    some (.inl C19)
noncomputable def fX1_next_L81 (Cz81 : FS) : Option ((FS) ⊕ (FS)) :=
  (fX1_at Cz81 (Cz81.1 204)).bind fun t22 =>
  (fX1_isSmall t22).bind fun t23 =>
  if t23 = 0 then
  some (.inr Cz81)
  else
  (some (sI Cz81 204 ((Cz81.1 204) + 1))).bind fun C24 =>
    some (.inl C24)
noncomputable def fX1_next (C : FS) : Option FS :=
  (lp (fX1_next_L0) C).bind fun Ct0 =>
  (some (sI Ct0 203 (Ct0.1 204))).bind fun C5 =>
  (fX1_at C5 (C5.1 204)).bind fun t6 =>
  (some (sI C5 205 t6)).bind fun C7 =>
  if t6 = (-1) then
  (some (sI C7 202 0)).bind fun C26 =>
    some C26
  else
  (fX1_isSmall t6).bind fun t8 =>
    if t8 = 0 then
    (fX1_isDigit t6).bind fun t9 =>
      if t9 = 0 then
      (some (sI C7 204 ((C7.1 204) + 1))).bind fun C10 =>
        (fX1_isSign C10 t6).bind fun t11 =>
        if t11 = 0 then
        (some (sI C10 202 1)).bind fun C12 =>
          some C12
        else
        (some (sI C10 202 4)).bind fun C13 =>
          some C13
      else
      (some (sI C7 205 0)).bind fun C14 =>
        (lp (fX1_next_L128) C14).bind fun Ct128 =>
        if ((Ct128.1 204) - (Ct128.1 203)) ≤ 4 then
        (some (sI Ct128 202 3)).bind fun C20 =>
          some C20
        else
        (some (sI Ct128 202 1)).bind fun C21 =>
          some C21
    else
    (lp (fX1_next_L81) C7).bind fun Ct81 =>
      (some (sI Ct81 202 2)).bind fun C25 =>
      some C25
noncomputable def fX1_begin (C : FS) (p1 : Int32) : Option FS :=
  (some (sI C 201 p1)).bind fun C1 =>
  (some (sI C1 204 0)).bind fun C2 =>
  (fX1_next C2).bind fun t3 =>
  some t3
noncomputable def fX1_isWord_L20 (C : FS) (p2 : Int32) (p3 : Int32) (z20_4 : Int32) : Option ((Int32) ⊕ (Int32 ⊕ (Unit))) :=
  if p3 ≤ z20_4 then
  some (.inr (.inr ()))
  else
  (sAt 0 z20_4).bind fun v1 =>
    (fX1_at C (((C.1 203) + z20_4) - p2)).bind fun t2 =>
    if v1 = t2 then
    some (.inl (z20_4 + 1))
    else
    some (.inr (.inl 0))
noncomputable def fX1_isWord (C : FS) (p2 : Int32) (p3 : Int32) : Option Int32 :=
  if (p3 - p2) = ((C.1 204) - (C.1 203)) then
  (lp (fX1_isWord_L20 C p2 p3) p2).bind (Sum.elim (fun v => some v) (fun _ =>
    some 1))
  else
  some 0
noncomputable def fX1_in_L25 (z25_4 : Int32) : Option ((Int32) ⊕ (Int32)) :=
  (sAt 0 z25_4).bind fun v1 =>
  if v1 = 32 then
  some (.inr z25_4)
  else
  some (.inl (z25_4 + 1))
noncomputable def fX1_in_L14 (C : FS) (z14_2 : Int32) (z14_3 : Int32) : Option ((Int32 × Int32) ⊕ (Int32 ⊕ (Unit))) :=
  if (sLen 0) ≤ z14_3 then
  some (.inr (.inr ()))
  else
  (lp (fX1_in_L25) z14_3).bind fun t25_4 =>
    (fX1_isWord C z14_3 t25_4).bind fun t2 =>
    if t2 = 0 then
    some (.inl ((z14_2 + 1), (t25_4 + 1)))
    else
    some (.inr (.inl z14_2))
noncomputable def fX1_in (C : FS) : Option Int32 :=
  if (C.1 202) = 2 then
  (lp (fun z => fX1_in_L14 C z.1 z.2) (0, 1)).bind (Sum.elim (fun v => some v) (fun _ =>
    some (-1)))
  else
  some (-1)
noncomputable def fX1_key (C : FS) : Option Int32 :=
  (fX1_in C).bind fun t1 =>
  some t1
noncomputable def fX3_of (C : FS) (p1 : Int32) (p2 : Int32) : Option FS :=
  (some (sI C 306 p1)).bind fun C1 =>
  (some (sI C1 307 p2)).bind fun C2 =>
  some C2
noncomputable def fX1_fail (C : FS) (p1 : Int32) : Option FS :=
  if (C.1 202) = 1 then
  (fX3_of C 1 (C.1 203)).bind fun t2 =>
    some t2
  else
  (fX3_of C p1 (C.1 203)).bind fun t1 =>
    some t1
noncomputable def fX1_need (C : FS) (p1 : Int32) : Option (Option Unit × FS) :=
  if p1 = 0 then
  (fX1_fail C 2).bind fun t1 =>
    some (none, t1)
  else
  some (some (), C)
noncomputable def fX1_name_L48 (t1 : Option (Unit) × FS) (z48_1 : Int64) (z48_3 : Int32) : Option ((Int64 × Int32) ⊕ (Int64)) :=
  if (t1.2.1 204) ≤ z48_3 then
  some (.inr z48_1)
  else
  (fX1_at t1.2 z48_3).bind fun t2 =>
    some (.inl (((z48_1 <<< ((8 : Int32).toInt64 &&& 63)) ||| t2.toInt64), (z48_3 + 1)))
noncomputable def fX1_name_J38 (C : FS) (y1_38 : Int32) : Option (Option Int64 × FS) :=
  (fX1_need C y1_38).bind fun t1 =>
  if t1.1 = none then
  some (none, t1.2)
  else
  (lp (fun z => fX1_name_L48 t1 z.1 z.2) (0, (t1.2.1 203))).bind fun t48_1 =>
    some (some t48_1, t1.2)
noncomputable def fX1_name (C : FS) : Option (Option Int64 × FS) :=
  if (C.1 202) = 2 then
  if 8 < ((C.1 204) - (C.1 203)) then
    fX1_name_J38 C 0
    else
    (fX1_in C).bind fun t3 =>
      if t3 = (-1) then
      fX1_name_J38 C 1
      else
      fX1_name_J38 C 0
  else
  fX1_name_J38 C 0
noncomputable def fX1_number_J14 (C : FS) (p1 : Int32) (p2 : Int32) (y1_14 : Int32) : Option (Option Int32 × FS) :=
  (fX1_need C y1_14).bind fun t1 =>
  if t1.1 = none then
  some (none, t1.2)
  else
  if (t1.2.1 205) < p1 then
    (fX1_fail t1.2 4).bind fun t2 =>
      some (none, t2)
    else
    if (t1.2.1 205) ≤ p2 then
      some (some (t1.2.1 205), t1.2)
      else
      (fX1_fail t1.2 4).bind fun t3 =>
        some (none, t3)
noncomputable def fX1_number (C : FS) (p1 : Int32) (p2 : Int32) : Option (Option Int32 × FS) :=
  if (C.1 202) = 3 then
  fX1_number_J14 C p1 p2 1
  else
  fX1_number_J14 C p1 p2 0
noncomputable def fX1_passed (C : FS) (p1 : Int32) (p2 : Int32) : Option (Option Int32 × FS) :=
  (fX1_number C p1 p2).bind fun t1 =>
  if t1.1 = none then
  some (none, t1.2)
  else
  (t1.1).bind fun v2 =>
    (fX1_next t1.2).bind fun t3 =>
    some (some v2, t3)
noncomputable def fX1_is (C : FS) (p1 : Int32) : Option Int32 :=
  if (C.1 202) = 4 then
  if (C.1 205) = p1 then
    some 1
    else
    some 0
  else
  some 0
noncomputable def fX1_closes (C : FS) : Option (Option Unit × FS) :=
  (fX1_is C 59).bind fun t1 =>
  (fX1_need C t1).bind fun t2 =>
  if t2.1 = none then
  some (none, t2.2)
  else
  (fX1_next t2.2).bind fun t3 =>
    some (some (), t3)
noncomputable def fX2_newName (C : FS) (K : KT) : Option (Option Int64 × FS) :=
  (fX1_name C).bind fun t1 =>
  if t1.1 = none then
  some (none, t1.2)
  else
  (t1.1).bind fun v2 =>
    ((t1.2.2.2.1 213)).bind fun a3 =>
    (gC K 3 a3).bind fun g4 =>
    (fX4_lead K a3 v2).bind fun t5 =>
    if t5 = (-1) then
    ((t1.2.2.2.1 213)).bind fun a7 =>
      (gC K 3 a7).bind fun g8 =>
      (fX4_look K a7 v2).bind fun t9 =>
      if t9 = (-1) then
      (fX1_next t1.2).bind fun t10 =>
        some (some v2, t10)
      else
      (fX1_fail t1.2 3).bind fun t11 =>
        some (none, t11)
    else
    (fX1_fail t1.2 3).bind fun t6 =>
      some (none, t6)
noncomputable def fX2_word_J14 (C : FS) (y1_14 : Int32) : Option (Option Unit × FS) :=
  (fX1_need C y1_14).bind fun t2 =>
  if t2.1 = none then
  some (none, t2.2)
  else
  (fX1_next t2.2).bind fun t3 =>
    some (some (), t3)
noncomputable def fX2_word (C : FS) (p1 : Int32) : Option (Option Unit × FS) :=
  (fX1_key C).bind fun t1 =>
  if t1 = p1 then
  fX2_word_J14 C 1
  else
  fX2_word_J14 C 0
noncomputable def fX2_isNext (C : FS) (p1 : Int32) : Option (Int32 × FS) :=
  (fX1_key C).bind fun t1 =>
  if t1 = p1 then
  (fX1_next C).bind fun t2 =>
    some (1, t2)
  else
  some (0, C)
noncomputable def fX2_aLead_J106 (p1 : Nat) (C_106 : FS) (K_106 : KT) : Option (Option Unit × FS × KT) :=
  (fX2_isNext C_106 17).bind fun t9 =>
  (bz t9.1).bind fun b10 =>
  (uV K_106 6 7 p1 (.int t9.1)).bind fun K11 =>
  ((t9.2.2.2.1 213)).bind fun a12 =>
  (dA K11 3 1 a12).bind fun a13 =>
  ((t9.2.2.2.1 213)).bind fun a14 =>
  (dI K11 3 5 a14).bind fun v15 =>
  (wR K11 5 a13 v15 p1).bind fun K16 =>
  ((t9.2.2.2.1 213)).bind fun a17 =>
  (dI K16 3 5 a17).bind fun v18 =>
  (uV K16 3 5 a17 (.int (v18 + 1))).bind fun K19 =>
  some (some (), t9.2, K19)
noncomputable def fX2_aLead_J86 (p1 : Nat) (C_86 : FS) (K_86 : KT) : Option (Option Unit × FS × KT) :=
  (fX2_isNext C_86 7).bind fun t8 =>
  if t8.1 = 0 then
  fX2_aLead_J106 p1 t8.2 K_86
  else
  (fX1_passed t8.2 0 16).bind fun t20 =>
    if t20.1 = none then
    some (none, t20.2, K_86)
    else
    (t20.1).bind fun v21 =>
      (uV K_86 6 6 p1 (.int v21)).bind fun K22 =>
      fX2_aLead_J106 p1 t20.2 K22
noncomputable def fX2_aLead_J65 (p1 : Nat) (C_65 : FS) (K_65 : KT) : Option (Option Unit × FS × KT) :=
  (fX2_isNext C_65 6).bind fun t7 =>
  if t7.1 = 0 then
  fX2_aLead_J86 p1 t7.2 K_65
  else
  (fX1_passed t7.2 0 999).bind fun t23 =>
    if t23.1 = none then
    some (none, t23.2, K_65)
    else
    (t23.1).bind fun v24 =>
      (uV K_65 6 5 p1 (.int v24)).bind fun K25 =>
      fX2_aLead_J86 p1 t23.2 K25
noncomputable def fX2_aLead_J35 (p1 : Nat) (C_35 : FS) (K_35 : KT) : Option (Option Unit × FS × KT) :=
  (fX2_isNext C_35 5).bind fun t6 =>
  if t6.1 = 0 then
  fX2_aLead_J65 p1 t6.2 K_35
  else
  (fX1_passed t6.2 1 9).bind fun t26 =>
    if t26.1 = none then
    some (none, t26.2, K_35)
    else
    (t26.1).bind fun v27 =>
      (uV K_35 6 3 p1 (.int v27)).bind fun K28 =>
      (fX1_passed t26.2 1 9).bind fun t29 =>
      if t29.1 = none then
      some (none, t29.2, K28)
      else
      (t29.1).bind fun v30 =>
        (uV K28 6 4 p1 (.int v30)).bind fun K31 =>
        fX2_aLead_J65 p1 t29.2 K31
noncomputable def fX2_aLead (C : FS) (K : KT) (p1 : Nat) : Option (Option Unit × FS × KT) :=
  (fX2_word C 3).bind fun t1 =>
  if t1.1 = none then
  some (none, t1.2, K)
  else
  (fX1_passed t1.2 1 30).bind fun t2 =>
    if t2.1 = none then
    some (none, t2.2, K)
    else
    (t2.1).bind fun v3 =>
      (uV K 6 1 p1 (.int v3)).bind fun K4 =>
      (fX2_isNext t2.2 4).bind fun t5 =>
      if t5.1 = 0 then
      fX2_aLead_J35 p1 t5.2 K4
      else
      (fX1_passed t5.2 0 9).bind fun t32 =>
        if t32.1 = none then
        some (none, t32.2, K4)
        else
        (t32.1).bind fun v33 =>
          (uV K4 6 2 p1 (.int v33)).bind fun K34 =>
          fX2_aLead_J35 p1 t32.2 K34
noncomputable def fX2_known (C : FS) (K : KT) : Option (Option Int32 × FS) :=
  ((C.2.2.1 213)).bind fun a1 =>
  (fX1_name C).bind fun t2 =>
  if t2.1 = none then
  some (none, t2.2)
  else
  (t2.1).bind fun v3 =>
    (gC K 3 a1).bind fun g4 =>
    (fX4_lead K a1 v3).bind fun t5 =>
    if t5 = (-1) then
    (fX1_fail t2.2 3).bind fun t7 =>
      some (none, t7)
    else
    (fX1_next t2.2).bind fun t6 =>
      some (some t5, t6)
noncomputable def fX2_crosses_J43 (K : KT) (t2 : Option (Int64) × FS) : Option (Option Int32 × FS) :=
  (fX2_known t2.2 K).bind fun t6 =>
  if t6.1 = none then
  some (none, t6.2)
  else
  (t6.1).bind fun v7 =>
    some (some v7, t6.2)
noncomputable def fX2_crosses (C : FS) (K : KT) (p1 : Int32) : Option (Option Int32 × FS) :=
  ((C.2.2.1 213)).bind fun a1 =>
  (fX1_name C).bind fun t2 =>
  if t2.1 = none then
  some (none, t2.2)
  else
  (t2.1).bind fun v3 =>
    (gC K 3 a1).bind fun g4 =>
    (fX4_lead K a1 v3).bind fun t5 =>
    if t5 = (-1) then
    fX2_crosses_J43 K t2 
    else
    ((t2.2.2.2.1 213)).bind fun a8 =>
      (dA K 3 1 a8).bind fun a9 =>
      (eA K 5 a9 t5).bind fun a10 =>
      (dI K 6 7 a10).bind fun v11 =>
      if v11 = 0 then
      if t5 = p1 then
        (fX1_fail t2.2 5).bind fun t13 =>
          some (none, t13)
        else
        fX2_crosses_J43 K t2 
      else
      (fX1_fail t2.2 5).bind fun t12 =>
        some (none, t12)
noncomputable def fX2_aCrossing_J45 (K : KT) (v2 : Int32) (v4 : Int32) (t5 : Int32) (y0_34 : Int32) (C_45 : FS) : Option (Option Unit × FS × KT) :=
  ((C_45.2.2.1 213)).bind fun a6 =>
  if y0_34 = 0 then
  (gC K 3 a6).bind fun g7 =>
    (fX4_adds K a6 v2 v4 0).bind fun t8 =>
    (gM K t8).bind fun g9 =>
    some (some (), C_45, t8)
  else
  (gC K 3 a6).bind fun g10 =>
    (fX4_adds K a6 v2 v4 ((t5 - 8) + 1)).bind fun t11 =>
    (gM K t11).bind fun g12 =>
    some (some (), C_45, t11)
noncomputable def fX2_aCrossing_J34 (K : KT) (v2 : Int32) (t3 : Option (Int32) × FS) (v4 : Int32) (t5 : Int32) (y0_34 : Int32) : Option (Option Unit × FS × KT) :=
  if y0_34 = 0 then
  fX2_aCrossing_J45 K v2 v4 t5 y0_34 t3.2
  else
  (fX1_next t3.2).bind fun t13 =>
    fX2_aCrossing_J45 K v2 v4 t5 y0_34 t13
noncomputable def fX2_aCrossing (C : FS) (K : KT) : Option (Option Unit × FS × KT) :=
  (fX2_crosses C K (-1)).bind fun t1 =>
  if t1.1 = none then
  some (none, t1.2, K)
  else
  (t1.1).bind fun v2 =>
    (fX2_crosses t1.2 K v2).bind fun t3 =>
    if t3.1 = none then
    some (none, t3.2, K)
    else
    (t3.1).bind fun v4 =>
      (fX1_key t3.2).bind fun t5 =>
      if t5 < 8 then
      fX2_aCrossing_J34 K v2 t3 v4 t5 0
      else
      if 10 < t5 then
        fX2_aCrossing_J34 K v2 t3 v4 t5 0
        else
        fX2_aCrossing_J34 K v2 t3 v4 t5 1
noncomputable def fX2_aLook_J34 (K : KT) (z2_1 : Int32) (t2 : Option (Int64) × FS) : Option ((Int32 × FS) ⊕ ((Option Unit × FS × KT) ⊕ (Int32 × FS))) :=
  (fX2_known t2.2 K).bind fun t6 =>
  if t6.1 = none then
  some (.inr (.inl (none, t6.2, K)))
  else
  (t6.1).bind fun v7 =>
    (fX1_is t6.2 59).bind fun t8 =>
    if t8 = 0 then
    some (.inl ((z2_1 ||| (1 <<< (v7 &&& 31))), t6.2))
    else
    some (.inr (.inr ((z2_1 ||| (1 <<< (v7 &&& 31))), t6.2)))
noncomputable def fX2_aLook_L2 (K : KT) (z2_1 : Int32) (Cz2 : FS) : Option ((Int32 × FS) ⊕ ((Option Unit × FS × KT) ⊕ (Int32 × FS))) :=
  ((Cz2.2.2.1 213)).bind fun a1 =>
  (fX1_name Cz2).bind fun t2 =>
  if t2.1 = none then
  some (.inr (.inl (none, t2.2, K)))
  else
  (t2.1).bind fun v3 =>
    (gC K 3 a1).bind fun g4 =>
    (fX4_lead K a1 v3).bind fun t5 =>
    if t5 = (-1) then
    fX2_aLook_J34 K z2_1 t2 
    else
    if ((z2_1 >>> (t5 &&& 31)) &&& 1) = 1 then
      (fX1_fail t2.2 5).bind fun t9 =>
        some (.inr (.inl (none, t9, K)))
      else
      fX2_aLook_J34 K z2_1 t2 
noncomputable def fX2_aLook_X2 (K : KT) (t2_1 : Int32) (Ct2 : FS) : Option (Option Unit × FS × KT) :=
  ((Ct2.2.2.1 213)).bind fun a10 =>
  (dA K 3 4 a10).bind fun a11 =>
  ((Ct2.2.2.1 213)).bind fun a12 =>
  (dI K 3 7 a12).bind fun v13 =>
  (wI K 2 a11 v13 t2_1).bind fun K14 =>
  ((Ct2.2.2.1 213)).bind fun a15 =>
  (dI K14 3 7 a15).bind fun v16 =>
  (uV K14 3 7 a15 (.int (v16 + 1))).bind fun K17 =>
  some (some (), Ct2, K17)
noncomputable def fX2_aLook (C : FS) (K : KT) : Option (Option Unit × FS × KT) :=
  (lp (fun z => fX2_aLook_L2 K z.1 z.2) (0, C)).bind (Sum.elim (fun v => some v) (fun t =>
  fX2_aLook_X2 K t.1 t.2))
noncomputable def fX2_part_J79 (K : KT) (t1 : Int32) (t2 : Option (Unit) × FS) : Option (Option Unit × FS × KT) :=
  (fX1_next t2.2).bind fun t3 =>
  if t1 = 0 then
  (mkO K 6 [.long 0, .int 0, .int 0, .int 0, .int 0, .int 0, .int 0, .int 0, .int 0]).bind fun K4 =>
    (fX2_newName t3 K4).bind fun t5 =>
    if t5.1 = none then
    some (none, t5.2, K4)
    else
    (t5.1).bind fun v6 =>
      (fX7_init K4 K.2.1 v6).bind fun t7 =>
      (gE K4 t7).bind fun g8 =>
      (fX2_aLead t5.2 t7 K.2.1).bind fun t9 =>
      (gE t7 t9.2.2).bind fun g10 =>
      if t9.1 = none then
      some (none, t9.2.1, t9.2.2)
      else
      some (some (), t9.2.1, t9.2.2)
  else if t1 = 1 then
  (fX2_aCrossing t3 K).bind fun t11 =>
    (gM K t11.2.2).bind fun g12 =>
    if t11.1 = none then
    some (none, t11.2.1, t11.2.2)
    else
    some (some (), t11.2.1, t11.2.2)
  else 
  ((t3.2.2.1 213)).bind fun a13 =>
    (dA K 3 3 a13).bind fun a14 =>
    ((t3.2.2.1 213)).bind fun a15 =>
    (dI K 3 7 a15).bind fun v16 =>
    (fX2_newName t3 K).bind fun t17 =>
    if t17.1 = none then
    some (none, t17.2, K)
    else
    (t17.1).bind fun v18 =>
      (wL K a14 v16 v18).bind fun K19 =>
      (fX2_aLook t17.2 K19).bind fun t20 =>
      (gE K19 t20.2.2).bind fun g21 =>
      if t20.1 = none then
      some (none, t20.2.1, t20.2.2)
      else
      some (some (), t20.2.1, t20.2.2)
noncomputable def fX2_part_J56 (K : KT) (t1 : Int32) (t2 : Option (Unit) × FS) : Option (Option Unit × FS × KT) :=
  if t1 = 2 then
  ((t2.2.2.2.1 213)).bind fun a22 =>
    (dI K 3 7 a22).bind fun v23 =>
    if v23 = 3 then
    (fX1_fail t2.2 6).bind fun t24 =>
      some (none, t24, K)
    else
    fX2_part_J79 K t1 t2 
  else
  fX2_part_J79 K t1 t2 
noncomputable def fX2_part_J39 (K : KT) (t1 : Int32) (t2 : Option (Unit) × FS) : Option (Option Unit × FS × KT) :=
  if t1 = 1 then
  ((t2.2.2.2.1 213)).bind fun a25 =>
    (dI K 3 6 a25).bind fun v26 =>
    if v26 = 24 then
    (fX1_fail t2.2 6).bind fun t27 =>
      some (none, t27, K)
    else
    fX2_part_J56 K t1 t2 
  else
  fX2_part_J56 K t1 t2 
noncomputable def fX2_part_J20 (C : FS) (K : KT) (t1 : Int32) (y1_20 : Int32) : Option (Option Unit × FS × KT) :=
  (fX1_need C y1_20).bind fun t2 =>
  if t2.1 = none then
  some (none, t2.2, K)
  else
  if t1 = 0 then
    ((t2.2.2.2.1 213)).bind fun a28 =>
      (dI K 3 5 a28).bind fun v29 =>
      if v29 = 8 then
      (fX1_fail t2.2 6).bind fun t30 =>
        some (none, t30, K)
      else
      fX2_part_J39 K t1 t2 
    else
    fX2_part_J39 K t1 t2 
noncomputable def fX2_part (C : FS) (K : KT) : Option (Option Unit × FS × KT) :=
  (fX1_key C).bind fun t1 =>
  if t1 < 0 then
  fX2_part_J20 C K t1 0
  else
  if 2 < t1 then
    fX2_part_J20 C K t1 0
    else
    fX2_part_J20 C K t1 1
noncomputable def fX2_drawer_L20 (Cz20 : FS) (Kz20 : KT) : Option ((FS × KT) ⊕ ((Option Nat × FS × KT) ⊕ (FS × KT))) :=
  if (Cz20.1 202) = 0 then
  some (.inr (.inr (Cz20, Kz20)))
  else
  (fX2_part Cz20 Kz20).bind fun t7 =>
    (gM Kz20 t7.2.2).bind fun g8 =>
    if t7.1 = none then
    some (.inr (.inl (none, t7.2.1, t7.2.2)))
    else
    (fX1_closes t7.2.1).bind fun t9 =>
      if t9.1 = none then
      some (.inr (.inl (none, t9.2, t7.2.2)))
      else
      some (.inl (t9.2, t7.2.2))
noncomputable def fX2_drawer_X20 (Ct20 : FS) (Kt20 : KT) : Option (Option Nat × FS × KT) :=
  ((Ct20.2.2.1 213)).bind fun a10 =>
  some (some a10, Ct20, Kt20)
noncomputable def fX2_drawer (C : FS) (K : KT) (p1 : Int32) : Option (Option Nat × FS × KT) :=
  (mkO K 3 [.null, .null, .null, .null, .null, .int 0, .int 0, .int 0, .int 0, .int 0, .int 0]).bind fun K1 =>
  ((C.2.2.1 216)).bind fun a2 =>
  (fX4_init K1 K.2.1 a2).bind fun t3 =>
  (gM K1 t3).bind fun g4 =>
  (some (sR C 213 (some K.2.1))).bind fun C5 =>
  (fX1_begin C5 p1).bind fun t6 =>
  (lp (fun z => fX2_drawer_L20 z.1 z.2) (t6, t3)).bind (Sum.elim (fun v => some v) (fun t =>
  fX2_drawer_X20 t.1 t.2))
noncomputable def fX2_test_J132 (p1 : Nat) (K9 : KT) (t10 : FS) (y3_132 : Int32) : Option (Option Unit × FS × KT) :=
  (fX1_passed t10 0 y3_132).bind fun t12 =>
  if t12.1 = none then
  some (none, t12.2, K9)
  else
  (t12.1).bind fun v13 =>
    (uV K9 11 2 p1 (.int v13)).bind fun K14 =>
    some (some (), t12.2, K14)
noncomputable def fX2_test_J98 (p1 : Nat) (K2 : KT) (t5 : FS) (y1_98 : Int32) : Option (Option Unit × FS × KT) :=
  (fX1_need t5 y1_98).bind fun t8 =>
  if t8.1 = none then
  some (none, t8.2, K2)
  else
  (uV K2 11 4 p1 (.int (t8.2.1 205))).bind fun K9 =>
    (fX1_next t8.2).bind fun t10 =>
    (dI K9 11 3 p1).bind fun v11 =>
    if v11 = 22 then
    fX2_test_J132 p1 K9 t10 8
    else
    fX2_test_J132 p1 K9 t10 24
noncomputable def fX2_test_J40 (C : FS) (p1 : Nat) (K2 : KT) (y1_40 : Int32) : Option (Option Unit × FS × KT) :=
  (fX1_need C y1_40).bind fun t4 =>
  if t4.1 = none then
  some (none, t4.2, K2)
  else
  (fX1_next t4.2).bind fun t5 =>
    (dI K2 11 3 p1).bind fun v6 =>
    if v6 = 23 then
    (fX2_known t5 K2).bind fun t17 =>
      if t17.1 = none then
      some (none, t17.2, K2)
      else
      (t17.1).bind fun v18 =>
        (uV K2 11 1 p1 (.int v18)).bind fun K19 =>
        some (some (), t17.2, K19)
    else
    (fX1_is t5 60).bind fun t7 =>
      if t7 = 0 then
      (fX1_is t5 62).bind fun t15 =>
        if t15 = 0 then
        (fX1_is t5 61).bind fun t16 =>
          if t16 = 0 then
          fX2_test_J98 p1 K2 t5 0
          else
          fX2_test_J98 p1 K2 t5 1
        else
        fX2_test_J98 p1 K2 t5 1
      else
      fX2_test_J98 p1 K2 t5 1
noncomputable def fX2_test (C : FS) (K : KT) (p1 : Nat) : Option (Option Unit × FS × KT) :=
  (fX1_key C).bind fun t1 =>
  (uV K 11 3 p1 (.int t1)).bind fun K2 =>
  (dI K2 11 3 p1).bind fun v3 =>
  if v3 = 22 then
  fX2_test_J40 C p1 K2 1
  else
  (dI K2 11 3 p1).bind fun v20 =>
    if v20 = 1 then
    fX2_test_J40 C p1 K2 1
    else
    (dI K2 11 3 p1).bind fun v21 =>
      if v21 = 23 then
      fX2_test_J40 C p1 K2 1
      else
      fX2_test_J40 C p1 K2 0
noncomputable def fX2_step_J290 (K : KT) (K_243 : KT) (C_274 : FS) (y2_290 : Int32) : Option (Option Unit × FS × KT) :=
  (some (sI C_274 211 ((C_274.1 211) + y2_290))).bind fun C8 =>
  ((C8.2.2.1 214)).bind fun a9 =>
  (wR K_243 6 a9 (C8.1 210) K.2.1).bind fun K10 =>
  (some (sI C8 210 ((C8.1 210) + 1))).bind fun C11 =>
  some (some (), C11, K10)
noncomputable def fX2_step_J274 (K : KT) (t1 : Int32) (K_243 : KT) (C_274 : FS) : Option (Option Unit × FS × KT) :=
  if t1 = 21 then
  fX2_step_J290 K K_243 C_274 0
  else
  fX2_step_J290 K K_243 C_274 1
noncomputable def fX2_step_J243 (K : KT) (t1 : Int32) (y0_22 : Int32) (C_243 : FS) (K_243 : KT) : Option (Option Unit × FS × KT) :=
  (fX1_closes C_243).bind fun t7 =>
  if t7.1 = none then
  some (none, t7.2, K_243)
  else
  if y0_22 = 0 then
    fX2_step_J274 K t1 K_243 t7.2
    else
    (wA t7.2 215 3 (t7.2.1 212) (t7.2.1 210)).bind fun C12 =>
      (some (sI C12 212 ((C12.1 212) + 1))).bind fun C13 =>
      fX2_step_J274 K t1 K_243 C13
noncomputable def fX2_step_J168 (K : KT) (t1 : Int32) (y0_22 : Int32) (t4 : KT) (t6 : FS) : Option (Option Unit × FS × KT) :=
  (fX1_passed t6 1 99).bind fun t14 =>
  if t14.1 = none then
  some (none, t14.2, t4)
  else
  (t14.1).bind fun v15 =>
    (uV t4 11 1 K.2.1 (.int v15)).bind fun K16 =>
    fX2_step_J243 K t1 y0_22 t14.2 K16
noncomputable def fX2_step_J182 (K : KT) (t1 : Int32) (y0_22 : Int32) (t4 : KT) (t6 : FS) : Option (Option Unit × FS × KT) :=
  (fX2_known t6 t4).bind fun t17 =>
  if t17.1 = none then
  some (none, t17.2, t4)
  else
  (t17.1).bind fun v18 =>
    (uV t4 11 1 K.2.1 (.int v18)).bind fun K19 =>
    fX2_step_J243 K t1 y0_22 t17.2 K19
noncomputable def fX2_step_J98 (K : KT) (t1 : Int32) (y0_22 : Int32) (t2 : Option (Unit) × FS) : Option (Option Unit × FS × KT) :=
  (mkO K 11 [.int 0, .int 0, .int 0, .int 0, .int 0, .int 0, .int 0]).bind fun K3 =>
  (fX13_init K3 K.2.1 t1).bind fun t4 =>
  (gE K3 t4).bind fun g5 =>
  (fX1_next t2.2).bind fun t6 =>
  if t1 < 12 ∨ 21 < t1 then
  fX2_step_J243 K t1 y0_22 t6 t4
  else if t1 = 12 then
  fX2_step_J168 K t1 y0_22 t4 t6 
  else if t1 = 13 then
  fX2_step_J182 K t1 y0_22 t4 t6 
  else if t1 = 14 then
  fX2_step_J243 K t1 y0_22 t6 t4
  else if t1 = 15 then
  fX2_step_J182 K t1 y0_22 t4 t6 
  else if t1 = 16 then
  fX2_step_J182 K t1 y0_22 t4 t6 
  else if t1 = 17 then
  fX2_step_J182 K t1 y0_22 t4 t6 
  else if t1 = 18 then
  (fX2_test t6 t4 K.2.1).bind fun t20 =>
    (gE t4 t20.2.2).bind fun g21 =>
    if t20.1 = none then
    some (none, t20.2.1, t20.2.2)
    else
    fX2_step_J243 K t1 y0_22 t20.2.1 t20.2.2
  else if t1 = 19 then
  fX2_step_J168 K t1 y0_22 t4 t6 
  else if t1 = 20 then
  fX2_step_J243 K t1 y0_22 t6 t4
  else if t1 = 21 then
  (some (sI t6 212 ((t6.1 212) - 1))).bind fun C22 =>
    (rA C22 215 3 (C22.1 212)).bind fun v23 =>
    (uV t4 11 5 K.2.1 (.int v23)).bind fun K24 =>
    ((C22.2.2.1 214)).bind fun a25 =>
    (dI K24 11 5 K.2.1).bind fun v26 =>
    (eA K24 6 a25 v26).bind fun a27 =>
    (uV K24 11 5 a27 (.int (C22.1 210))).bind fun K28 =>
    fX2_step_J243 K t1 y0_22 C22 K28
  else none
noncomputable def fX2_step_J79 (K : KT) (t1 : Int32) (y0_22 : Int32) (t2 : Option (Unit) × FS) : Option (Option Unit × FS × KT) :=
  if y0_22 = 0 then
  fX2_step_J98 K t1 y0_22 t2 
  else
  if (t2.2.1 212) = 3 then
    (fX1_fail t2.2 7).bind fun t29 =>
      some (none, t29, K)
    else
    fX2_step_J98 K t1 y0_22 t2 
noncomputable def fX2_step_J54 (C : FS) (K : KT) (t1 : Int32) (y0_22 : Int32) (y1_54 : Int32) : Option (Option Unit × FS × KT) :=
  (fX1_need C y1_54).bind fun t2 =>
  if t2.1 = none then
  some (none, t2.2, K)
  else
  if t1 = 21 then
    fX2_step_J79 K t1 y0_22 t2 
    else
    if (t2.2.1 211) = 30 then
      (fX1_fail t2.2 6).bind fun t30 =>
        some (none, t30, K)
      else
      fX2_step_J79 K t1 y0_22 t2 
noncomputable def fX2_step_J36 (C : FS) (K : KT) (t1 : Int32) (y0_22 : Int32) : Option (Option Unit × FS × KT) :=
  if t1 = 21 then
  if (C.1 212) ≤ 0 then
    fX2_step_J54 C K t1 y0_22 0
    else
    fX2_step_J54 C K t1 y0_22 1
  else
  fX2_step_J54 C K t1 y0_22 0
noncomputable def fX2_step_J22 (C : FS) (K : KT) (t1 : Int32) (y0_22 : Int32) : Option (Option Unit × FS × KT) :=
  if t1 < 12 then
  fX2_step_J36 C K t1 y0_22 
  else
  if t1 ≤ 20 then
    fX2_step_J54 C K t1 y0_22 1
    else
    fX2_step_J36 C K t1 y0_22 
noncomputable def fX2_step (C : FS) (K : KT) : Option (Option Unit × FS × KT) :=
  (fX1_key C).bind fun t1 =>
  if t1 = 18 then
  fX2_step_J22 C K t1 1
  else
  if t1 = 19 then
    fX2_step_J22 C K t1 1
    else
    fX2_step_J22 C K t1 0
noncomputable def fX2_years_L34 (Cz34 : FS) (Kz34 : KT) : Option ((FS × KT) ⊕ ((Option Nat × FS × KT) ⊕ (FS × KT))) :=
  if (Cz34.1 202) = 0 then
  some (.inr (.inr (Cz34, Kz34)))
  else
  (fX2_step Cz34 Kz34).bind fun t8 =>
    (gM Kz34 t8.2.2).bind fun g9 =>
    if t8.1 = none then
    some (.inr (.inl (none, t8.2.1, t8.2.2)))
    else
    some (.inl (t8.2.1, t8.2.2))
noncomputable def fX2_years_J61 (Ct34 : FS) (Kt34 : KT) (y1_61 : Int32) : Option (Option Nat × FS × KT) :=
  (fX1_need Ct34 y1_61).bind fun t10 =>
  if t10.1 = none then
  some (none, t10.2, Kt34)
  else
  ((t10.2.2.2.1 214)).bind fun a11 =>
    some (some a11, t10.2, Kt34)
noncomputable def fX2_years_X34 (Ct34 : FS) (Kt34 : KT) : Option (Option Nat × FS × KT) :=
  if (Ct34.1 212) = 0 then
  fX2_years_J61 Ct34 Kt34 1
  else
  fX2_years_J61 Ct34 Kt34 0
noncomputable def fX2_years (C : FS) (K : KT) (p1 : Int32) (p2 : Nat) : Option (Option Nat × FS × KT) :=
  (some (sR C 213 (some p2))).bind fun C1 =>
  (mkE K 6 (60, .inr (.inr (.inr (.inr (fun _ => none)))))).bind fun K2 =>
  (some (sR C1 214 (some K.2.1))).bind fun C3 =>
  (some (sI C3 210 0)).bind fun C4 =>
  (some (sI C4 211 0)).bind fun C5 =>
  (some (sI C5 212 0)).bind fun C6 =>
  (fX1_begin C6 p1).bind fun t7 =>
  (lp (fun z => fX2_years_L34 z.1 z.2) (t7, K2)).bind (Sum.elim (fun v => some v) (fun t =>
  fX2_years_X34 t.1 t.2))
