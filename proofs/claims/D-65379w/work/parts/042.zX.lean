set_option maxRecDepth 100000
set_option maxHeartbeats 4000000
noncomputable def zX0_isIn (x0 : Int64) (x2 : Int64) (x4 : Int64) (σ : fv_S) : Option fv_O :=
  if (lg_cmp x0 x2) < 0 then
    fv_ri 0 σ
  else
    if (0 : Int32) < (lg_cmp x0 x4) then
      fv_ri 0 σ
    else
      fv_ri 1 σ
noncomputable def zX0_feed_50_b (N : Nat) (k50 : Int64 → Int32 → fv_S → Option fv_O) (x1 : Int64) (x4 : Int32) (σ : fv_S) : Option fv_O :=
  if x4 < 0 then
    fv_ri (fv_gi σ 1665) σ
  else
    if fv_in (fv_gi σ 1665) 6000 then
      k50 x1 (x4 + ((-1) : Int32)) (fv_sa (fv_si σ 1665 ((fv_gi σ 1665) + (1 : Int32))) 14 (fv_gi σ 1665) ((Int32.toInt8 ((Int32.toInt8 (Int64.toInt32 (x1 >>> (((8 : Int32) * x4 : Int32).toInt64 &&& (63 : Int64))))).toInt32)).toInt32))
    else none
noncomputable def zX0_feed_50 (N : Nat) : Nat → Int64 → Int32 → fv_S → Option fv_O
  | 0, _, _, _ => none
  | n + 1, x1, x4, σ => zX0_feed_50_b N (zX0_feed_50 N n) x1 x4 σ
noncomputable def zX0_feed_27 (N : Nat) (x1 : Int64) (x3 : Int32) (σ : fv_S) : Option fv_O :=
  if ((fv_gi σ 1665) + x3) ≤ (6000 : Int32) then
    zX0_feed_50 N N x1 (x3 - (1 : Int32)) σ
  else
    fv_ri (-4) σ
noncomputable def zX0_feed (N : Nat) (x1 : Int64) (x3 : Int32) (σ : fv_S) : Option fv_O :=
  fv_bi (zX0_isIn (Int32.toInt64 x3) 0 8 σ) (fun r3 σ2 =>
    if ¬ r3 = 0 then
      if ¬ x3 = 0 then
        zX0_feed_27 N x1 x3 σ2
      else
        zX0_feed_27 N x1 x3 (fv_si σ2 1665 0)
    else
      fv_ri (-2) σ2) fv_no
noncomputable def zX4_begin_55 (N : Nat) (k2 : Int32 → fv_S → Option fv_O) (x1 : Int32) (s1 : Int32) (s2 : Int32) (σ : fv_S) : Option fv_O :=
  if fv_in s1 6000 then
    k2 (x1 + (1 : Int32)) (fv_sa σ 15 s1 ((Int32.toInt8 ((Int32.toInt8 s2).toInt32)).toInt32))
  else none
noncomputable def zX4_begin_49 (N : Nat) (k2 : Int32 → fv_S → Option fv_O) (x1 : Int32) (s1 : Int32) (σ : fv_S) : Option fv_O :=
  if fv_in x1 6000 then
    zX4_begin_55 N k2 x1 s1 (fv_ga σ 14 x1) σ
  else none
noncomputable def zX4_begin_2_b (N : Nat) (k2 : Int32 → fv_S → Option fv_O) (x1 : Int32) (σ : fv_S) : Option fv_O :=
  if (fv_gi σ 1665) ≤ x1 then
    fv_rv (fv_si (fv_si σ 1667 0) 1668 0)
  else
    if fv_in x1 6000 then
      if (fv_ga σ 14 x1) < (97 : Int32) then
        zX4_begin_49 N k2 x1 x1 σ
      else
        if fv_in x1 6000 then
          if (122 : Int32) < (fv_ga σ 14 x1) then
            zX4_begin_49 N k2 x1 x1 σ
          else
            if fv_in x1 6000 then
              zX4_begin_55 N k2 x1 x1 ((fv_ga σ 14 x1) - (32 : Int32)) σ
            else none
        else none
    else none
noncomputable def zX4_begin_2 (N : Nat) : Nat → Int32 → fv_S → Option fv_O
  | 0, _, _ => none
  | n + 1, x1, σ => zX4_begin_2_b N (zX4_begin_2 N n) x1 σ
noncomputable def zX4_begin (N : Nat) (σ : fv_S) : Option fv_O :=
  zX4_begin_2 N N 0 σ
noncomputable def zX3_tellFault_32 (x1 : Int32) (x2 : Int32) (σ : fv_S) : Option fv_O :=
  fv_rv (fv_si (fv_si σ 1563 x1) 1564 x2)
noncomputable def zX3_tellFault (x1 : Int32) (x2 : Int32) (σ : fv_S) : Option fv_O :=
  if (fv_gi σ 1563) ≤ 0 then
    zX3_tellFault_32 x1 x2 σ
  else
    if (fv_gi σ 1564) < x2 then
      fv_rv σ
    else
      if ¬ x2 = (fv_gi σ 1564) then
        zX3_tellFault_32 x1 x2 σ
      else
        if x1 < (fv_gi σ 1563) then
          zX3_tellFault_32 x1 x2 σ
        else
          fv_rv σ
noncomputable def zX3_lineFault_a (xn : Int32) (xp : Int32) (σ : fv_S) : Option fv_O :=
  fv_bv (zX3_tellFault xn xp σ) (fun σ1 =>
    if (fv_gi σ1 1563) ≤ 0 then
      fv_rv σ1
    else
      fv_th (fv_gi σ1 1563) (fv_gi σ1 1564) (fv_sc σ1)) fv_no
noncomputable def zX3_lineFault_n (σ : fv_S) : Option fv_O :=
  if (fv_gi σ 1563) ≤ 0 then
    fv_rv σ
  else
    fv_th (fv_gi σ 1563) (fv_gi σ 1564) (fv_sc σ)
noncomputable def zX4_skipBlanks_53 (N : Nat) (k0 : fv_S → Option fv_O) (σ : fv_S) : Option fv_O :=
  k0 (fv_si σ 1667 ((fv_gi σ 1667) + (1 : Int32)))
noncomputable def zX4_skipBlanks_0_b (N : Nat) (k0 : fv_S → Option fv_O) (σ : fv_S) : Option fv_O :=
  if (fv_gi σ 1665) ≤ (fv_gi σ 1667) then
    fv_rv σ
  else
    if fv_in (fv_gi σ 1667) 6000 then
      if (fv_ga σ 14 (fv_gi σ 1667)) = (32 : Int32) then
        zX4_skipBlanks_53 N k0 σ
      else
        if fv_in (fv_gi σ 1667) 6000 then
          if (fv_ga σ 14 (fv_gi σ 1667)) = (9 : Int32) then
            zX4_skipBlanks_53 N k0 σ
          else
            if fv_in (fv_gi σ 1667) 6000 then
              if ¬ (fv_ga σ 14 (fv_gi σ 1667)) = (13 : Int32) then
                fv_rv σ
              else
                zX4_skipBlanks_53 N k0 σ
            else none
        else none
    else none
noncomputable def zX4_skipBlanks_0 (N : Nat) : Nat → fv_S → Option fv_O
  | 0, _ => none
  | n + 1, σ => zX4_skipBlanks_0_b N (zX4_skipBlanks_0 N n) σ
noncomputable def zX4_skipBlanks (N : Nat) (σ : fv_S) : Option fv_O := zX4_skipBlanks_0 N N σ
noncomputable def zX4_signAt (x1 : Int32) (σ : fv_S) : Option fv_O :=
  if (fv_gi σ 1665) ≤ x1 then
    fv_ri (-1) σ
  else
    if fv_in x1 6000 then
      fv_ri (fv_ga σ 15 x1) σ
    else none
noncomputable def zX4_isNameStart_12 (x0 : Int32) (σ : fv_S) : Option fv_O :=
  if ¬ x0 = (95 : Int32) then
    fv_ri 0 σ
  else
    fv_ri 1 σ
noncomputable def zX4_isNameStart (x0 : Int32) (σ : fv_S) : Option fv_O :=
  if x0 < (65 : Int32) then
    zX4_isNameStart_12 x0 σ
  else
    if x0 ≤ (90 : Int32) then
      fv_ri 1 σ
    else
      zX4_isNameStart_12 x0 σ
noncomputable def zX4_isDigit (x0 : Int32) (σ : fv_S) : Option fv_O :=
  if x0 < (48 : Int32) then
    fv_ri 0 σ
  else
    if (57 : Int32) < x0 then
      fv_ri 0 σ
    else
      fv_ri 1 σ
noncomputable def zX4_isNamePart (x0 : Int32) (σ : fv_S) : Option fv_O :=
  fv_bi (zX4_isNameStart x0 σ) (fun r2 σ1 =>
    if ¬ r2 = 0 then
      fv_ri 1 σ1
    else
      fv_bi (zX4_isDigit x0 σ1) (fun r4 σ3 =>
        if r4 = 0 then
          fv_ri 0 σ3
        else
          fv_ri 1 σ3) fv_no) fv_no
noncomputable def zX4_scanName_127 (N : Nat) (s1 : Int32) (s2 : Int32) (σ : fv_S) : Option fv_O :=
  fv_rv (fv_si σ 1671 (s1 + s2))
noncomputable def zX4_scanName_112 (N : Nat) (s0 : Int32) (σ : fv_S) : Option fv_O :=
  if s0 = 0 then
    zX4_scanName_127 N (fv_gi σ 1671) 0 σ
  else
    zX4_scanName_127 N (fv_gi σ 1671) 1 σ
noncomputable def zX4_scanName_111 (N : Nat) (σ : fv_S) : Option fv_O :=
  zX4_scanName_112 N 0 σ
noncomputable def zX4_scanName_53 (N : Nat) (s1 : Int32) (σ : fv_S) : Option fv_O :=
  if ¬ (fv_gi σ 1671) = (2 : Int32) then
    zX4_scanName_111 N (fv_si σ 1669 s1)
  else
    fv_bi (zX4_signAt (fv_gi σ 1670) (fv_si σ 1669 s1)) (fun r2 σ1 =>
      if ¬ r2 = (65 : Int32) then
        zX4_scanName_111 N σ1
      else
        fv_bi (zX4_signAt ((fv_gi σ1 1670) + (1 : Int32)) σ1) (fun r4 σ3 =>
          if ¬ r4 = (70 : Int32) then
            zX4_scanName_111 N σ3
          else
            fv_bi (zX4_signAt ((fv_gi σ3 1670) + (2 : Int32)) σ3) (fun r6 σ5 =>
              if ¬ r6 = (39 : Int32) then
                zX4_scanName_111 N σ5
              else
                zX4_scanName_112 N 1 σ5) fv_no) fv_no) fv_no
noncomputable def zX4_scanName_5_b (N : Nat) (k5 : fv_S → Option fv_O) (σ : fv_S) : Option fv_O :=
  fv_bi (zX4_signAt ((fv_gi σ 1670) + (fv_gi σ 1671)) σ) (fun r8 σ7 =>
    fv_bi (zX4_isNamePart r8 σ7) (fun r10 σ9 =>
      if r10 = 0 then
        if (fv_gi σ9 1671) ≤ (12 : Int32) then
          zX4_scanName_53 N 1 σ9
        else
          zX4_scanName_53 N 6 σ9
      else
        k5 (fv_si σ9 1671 ((fv_gi σ9 1671) + (1 : Int32)))) fv_no) fv_no
noncomputable def zX4_scanName_5 (N : Nat) : Nat → fv_S → Option fv_O
  | 0, _ => none
  | n + 1, σ => zX4_scanName_5_b N (zX4_scanName_5 N n) σ
noncomputable def zX4_scanName (N : Nat) (σ : fv_S) : Option fv_O :=
  zX4_scanName_5 N N (fv_si σ 1671 1)
noncomputable def zX4_digit_37 (x1 : Int32) (s0 : Int32) (σ : fv_S) : Option fv_O :=
  if x1 ≤ s0 then
    fv_ri (-1) σ
  else
    fv_ri s0 σ
noncomputable def zX4_digit_36 (x1 : Int32) (σ : fv_S) : Option fv_O :=
  zX4_digit_37 x1 x1 σ
noncomputable def zX4_digit (x0 : Int32) (x1 : Int32) (σ : fv_S) : Option fv_O :=
  fv_bi (zX4_isDigit x0 σ) (fun r2 σ1 =>
    if r2 = 0 then
      if x0 < (65 : Int32) then
        zX4_digit_36 x1 σ1
      else
        if (70 : Int32) < x0 then
          zX4_digit_36 x1 σ1
        else
          zX4_digit_37 x1 ((x0 - (65 : Int32)) + (10 : Int32)) σ1
    else
      zX4_digit_37 x1 (x0 - (48 : Int32)) σ1) fv_no
noncomputable def zJ3_min (x0 : Int64) (x2 : Int64) (σ : fv_S) : Option fv_O :=
  if (0 : Int32) < (lg_cmp x0 x2) then
    fv_rl x2 σ
  else
    fv_rl x0 σ
noncomputable def zX4_scanNumber_93 (N : Nat) (x3 : Int64) (s1 : Int32) (σ : fv_S) : Option fv_O :=
  fv_rv (fv_si (fv_si σ 1669 s1) 1672 (Int64.toInt32 x3))
noncomputable def zX4_scanNumber_87 (N : Nat) (x3 : Int64) (σ : fv_S) : Option fv_O :=
  zX4_scanNumber_93 N x3 6 σ
noncomputable def zX4_scanNumber_7_b (N : Nat) (k7 : Int32 → Int32 → Int64 → fv_S → Option fv_O) (x1 : Int32) (x2 : Int32) (x3 : Int64) (σ : fv_S) : Option fv_O :=
  fv_bi (zX4_signAt ((fv_gi σ 1670) + (fv_gi σ 1671)) σ) (fun r2 σ1 =>
    fv_bi (zX4_digit r2 x2 σ1) (fun r4 σ3 =>
      if r4 < 0 then
        if (fv_gi σ3 1671) = x1 then
          zX4_scanNumber_87 N x3 σ3
        else
          if (lg_cmp x3 (65535 : Int64)) ≤ 0 then
            zX4_scanNumber_93 N x3 2 σ3
          else
            zX4_scanNumber_87 N x3 σ3
      else
        fv_bi (zX4_signAt ((fv_gi σ3 1670) + (fv_gi σ3 1671)) σ3) (fun r6 σ5 =>
          fv_bi (zX4_digit r6 x2 σ5) (fun r8 σ7 =>
            fv_bl (zJ3_min 100000 (((Int32.toInt64 x2) * x3) + (Int32.toInt64 r8)) σ7) (fun r10 σ9 =>
              k7 x1 x2 r10 (fv_si σ9 1671 ((fv_gi σ9 1671) + (1 : Int32)))) fv_no) fv_no) fv_no) fv_no) fv_no
noncomputable def zX4_scanNumber_7 (N : Nat) : Nat → Int32 → Int32 → Int64 → fv_S → Option fv_O
  | 0, _, _, _, _ => none
  | n + 1, x1, x2, x3, σ => zX4_scanNumber_7_b N (zX4_scanNumber_7 N n) x1 x2 x3 σ
noncomputable def zX4_scanNumber (N : Nat) (x1 : Int32) (x2 : Int32) (σ : fv_S) : Option fv_O :=
  zX4_scanNumber_7 N N x1 x2 0 (fv_si σ 1671 x1)
noncomputable def zX4_byteAt (x1 : Int32) (σ : fv_S) : Option fv_O :=
  if (fv_gi σ 1665) ≤ x1 then
    fv_ri (-1) σ
  else
    if fv_in x1 6000 then
      fv_ri (fv_ga σ 14 x1) σ
    else none
noncomputable def zX4_isShown (x0 : Int32) (σ : fv_S) : Option fv_O :=
  if x0 < (32 : Int32) then
    fv_ri 0 σ
  else
    if (126 : Int32) < x0 then
      fv_ri 0 σ
    else
      fv_ri 1 σ
noncomputable def zX4_scanSign_38 (s1 : Int32) (σ : fv_S) : Option fv_O :=
  fv_bi (zX4_byteAt ((fv_gi σ 1670) + (1 : Int32)) (fv_si σ 1669 s1)) (fun r2 σ1 =>
    fv_rv (fv_si (fv_si σ1 1672 r2) 1671 3)) fv_no
noncomputable def zX4_scanSign_36 (σ : fv_S) : Option fv_O :=
  zX4_scanSign_38 6 σ
noncomputable def zX4_scanSign (σ : fv_S) : Option fv_O :=
  fv_bi (zX4_byteAt ((fv_gi σ 1670) + (1 : Int32)) σ) (fun r4 σ3 =>
    fv_bi (zX4_isShown r4 σ3) (fun r6 σ5 =>
      if r6 = 0 then
        zX4_scanSign_36 σ5
      else
        fv_bi (zX4_byteAt ((fv_gi σ5 1670) + (2 : Int32)) σ5) (fun r8 σ7 =>
          if ¬ r8 = (39 : Int32) then
            zX4_scanSign_36 σ7
          else
            zX4_scanSign_38 2 σ7) fv_no) fv_no) fv_no
noncomputable def zX4_scanText_81 (N : Nat) (s1 : Int32) (σ : fv_S) : Option fv_O :=
  fv_rv (fv_si (fv_si σ 1669 s1) 1671 ((fv_gi σ 1671) + (1 : Int32)))
noncomputable def zX4_scanText_56 (N : Nat) (σ : fv_S) : Option fv_O :=
  fv_bi (zX4_byteAt ((fv_gi σ 1670) + (fv_gi σ 1671)) σ) (fun r2 σ1 =>
    if ¬ r2 = (34 : Int32) then
      zX4_scanText_81 N 6 σ1
    else
      zX4_scanText_81 N 3 σ1) fv_no
noncomputable def zX4_scanText_5_b (N : Nat) (k5 : fv_S → Option fv_O) (σ : fv_S) : Option fv_O :=
  fv_bi (zX4_byteAt ((fv_gi σ 1670) + (fv_gi σ 1671)) σ) (fun r4 σ3 =>
    fv_bi (zX4_isShown r4 σ3) (fun r6 σ5 =>
      if r6 = 0 then
        zX4_scanText_56 N σ5
      else
        if fv_in ((fv_gi σ5 1670) + (fv_gi σ5 1671)) 6000 then
          if (fv_ga σ5 14 ((fv_gi σ5 1670) + (fv_gi σ5 1671))) = (34 : Int32) then
            zX4_scanText_56 N σ5
          else
            k5 (fv_si σ5 1671 ((fv_gi σ5 1671) + (1 : Int32)))
        else none) fv_no) fv_no
noncomputable def zX4_scanText_5 (N : Nat) : Nat → fv_S → Option fv_O
  | 0, _ => none
  | n + 1, σ => zX4_scanText_5_b N (zX4_scanText_5 N n) σ
noncomputable def zX4_scanText (N : Nat) (σ : fv_S) : Option fv_O :=
  zX4_scanText_5 N N (fv_si σ 1671 1)
noncomputable def zJ4_isLatin1 (x0 : Nat) (σ : fv_S) : Option fv_O :=
  if (1 : Int32) = 0 then
    fv_ri 0 σ
  else
    if x0 < 102 then
      if ¬ (0 : Int32) = 0 then
        fv_ri 0 σ
      else
        fv_ri 1 σ
    else none
noncomputable def zJ4_coder (x0 : Nat) (σ : fv_S) : Option fv_O :=
  if (1 : Int32) = 0 then
    fv_ri 1 σ
  else
    if x0 < 102 then
      fv_ri 0 σ
    else none
noncomputable def zJ4_length (x0 : Nat) (σ : fv_S) : Option fv_O :=
  if x0 < 102 then
    if x0 < 102 then
      if x0 < 102 then
        fv_bi (zJ4_coder x0 σ) (fun r4 σ3 =>
        fv_ri ((fv_sln x0) >>> (r4 &&& (31 : Int32))) σ3) fv_no
      else none
    else none
  else none
noncomputable def zJ5_canEncode (x0 : Int32) (σ : fv_S) : Option fv_O :=
  if x0 < 0 then
    fv_ri 0 σ
  else
    if (255 : Int32) < x0 then
      fv_ri 0 σ
    else
      fv_ri 1 σ
noncomputable def zJ3_max (x0 : Int32) (x1 : Int32) (σ : fv_S) : Option fv_O :=
  if x0 < x1 then
    fv_ri x1 σ
  else
    fv_ri x0 σ
noncomputable def zJ3_min_2 (x0 : Int32) (x1 : Int32) (σ : fv_S) : Option fv_O :=
  if x1 < x0 then
    fv_ri x1 σ
  else
    fv_ri x0 σ
noncomputable def zJ5_indexOfChar_7_b (N : Nat) (k7 : Nat → Int32 → Int32 → Int32 → fv_S → Option fv_O) (x0 : Nat) (x3 : Int32) (x4 : Int32) (x5 : Int32) (σ : fv_S) : Option fv_O :=
  if x3 ≤ x5 then
    fv_ri (-1) σ
  else
    if x0 < 102 ∧ fv_in x5 (fv_sl0 x0) then
      if ¬ (fv_sch x0 x5) = x4 then
        k7 x0 x3 x4 (x5 + (1 : Int32)) σ
      else
        fv_ri x5 σ
    else none
noncomputable def zJ5_indexOfChar_7 (N : Nat) : Nat → Nat → Int32 → Int32 → Int32 → fv_S → Option fv_O
  | 0, _, _, _, _, _ => none
  | n + 1, x0, x3, x4, x5, σ => zJ5_indexOfChar_7_b N (zJ5_indexOfChar_7 N n) x0 x3 x4 x5 σ
noncomputable def zJ5_indexOfChar (N : Nat) (x0 : Nat) (x1 : Int32) (x2 : Int32) (x3 : Int32) (σ : fv_S) : Option fv_O :=
  zJ5_indexOfChar_7 N N x0 x3 ((Int32.toInt8 x1).toInt32) x2 σ
noncomputable def zJ5_indexOf (N : Nat) (x0 : Nat) (x1 : Int32) (x2 : Int32) (x3 : Int32) (σ : fv_S) : Option fv_O :=
  fv_bi (zJ5_canEncode x1 σ) (fun r2 σ1 =>
    if ¬ r2 = 0 then
      fv_bi (zJ3_max x2 0 σ1) (fun r4 σ3 =>
        if x0 < 102 then
          fv_bi (zJ3_min_2 x3 (fv_sln x0) σ3) (fun r7 σ6 =>
            if r4 < r7 then
              fv_bi (zJ5_indexOfChar N x0 x1 r4 r7 σ6) (fun r9 σ8 =>
                fv_ri r9 σ8) fv_no
            else
              fv_ri (-1) σ6) fv_no
        else none) fv_no
    else
      fv_ri (-1) σ1) fv_no
noncomputable def zJ4_indexOf_2 (N : Nat) (x0 : Nat) (x1 : Int32) (x2 : Int32) (σ : fv_S) : Option fv_O :=
  if x0 < 102 then
    fv_bi (zJ4_isLatin1 x0 σ) (fun r2 σ1 =>
    if r2 = 0 then
      none
    else
      if x0 < 102 then
        if x0 < 102 then
          fv_bi (zJ4_length x0 σ1) (fun r5 σ4 =>
          fv_bi (zJ5_indexOf N x0 x1 x2 r5 σ4) (fun r7 σ6 =>
            fv_ri r7 σ6) fv_no) fv_no
        else none
      else none) fv_no
  else none
noncomputable def zJ4_indexOf (N : Nat) (x0 : Nat) (x1 : Int32) (σ : fv_S) : Option fv_O :=
  if x0 < 102 then
    fv_bi (zJ4_indexOf_2 N x0 x1 0 σ) (fun r2 σ1 =>
    fv_ri r2 σ1) fv_no
  else none
noncomputable def zX4_scan_135 (N : Nat) (s1 : Int32) (σ : fv_S) : Option fv_O :=
  fv_rv (fv_si σ 1669 s1)
noncomputable def zX4_scan_109 (N : Nat) (σ : fv_S) : Option fv_O :=
  if ¬ (fv_gi σ 1667) = (fv_gi σ 1665) then
    zX4_scan_135 N 10 (fv_si σ 1670 (fv_gi σ 1667))
  else
    zX4_scan_135 N 0 (fv_si σ 1670 (fv_gi σ 1667))
noncomputable def zX4_scan_71_b (N : Nat) (k71 : fv_S → Option fv_O) (σ : fv_S) : Option fv_O :=
  if (fv_gi σ 1665) ≤ (fv_gi σ 1667) then
    zX4_scan_109 N σ
  else
    if fv_in (fv_gi σ 1667) 6000 then
      if (fv_ga σ 14 (fv_gi σ 1667)) = (10 : Int32) then
        zX4_scan_109 N σ
      else
        k71 (fv_si σ 1667 ((fv_gi σ 1667) + (1 : Int32)))
    else none
noncomputable def zX4_scan_71 (N : Nat) : Nat → fv_S → Option fv_O
  | 0, _ => none
  | n + 1, σ => zX4_scan_71_b N (zX4_scan_71 N n) σ
noncomputable def zX4_scan_198 (N : Nat) (s1 : Int32) (s2 : Int32) (σ : fv_S) : Option fv_O :=
  fv_bv (zX4_scanNumber N s1 s2 σ) (fun σ2 =>
    fv_rv σ2) fv_no
noncomputable def zX4_scan_184 (N : Nat) (x1 : Int32) (σ : fv_S) : Option fv_O :=
  if ¬ x1 = (36 : Int32) then
    zX4_scan_198 N 1 2 σ
  else
    zX4_scan_198 N 1 16 σ
noncomputable def zX4_scan_327 (N : Nat) (s1 : Int32) (σ : fv_S) : Option fv_O :=
  fv_rv (fv_si σ 1671 s1)
noncomputable def zX4_scan_314 (N : Nat) (x2 : Int32) (s1 : Int32) (σ : fv_S) : Option fv_O :=
  if x2 = 0 then
    zX4_scan_327 N 1 (fv_si σ 1669 s1)
  else
    zX4_scan_327 N 2 (fv_si σ 1669 s1)
noncomputable def zX4_scan_284 (N : Nat) (x1 : Int32) (x2 : Int32) (s0 : Int32) (σ : fv_S) : Option fv_O :=
  if s0 = 0 then
    if x2 = 0 then
      zX4_scan_314 N x2 x1 σ
    else
      if ¬ x1 = (60 : Int32) then
        zX4_scan_314 N x2 5 σ
      else
        zX4_scan_314 N x2 4 σ
  else
    zX4_scan_314 N x2 6 σ
noncomputable def zX4_scan_279 (N : Nat) (x1 : Int32) (x2 : Int32) (σ : fv_S) : Option fv_O :=
  zX4_scan_284 N x1 x2 1 σ
noncomputable def zX4_scan_283 (N : Nat) (x1 : Int32) (x2 : Int32) (σ : fv_S) : Option fv_O :=
  zX4_scan_284 N x1 x2 0 σ
noncomputable def zX4_scan_261 (N : Nat) (x1 : Int32) (s0 : Int32) (σ : fv_S) : Option fv_O :=
  if ¬ s0 = 0 then
    zX4_scan_283 N x1 s0 σ
  else
    if x1 < 0 then
      zX4_scan_279 N x1 s0 σ
    else
      if 101 < 102 then
        fv_bi (zJ4_indexOf N 101 x1 σ) (fun r4 σ3 =>
        if (0 : Int32) ≤ r4 then
          zX4_scan_283 N x1 s0 σ3
        else
          zX4_scan_279 N x1 s0 σ3) fv_no
      else none
noncomputable def zX4_scan_260 (N : Nat) (x1 : Int32) (σ : fv_S) : Option fv_O :=
  zX4_scan_261 N x1 0 σ
noncomputable def zX4_scan_242 (N : Nat) (x1 : Int32) (σ : fv_S) : Option fv_O :=
  fv_bi (zX4_signAt ((fv_gi σ 1667) + (1 : Int32)) σ) (fun r7 σ6 =>
    if ¬ r7 = x1 then
      zX4_scan_260 N x1 σ6
    else
      zX4_scan_261 N x1 1 σ6) fv_no
noncomputable def zX4_scan (N : Nat) (σ : fv_S) : Option fv_O :=
  fv_bv (zX4_skipBlanks N σ) (fun σ8 =>
    fv_bi (zX4_signAt (fv_gi σ8 1667) (fv_si (fv_si (fv_si σ8 1670 (fv_gi σ8 1667)) 1671 0) 1668 1)) (fun r10 σ9 =>
      if ¬ (fv_gi σ9 1667) = (fv_gi σ9 1665) then
        if ¬ r10 = (10 : Int32) then
          if ¬ r10 = (59 : Int32) then
            fv_bi (zX4_isNameStart r10 σ9) (fun r12 σ11 =>
              if r12 = 0 then
                fv_bi (zX4_isDigit r10 σ11) (fun r14 σ13 =>
                  if r14 = 0 then
                    if r10 = (36 : Int32) then
                      zX4_scan_184 N r10 σ13
                    else
                      if ¬ r10 = (37 : Int32) then
                        if ¬ r10 = (39 : Int32) then
                          if ¬ r10 = (34 : Int32) then
                            if r10 = (60 : Int32) then
                              zX4_scan_242 N r10 σ13
                            else
                              if ¬ r10 = (62 : Int32) then
                                zX4_scan_260 N r10 σ13
                              else
                                zX4_scan_242 N r10 σ13
                          else
                            fv_bv (zX4_scanText N σ13) (fun σ15 =>
                              fv_rv σ15) fv_no
                        else
                          fv_bv (zX4_scanSign σ13) (fun σ16 =>
                            fv_rv σ16) fv_no
                      else
                        zX4_scan_184 N r10 σ13
                  else
                    fv_bv (zX4_scanNumber N 0 10 σ13) (fun σ17 =>
                      fv_rv σ17) fv_no) fv_no
              else
                fv_bv (zX4_scanName N σ11) (fun σ18 =>
                  fv_rv σ18) fv_no) fv_no
          else
            zX4_scan_71 N N σ9
        else
          fv_rv (fv_si σ9 1669 10)
      else
        fv_rv (fv_si σ9 1669 0)) fv_no) fv_no
noncomputable def zX4_look (N : Nat) (σ : fv_S) : Option fv_O :=
  if ¬ (fv_gi σ 1668) = 0 then
    fv_ri (fv_gi σ 1669) σ
  else
    fv_bv (zX4_scan N σ) (fun σ1 =>
      fv_ri (fv_gi σ1 1669) σ1) fv_no
noncomputable def zX4_pass (σ : fv_S) : Option fv_O :=
  fv_rv (fv_si (fv_si σ 1667 ((fv_gi σ 1670) + (fv_gi σ 1671))) 1668 0)
noncomputable def zX4_nextPlace_5_b (N : Nat) (k5 : Int32 → fv_S → Option fv_O) (x1 : Int32) (σ : fv_S) : Option fv_O :=
  if (fv_gi σ 1665) ≤ x1 then
    fv_ri x1 σ
  else
    if fv_in x1 6000 then
      if (fv_ga σ 14 x1) = (32 : Int32) then
        k5 (x1 + (1 : Int32)) σ
      else
        if fv_in x1 6000 then
          if (fv_ga σ 14 x1) = (9 : Int32) then
            k5 (x1 + (1 : Int32)) σ
          else
            if fv_in x1 6000 then
              if ¬ (fv_ga σ 14 x1) = (13 : Int32) then
                fv_ri x1 σ
              else
                k5 (x1 + (1 : Int32)) σ
            else none
        else none
    else none
noncomputable def zX4_nextPlace_5 (N : Nat) : Nat → Int32 → fv_S → Option fv_O
  | 0, _, _ => none
  | n + 1, x1, σ => zX4_nextPlace_5_b N (zX4_nextPlace_5 N n) x1 σ
noncomputable def zX4_nextPlace (N : Nat) (σ : fv_S) : Option fv_O :=
  zX4_nextPlace_5 N N (fv_gi σ 1667) σ
noncomputable def zX4_isBefore (N : Nat) (x1 : Int32) (σ : fv_S) : Option fv_O :=
  fv_bi (zX4_nextPlace N σ) (fun r2 σ1 =>
    fv_bi (zX4_signAt r2 σ1) (fun r4 σ3 =>
      if ¬ r4 = x1 then
        fv_ri 0 σ3
      else
        fv_ri 1 σ3) fv_no) fv_no
noncomputable def zJ7_checkIndex (x0 : Int32) (x1 : Int32) (σ : fv_S) : Option fv_O :=
  if x0 < 0 then
    none
  else
    if x0 < x1 then
      fv_ri x0 σ
    else
      none
noncomputable def zJ4_checkIndex (x0 : Int32) (x1 : Int32) (σ : fv_S) : Option fv_O :=
  fv_bi (zJ7_checkIndex x0 x1 σ) (fun r2 σ1 =>
    fv_rv σ1) fv_no
noncomputable def zJ5_charAt (x0 : Nat) (x1 : Int32) (σ : fv_S) : Option fv_O :=
  if x0 < 102 then
    fv_bv (zJ4_checkIndex x1 (fv_sln x0) σ) (fun σ2 =>
      if x0 < 102 ∧ fv_in x1 (fv_sl0 x0) then
        if vp_nar .char (((Int32.toUInt32 ((fv_sch x0 x1) &&& (255 : Int32))) % 65536).toInt32) = (((Int32.toUInt32 ((fv_sch x0 x1) &&& (255 : Int32))) % 65536).toInt32) then fv_ri (((Int32.toUInt32 ((fv_sch x0 x1) &&& (255 : Int32))) % 65536).toInt32) σ2 else none
      else none) fv_no
  else none
noncomputable def zJ4_charAt (x0 : Nat) (x1 : Int32) (σ : fv_S) : Option fv_O :=
  if x0 < 102 then
    fv_bi (zJ4_isLatin1 x0 σ) (fun r2 σ1 =>
    if r2 = 0 then
      none
    else
      if x0 < 102 then
        fv_bi (zJ5_charAt x0 x1 σ1) (fun r5 σ4 =>
          if vp_nar .char r5 = r5 then fv_ri r5 σ4 else none) fv_no
      else none) fv_no
  else none
noncomputable def zX1_isLike_18_b (N : Nat) (k18 : Nat → Int32 → Int32 → Int32 → Int32 → fv_S → Option fv_O) (x0 : Nat) (x2 : Int32) (x3 : Int32) (x4 : Int32) (x5 : Int32) (σ : fv_S) : Option fv_O :=
  if x3 ≤ x5 then
    if x4 = 0 ∨ x4 = 1 then fv_ri x4 σ else none
  else
    if x4 = 0 then
      if x4 = 0 ∨ x4 = 1 then fv_ri x4 σ else none
    else
      if x0 < 102 then
        fv_bi (zJ4_charAt x0 x5 σ) (fun r4 σ3 =>
        if fv_in (x2 + x5) 6000 then
          if ¬ r4 = (fv_ga σ3 15 (x2 + x5)) then
            k18 x0 x2 x3 0 (x5 + (1 : Int32)) σ3
          else
            k18 x0 x2 x3 1 (x5 + (1 : Int32)) σ3
        else none) fv_no
      else none
noncomputable def zX1_isLike_18 (N : Nat) : Nat → Nat → Int32 → Int32 → Int32 → Int32 → fv_S → Option fv_O
  | 0, _, _, _, _, _, _ => none
  | n + 1, x0, x2, x3, x4, x5, σ => zX1_isLike_18_b N (zX1_isLike_18 N n) x0 x2 x3 x4 x5 σ
noncomputable def zX1_isLike (N : Nat) (x0 : Nat) (x2 : Int32) (x3 : Int32) (σ : fv_S) : Option fv_O :=
  if x0 < 102 then
    fv_bi (zJ4_length x0 σ) (fun r8 σ7 =>
    if ¬ r8 = x3 then
      zX1_isLike_18 N N x0 x2 x3 0 0 σ7
    else
      zX1_isLike_18 N N x0 x2 x3 1 0 σ7) fv_no
  else none
noncomputable def zX1_find_35 (N : Nat) (x4 : Int32) (σ : fv_S) : Option fv_O :=
  if (99 : Int32) ≤ x4 then
    fv_ri (-1) σ
  else
    fv_ri x4 σ
noncomputable def zX1_find_3_b (N : Nat) (k3 : Int32 → Int32 → Int32 → fv_S → Option fv_O) (x2 : Int32) (x3 : Int32) (x4 : Int32) (σ : fv_S) : Option fv_O :=
  if (99 : Int32) ≤ x4 then
    zX1_find_35 N x4 σ
  else
    if fv_in x4 99 then
      fv_bi (zX1_isLike N (Int32.toNatClampNeg x4) x2 x3 σ) (fun r3 σ2 =>
        if ¬ r3 = 0 then
          zX1_find_35 N x4 σ2
        else
          k3 x2 x3 (x4 + (1 : Int32)) σ2) fv_no
    else none
noncomputable def zX1_find_3 (N : Nat) : Nat → Int32 → Int32 → Int32 → fv_S → Option fv_O
  | 0, _, _, _, _ => none
  | n + 1, x2, x3, x4, σ => zX1_find_3_b N (zX1_find_3 N n) x2 x3 x4 σ
noncomputable def zX1_find (N : Nat) (x2 : Int32) (x3 : Int32) (σ : fv_S) : Option fv_O :=
  zX1_find_3 N N x2 x3 0 σ
noncomputable def zX5_isNamed_21_b (N : Nat) (k21 : Int32 → Int32 → Int32 → Int32 → Int32 → fv_S → Option fv_O) (x1 : Int32) (x3 : Int32) (x4 : Int32) (x5 : Int32) (x6 : Int32) (σ : fv_S) : Option fv_O :=
  if x4 ≤ x6 then
    if x5 = 0 ∨ x5 = 1 then fv_ri x5 σ else none
  else
    if x5 = 0 then
      if x5 = 0 ∨ x5 = 1 then fv_ri x5 σ else none
    else
      if fv_in (((12 : Int32) * x1) + x6) 2400 then
        if fv_in (x3 + x6) 6000 then
          if ¬ (fv_ga σ 17 (((12 : Int32) * x1) + x6)) = (fv_ga σ 15 (x3 + x6)) then
            k21 x1 x3 x4 0 (x6 + (1 : Int32)) σ
          else
            k21 x1 x3 x4 1 (x6 + (1 : Int32)) σ
        else none
      else none
noncomputable def zX5_isNamed_21 (N : Nat) : Nat → Int32 → Int32 → Int32 → Int32 → Int32 → fv_S → Option fv_O
  | 0, _, _, _, _, _, _ => none
  | n + 1, x1, x3, x4, x5, x6, σ => zX5_isNamed_21_b N (zX5_isNamed_21 N n) x1 x3 x4 x5 x6 σ
noncomputable def zX5_isNamed (N : Nat) (x1 : Int32) (x3 : Int32) (x4 : Int32) (σ : fv_S) : Option fv_O :=
  if fv_in x1 200 then
    if ¬ (fv_ga σ 18 x1) = x4 then
      zX5_isNamed_21 N N x1 x3 x4 0 0 σ
    else
      zX5_isNamed_21 N N x1 x3 x4 1 0 σ
  else none
noncomputable def zX5_find_30 (N : Nat) (x4 : Int32) (σ : fv_S) : Option fv_O :=
  if (fv_gi σ 2051) ≤ x4 then
    fv_ri (-1) σ
  else
    fv_ri x4 σ
noncomputable def zX5_find_3_b (N : Nat) (k3 : Int32 → Int32 → Int32 → fv_S → Option fv_O) (x2 : Int32) (x3 : Int32) (x4 : Int32) (σ : fv_S) : Option fv_O :=
  if (fv_gi σ 2051) ≤ x4 then
    zX5_find_30 N x4 σ
  else
    fv_bi (zX5_isNamed N x4 x2 x3 σ) (fun r2 σ1 =>
      if ¬ r2 = 0 then
        zX5_find_30 N x4 σ1
      else
        k3 x2 x3 (x4 + (1 : Int32)) σ1) fv_no
noncomputable def zX5_find_3 (N : Nat) : Nat → Int32 → Int32 → Int32 → fv_S → Option fv_O
  | 0, _, _, _, _ => none
  | n + 1, x2, x3, x4, σ => zX5_find_3_b N (zX5_find_3 N n) x2 x3 x4 σ
noncomputable def zX5_find (N : Nat) (x2 : Int32) (x3 : Int32) (σ : fv_S) : Option fv_O :=
  zX5_find_3 N N x2 x3 0 σ
noncomputable def zX5_add (x2 : Int32) (x3 : Int32) (x4 : Int32) (σ : fv_S) : Option fv_O :=
  fv_bv (fv_jcb 15 6000 17 2400 x2 ((12 : Int32) * (fv_gi σ 2051)) x3 σ) (fun σ1 =>
    if fv_in (fv_gi σ1 2051) 200 then
      if fv_in (fv_gi σ1 2051) 200 then
        fv_rv (fv_si (fv_sa (fv_sa σ1 18 (fv_gi σ1 2051) x3) 19 (fv_gi σ1 2051) x4) 2051 ((fv_gi σ1 2051) + (1 : Int32)))
      else none
    else none) fv_no
noncomputable def zX3_tell_59 (N : Nat) (x1 : Int32) (σ : fv_S) : Option fv_O :=
  fv_th 3 x1 (fv_sc σ)
noncomputable def zX3_tell (N : Nat) (x1 : Int32) (x2 : Int32) (x3 : Int32) (σ : fv_S) : Option fv_O :=
  if (fv_gi σ 1541) = 0 then
    fv_bi (zX1_find N x1 x2 σ) (fun r6 σ5 =>
      if (0 : Int32) ≤ r6 then
        zX3_tell_59 N x1 σ5
      else
        fv_bi (zX5_find N x1 x2 σ5) (fun r8 σ7 =>
          if (0 : Int32) ≤ r8 then
            zX3_tell_59 N x1 σ7
          else
            if ¬ (fv_gi σ7 2051) = (200 : Int32) then
              if ¬ (fv_gi σ7 1563) = 0 then
                fv_rv σ7
              else
                fv_bv (zX5_add x1 x2 x3 σ7) (fun σ9 =>
                  fv_rv σ9) fv_no
            else
              zX3_tell_59 N x1 σ7) fv_no) fv_no
  else
    fv_rv σ
noncomputable def zX4_isEnd (N : Nat) (σ : fv_S) : Option fv_O :=
  fv_bi (zX4_look N σ) (fun r2 σ1 =>
    if r2 = 0 then
      fv_ri 1 σ1
    else
      if ¬ (fv_gi σ1 1669) = (10 : Int32) then
        fv_ri 0 σ1
      else
        fv_ri 1 σ1) fv_no
noncomputable def zX4_wrong (σ : fv_S) : Option fv_O :=
  if ¬ (fv_gi σ 1669) = (6 : Int32) then
    fv_ra 2 (fv_gi σ 1670) (fv_sc σ)
  else
    fv_ra 1 (fv_gi σ 1670) (fv_sc σ)
noncomputable def zX3_reserved (N : Nat) (σ : fv_S) : Option fv_O :=
  fv_bi (zX1_find N (fv_gi σ 1670) (fv_gi σ 1671) σ) (fun r2 σ1 =>
    fv_ri r2 σ1) fv_no
noncomputable def zX4_isBeforeEqu (N : Nat) (σ : fv_S) : Option fv_O :=
  fv_bi (zX4_nextPlace N σ) (fun r2 σ1 =>
    fv_bi (zX4_signAt r2 σ1) (fun r4 σ3 =>
      if ¬ r4 = (69 : Int32) then
        fv_ri 0 σ3
      else
        fv_bi (zX4_signAt (r2 + (1 : Int32)) σ3) (fun r6 σ5 =>
          if ¬ r6 = (81 : Int32) then
            fv_ri 0 σ5
          else
            fv_bi (zX4_signAt (r2 + (2 : Int32)) σ5) (fun r8 σ7 =>
              if ¬ r8 = (85 : Int32) then
                fv_ri 0 σ7
              else
                fv_bi (zX4_signAt (r2 + (3 : Int32)) σ7) (fun r10 σ9 =>
                  fv_bi (zX4_isNamePart r10 σ9) (fun r12 σ11 =>
                    if ¬ r12 = 0 then
                      fv_ri 0 σ11
                    else
                      fv_ri 1 σ11) fv_no) fv_no) fv_no) fv_no) fv_no) fv_no
noncomputable def zX3_nest (σ : fv_S) : Option fv_O :=
  if ¬ (fv_gi σ 1562) = (40 : Int32) then
    fv_bv (zX4_pass (fv_si σ 1562 ((fv_gi σ 1562) + (1 : Int32)))) (fun σ1 =>
      fv_rv σ1) fv_no
  else
    fv_th 2 (fv_gi σ 1670) (fv_sc σ)
noncomputable def zX4_want (N : Nat) (x1 : Int32) (σ : fv_S) : Option fv_O :=
  fv_bi (zX4_look N σ) (fun r2 σ1 =>
    if r2 = x1 then
      fv_bv (zX4_pass σ1) (fun σ3 =>
        fv_rv σ3) fv_no
    else
      fv_ba (zX4_wrong σ1) (fun r5 r6 σ4 =>
        fv_th r5 r6 σ4) fv_no) fv_no
noncomputable def zX3_name_96 (N : Nat) (x1 : Int32) (s1 : Int32) (s2 : Int32) (σ : fv_S) : Option fv_O :=
  if s1 &&& s2 = 0 ∨ s1 &&& s2 = 1 then
    fv_bv (zX4_pass (fv_si σ 1560 (s1 &&& s2))) (fun σ2 =>
      if (0 : Int32) ≤ x1 then
        if fv_in x1 200 then
          fv_ri (fv_ga σ2 19 x1) σ2
        else none
      else
        fv_ri 0 σ2) fv_no
  else none
noncomputable def zX3_name_82 (N : Nat) (x1 : Int32) (σ : fv_S) : Option fv_O :=
  if x1 < 0 then
    zX3_name_96 N x1 (fv_gi σ 1560) 0 σ
  else
    zX3_name_96 N x1 (fv_gi σ 1560) 1 σ
noncomputable def zX3_name_70 (N : Nat) (x1 : Int32) (σ : fv_S) : Option fv_O :=
  fv_bv (zX3_tellFault 4 (fv_gi σ 1670) σ) (fun σ4 =>
    zX3_name_82 N x1 σ4) fv_no
noncomputable def zX3_name (N : Nat) (σ : fv_S) : Option fv_O :=
  fv_bi (zX3_reserved N σ) (fun r6 σ5 =>
    if r6 < 0 then
      fv_bi (zX5_find N (fv_gi σ5 1670) (fv_gi σ5 1671) σ5) (fun r8 σ7 =>
        if (0 : Int32) ≤ r8 then
          zX3_name_82 N r8 σ7
        else
          if ¬ (fv_gi σ7 1541) = 0 then
            zX3_name_70 N r8 σ7
          else
            if (fv_gi σ7 1542) = 0 then
              zX3_name_82 N r8 σ7
            else
              zX3_name_70 N r8 σ7) fv_no
    else
      fv_th 2 (fv_gi σ5 1670) (fv_sc σ5)) fv_no
noncomputable def zX3_term_121 (N : Nat) (kU : fv_S → Option fv_O) (k5 : Int32 → fv_S → Option fv_O) (x1 : Int32) (x2 : Int32) (x4 : Int32) (x5 : Int32) (σ : fv_S) : Option fv_O :=
  if x2 = 0 then
    if x5 = 0 then
      if x4 = 0 then none else
        k5 (x1 / x4) σ
    else
      k5 0 σ
  else
    k5 (x1 * x4) σ
noncomputable def zX3_term_110 (N : Nat) (kU : fv_S → Option fv_O) (k5 : Int32 → fv_S → Option fv_O) (x1 : Int32) (x2 : Int32) (x3 : Int32) (x4 : Int32) (x5 : Int32) (σ : fv_S) : Option fv_O :=
  fv_bv (zX3_tellFault 5 x3 σ) (fun σ2 =>
    zX3_term_121 N kU k5 x1 x2 x4 x5 (fv_si σ2 1560 0)) fv_no
noncomputable def zX3_term_82 (N : Nat) (kU : fv_S → Option fv_O) (k5 : Int32 → fv_S → Option fv_O) (x1 : Int32) (x2 : Int32) (x3 : Int32) (x4 : Int32) (s0 : Int32) (σ : fv_S) : Option fv_O :=
  if s0 = 0 then
    zX3_term_121 N kU k5 x1 x2 x4 s0 σ
  else
    if (fv_gi σ 1560) = 0 then
      zX3_term_121 N kU k5 x1 x2 x4 s0 σ
    else
      if ¬ (fv_gi σ 1541) = 0 then
        zX3_term_110 N kU k5 x1 x2 x3 x4 s0 σ
      else
        if (fv_gi σ 1542) = 0 then
          zX3_term_121 N kU k5 x1 x2 x4 s0 σ
        else
          zX3_term_110 N kU k5 x1 x2 x3 x4 s0 σ
noncomputable def zX3_term_81 (N : Nat) (kU : fv_S → Option fv_O) (k5 : Int32 → fv_S → Option fv_O) (x1 : Int32) (x2 : Int32) (x3 : Int32) (x4 : Int32) (σ : fv_S) : Option fv_O :=
  zX3_term_82 N kU k5 x1 x2 x3 x4 0 σ
noncomputable def zX3_term_46 (N : Nat) (kU : fv_S → Option fv_O) (k5 : Int32 → fv_S → Option fv_O) (x1 : Int32) (s0 : Int32) (σ : fv_S) : Option fv_O :=
  fv_bv (zX4_pass σ) (fun σ3 =>
    fv_bi (kU σ3) (fun r5 σ4 =>
      if ¬ s0 = 0 then
        zX3_term_81 N kU k5 x1 s0 (fv_gi σ 1670) r5 σ4
      else
        if ¬ r5 = 0 then
          zX3_term_81 N kU k5 x1 s0 (fv_gi σ 1670) r5 σ4
        else
          zX3_term_82 N kU k5 x1 s0 (fv_gi σ 1670) r5 1 σ4) fv_th) fv_no
noncomputable def zX3_term_29 (N : Nat) (kU : fv_S → Option fv_O) (k5 : Int32 → fv_S → Option fv_O) (x1 : Int32) (σ : fv_S) : Option fv_O :=
  if ¬ (fv_gi σ 1669) = (42 : Int32) then
    zX3_term_46 N kU k5 x1 0 σ
  else
    zX3_term_46 N kU k5 x1 1 σ
noncomputable def zX3_term_5_b (N : Nat) (kU : fv_S → Option fv_O) (k5 : Int32 → fv_S → Option fv_O) (x1 : Int32) (σ : fv_S) : Option fv_O :=
  fv_bi (zX4_look N σ) (fun r7 σ6 =>
    if r7 = (42 : Int32) then
      zX3_term_29 N kU k5 x1 σ6
    else
      if ¬ (fv_gi σ6 1669) = (47 : Int32) then
        fv_ri x1 σ6
      else
        zX3_term_29 N kU k5 x1 σ6) fv_no
noncomputable def zX3_term_5 (N : Nat) (kU : fv_S → Option fv_O) : Nat → Int32 → fv_S → Option fv_O
  | 0, _, _ => none
  | n + 1, x1, σ => zX3_term_5_b N kU (zX3_term_5 N kU n) x1 σ
noncomputable def zX3_term (N : Nat) (kU : fv_S → Option fv_O) (σ : fv_S) : Option fv_O :=
  fv_bi (kU σ) (fun r9 σ8 =>
    zX3_term_5 N kU N r9 σ8) fv_th
noncomputable def zX3_sum_46 (N : Nat) (kU : fv_S → Option fv_O) (k5 : Int32 → fv_S → Option fv_O) (x1 : Int32) (s0 : Int32) (σ : fv_S) : Option fv_O :=
  fv_bv (zX4_pass σ) (fun σ1 =>
    fv_bi (zX3_term N kU σ1) (fun r3 σ2 =>
      if s0 = 0 then
        k5 (x1 - r3) σ2
      else
        k5 (x1 + r3) σ2) fv_th) fv_no
noncomputable def zX3_sum_29 (N : Nat) (kU : fv_S → Option fv_O) (k5 : Int32 → fv_S → Option fv_O) (x1 : Int32) (σ : fv_S) : Option fv_O :=
  if ¬ (fv_gi σ 1669) = (43 : Int32) then
    zX3_sum_46 N kU k5 x1 0 σ
  else
    zX3_sum_46 N kU k5 x1 1 σ
noncomputable def zX3_sum_5_b (N : Nat) (kU : fv_S → Option fv_O) (k5 : Int32 → fv_S → Option fv_O) (x1 : Int32) (σ : fv_S) : Option fv_O :=
  fv_bi (zX4_look N σ) (fun r5 σ4 =>
    if r5 = (43 : Int32) then
      zX3_sum_29 N kU k5 x1 σ4
    else
      if ¬ (fv_gi σ4 1669) = (45 : Int32) then
        fv_ri x1 σ4
      else
        zX3_sum_29 N kU k5 x1 σ4) fv_no
noncomputable def zX3_sum_5 (N : Nat) (kU : fv_S → Option fv_O) : Nat → Int32 → fv_S → Option fv_O
  | 0, _, _ => none
  | n + 1, x1, σ => zX3_sum_5_b N kU (zX3_sum_5 N kU n) x1 σ
noncomputable def zX3_sum (N : Nat) (kU : fv_S → Option fv_O) (σ : fv_S) : Option fv_O :=
  fv_bi (zX3_term N kU σ) (fun r7 σ6 =>
    zX3_sum_5 N kU N r7 σ6) fv_th
noncomputable def zX3_shift_43 (N : Nat) (kU : fv_S → Option fv_O) (k5 : Int32 → fv_S → Option fv_O) (x1 : Int32) (s0 : Int32) (σ : fv_S) : Option fv_O :=
  fv_bv (zX4_pass σ) (fun σ1 =>
    fv_bi (zX3_sum N kU σ1) (fun r3 σ2 =>
      if s0 = 0 then
        k5 (x1 >>> ((r3 &&& (31 : Int32)) &&& (31 : Int32))) σ2
      else
        k5 (x1 <<< ((r3 &&& (31 : Int32)) &&& (31 : Int32))) σ2) fv_th) fv_no
noncomputable def zX3_shift_27 (N : Nat) (kU : fv_S → Option fv_O) (k5 : Int32 → fv_S → Option fv_O) (x1 : Int32) (σ : fv_S) : Option fv_O :=
  if ¬ (fv_gi σ 1669) = (4 : Int32) then
    zX3_shift_43 N kU k5 x1 0 σ
  else
    zX3_shift_43 N kU k5 x1 1 σ
noncomputable def zX3_shift_5_b (N : Nat) (kU : fv_S → Option fv_O) (k5 : Int32 → fv_S → Option fv_O) (x1 : Int32) (σ : fv_S) : Option fv_O :=
  fv_bi (zX4_look N σ) (fun r5 σ4 =>
    if r5 = (4 : Int32) then
      zX3_shift_27 N kU k5 x1 σ4
    else
      if ¬ (fv_gi σ4 1669) = (5 : Int32) then
        fv_ri x1 σ4
      else
        zX3_shift_27 N kU k5 x1 σ4) fv_no
noncomputable def zX3_shift_5 (N : Nat) (kU : fv_S → Option fv_O) : Nat → Int32 → fv_S → Option fv_O
  | 0, _, _ => none
  | n + 1, x1, σ => zX3_shift_5_b N kU (zX3_shift_5 N kU n) x1 σ
noncomputable def zX3_shift (N : Nat) (kU : fv_S → Option fv_O) (σ : fv_S) : Option fv_O :=
  fv_bi (zX3_sum N kU σ) (fun r7 σ6 =>
    zX3_shift_5 N kU N r7 σ6) fv_th
noncomputable def zX3_and_5_b (N : Nat) (kU : fv_S → Option fv_O) (k5 : Int32 → fv_S → Option fv_O) (x1 : Int32) (σ : fv_S) : Option fv_O :=
  fv_bi (zX4_look N σ) (fun r2 σ1 =>
    if ¬ r2 = (38 : Int32) then
      fv_ri x1 σ1
    else
      fv_bv (zX4_pass σ1) (fun σ3 =>
        fv_bi (zX3_shift N kU σ3) (fun r5 σ4 =>
          k5 (x1 &&& r5) σ4) fv_th) fv_no) fv_no
noncomputable def zX3_and_5 (N : Nat) (kU : fv_S → Option fv_O) : Nat → Int32 → fv_S → Option fv_O
  | 0, _, _ => none
  | n + 1, x1, σ => zX3_and_5_b N kU (zX3_and_5 N kU n) x1 σ
noncomputable def zX3_and (N : Nat) (kU : fv_S → Option fv_O) (σ : fv_S) : Option fv_O :=
  fv_bi (zX3_shift N kU σ) (fun r7 σ6 =>
    zX3_and_5 N kU N r7 σ6) fv_th
noncomputable def zX3_xor_5_b (N : Nat) (kU : fv_S → Option fv_O) (k5 : Int32 → fv_S → Option fv_O) (x1 : Int32) (σ : fv_S) : Option fv_O :=
  fv_bi (zX4_look N σ) (fun r2 σ1 =>
    if ¬ r2 = (94 : Int32) then
      fv_ri x1 σ1
    else
      fv_bv (zX4_pass σ1) (fun σ3 =>
        fv_bi (zX3_and N kU σ3) (fun r5 σ4 =>
          k5 (x1 ^^^ r5) σ4) fv_th) fv_no) fv_no
noncomputable def zX3_xor_5 (N : Nat) (kU : fv_S → Option fv_O) : Nat → Int32 → fv_S → Option fv_O
  | 0, _, _ => none
  | n + 1, x1, σ => zX3_xor_5_b N kU (zX3_xor_5 N kU n) x1 σ
noncomputable def zX3_xor (N : Nat) (kU : fv_S → Option fv_O) (σ : fv_S) : Option fv_O :=
  fv_bi (zX3_and N kU σ) (fun r7 σ6 =>
    zX3_xor_5 N kU N r7 σ6) fv_th
noncomputable def zX3_or_5_b (N : Nat) (kU : fv_S → Option fv_O) (k5 : Int32 → fv_S → Option fv_O) (x1 : Int32) (σ : fv_S) : Option fv_O :=
  fv_bi (zX4_look N σ) (fun r2 σ1 =>
    if ¬ r2 = (124 : Int32) then
      fv_ri x1 σ1
    else
      fv_bv (zX4_pass σ1) (fun σ3 =>
        fv_bi (zX3_xor N kU σ3) (fun r5 σ4 =>
          k5 (x1 ||| r5) σ4) fv_th) fv_no) fv_no
noncomputable def zX3_or_5 (N : Nat) (kU : fv_S → Option fv_O) : Nat → Int32 → fv_S → Option fv_O
  | 0, _, _ => none
  | n + 1, x1, σ => zX3_or_5_b N kU (zX3_or_5 N kU n) x1 σ
noncomputable def zX3_or (N : Nat) (kU : fv_S → Option fv_O) (σ : fv_S) : Option fv_O :=
  fv_bi (zX3_xor N kU σ) (fun r7 σ6 =>
    zX3_or_5 N kU N r7 σ6) fv_th
noncomputable def zX3_unary (N : Nat) (kU : fv_S → Option fv_O) (σ : fv_S) : Option fv_O :=
  fv_bi (zX4_look N σ) (fun r2 σ1 =>
    if r2 = 1 then
      fv_bi (zX3_name N σ1) (fun r4 σ3 =>
        fv_ri r4 σ3) fv_th
    else if r2 = 2 then
      fv_bv (zX4_pass σ1) (fun σ5 =>
        fv_ri (fv_gi σ1 1672) σ5) fv_no
    else if r2 = 40 then
      fv_bv (zX3_nest σ1) (fun σ6 =>
        fv_bi (zX3_or N kU σ6) (fun r8 σ7 =>
          fv_bv (zX4_want N 41 σ7) (fun σ9 =>
            fv_ri r8 (fv_si σ9 1562 ((fv_gi σ9 1562) - (1 : Int32)))) fv_th) fv_th) fv_th
    else if r2 = 45 then
      fv_bv (zX3_nest σ1) (fun σ10 =>
        fv_bi (kU σ10) (fun r12 σ11 =>
          fv_ri (-r12) (fv_si σ11 1562 ((fv_gi σ11 1562) - (1 : Int32)))) fv_th) fv_th
    else if r2 = 64 then
      fv_bv (zX4_pass σ1) (fun σ13 =>
        fv_ri (fv_gi σ13 1565) σ13) fv_no
    else if r2 = 126 then
      fv_bv (zX3_nest σ1) (fun σ14 =>
        fv_bi (kU σ14) (fun r16 σ15 =>
          fv_ri (r16 ^^^ ((-1) : Int32)) (fv_si σ15 1562 ((fv_gi σ15 1562) - (1 : Int32)))) fv_th) fv_th
    else 
      fv_ba (zX4_wrong σ1) (fun r18 r19 σ17 =>
        fv_th r18 r19 σ17) fv_no) fv_no
noncomputable def zX3_rU (N : Nat) : Nat → fv_S → Option fv_O
  | 0, _ => none
  | n + 1, σ => zX3_unary N (zX3_rU N n) σ
noncomputable def zX3_exp (N : Nat) (σ : fv_S) : Option fv_O :=
  fv_bi (zX4_look N σ) (fun r2 σ1 =>
    fv_bi (zX3_or N (zX3_rU N 45) (fv_si (fv_si σ1 1561 (fv_gi σ1 1670)) 1560 1)) (fun r4 σ3 =>
      fv_ri r4 σ3) fv_th) fv_no
noncomputable def zX3_knownExp (N : Nat) (x1 : Int32) (x2 : Int32) (σ : fv_S) : Option fv_O :=
  fv_bi (zX3_exp N (fv_si σ 1542 1)) (fun r2 σ1 =>
    if (fv_gi σ1 1560) = 0 then
      fv_ri r2 (fv_si σ1 1542 0)
    else
      fv_bi (zX0_isIn (Int32.toInt64 r2) (Int32.toInt64 x1) (Int32.toInt64 x2) (fv_si σ1 1542 0)) (fun r4 σ3 =>
        if ¬ r4 = 0 then
          fv_ri r2 σ3
        else
          fv_bv (zX3_tellFault 5 (fv_gi σ3 1561) σ3) (fun σ5 =>
            fv_ri r2 σ5) fv_no) fv_no) fv_th
noncomputable def zX3_isEqu_78 (N : Nat) (x1 : Int32) (σ : fv_S) : Option fv_O :=
  fv_th 3 x1 (fv_sc σ)
noncomputable def zX3_isEqu_88 (N : Nat) (x1 : Int32) (x2 : Int32) (σ : fv_S) : Option fv_O :=
  fv_bv (zX4_pass σ) (fun σ5 =>
    fv_bi (zX3_knownExp N (-2147483648) 2147483647 σ5) (fun r7 σ6 =>
      fv_bv (zX3_tell N x1 x2 r7 σ6) (fun σ8 =>
        fv_ri 1 σ8) fv_th) fv_th) fv_no
noncomputable def zX3_isEqu (N : Nat) (x1 : Int32) (x2 : Int32) (σ : fv_S) : Option fv_O :=
  fv_bi (zX4_isBeforeEqu N σ) (fun r10 σ9 =>
    if ¬ r10 = 0 then
      fv_bi (zX4_look N σ9) (fun r12 σ11 =>
        if ¬ (fv_gi σ11 1541) = 0 then
          zX3_isEqu_88 N x1 x2 σ11
        else
          fv_bi (zX1_find N x1 x2 σ11) (fun r14 σ13 =>
            if (0 : Int32) ≤ r14 then
              zX3_isEqu_78 N x1 σ13
            else
              fv_bi (zX5_find N x1 x2 σ13) (fun r16 σ15 =>
                if (0 : Int32) ≤ r16 then
                  zX3_isEqu_78 N x1 σ15
                else
                  if ¬ (fv_gi σ15 2051) = (200 : Int32) then
                    zX3_isEqu_88 N x1 x2 σ15
                  else
                    zX3_isEqu_78 N x1 σ15) fv_no) fv_no) fv_no
    else
      fv_ri 0 σ9) fv_no
noncomputable def zX4_back (x1 : Int32) (σ : fv_S) : Option fv_O :=
  fv_rv (fv_si (fv_si σ 1667 x1) 1668 0)
noncomputable def zX4_isWhole_72 (N : Nat) (k12 : Int32 → Int32 → Int32 → Int32 → fv_S → Option fv_O) (x1 : Int32) (x2 : Int32) (x3 : Int32) (s0 : Int32) (σ : fv_S) : Option fv_O :=
  if s0 = 0 then
    k12 x1 x2 x3 s0 σ
  else
    fv_bv (zX4_pass σ) (fun σ1 =>
      k12 x1 x2 x3 s0 σ1) fv_no
noncomputable def zX4_isWhole_71 (N : Nat) (k12 : Int32 → Int32 → Int32 → Int32 → fv_S → Option fv_O) (x1 : Int32) (x2 : Int32) (x3 : Int32) (σ : fv_S) : Option fv_O :=
  zX4_isWhole_72 N k12 x1 x2 x3 0 σ
noncomputable def zX4_isWhole_47 (N : Nat) (k12 : Int32 → Int32 → Int32 → Int32 → fv_S → Option fv_O) (x1 : Int32) (x2 : Int32) (x5 : Int32) (s0 : Int32) (s1 : Int32) (σ : fv_S) : Option fv_O :=
  if (s0 + s1) ≤ 0 then
    zX4_isWhole_71 N k12 x1 x2 (s0 + s1) σ
  else
    fv_bi (zX4_isEnd N σ) (fun r3 σ2 =>
      if ¬ r3 = 0 then
        zX4_isWhole_71 N k12 x1 x2 (s0 + s1) σ2
      else
        if x5 = (6 : Int32) then
          zX4_isWhole_71 N k12 x1 x2 (s0 + s1) σ2
        else
          zX4_isWhole_72 N k12 x1 x2 (s0 + s1) 1 σ2) fv_no
noncomputable def zX4_isWhole_125 (N : Nat) (x1 : Int32) (x2 : Int32) (σ : fv_S) : Option fv_O :=
  fv_bv (zX4_back x1 σ) (fun σ4 =>
    fv_bi (zX4_look N σ4) (fun r6 σ5 =>
      if x2 = 0 ∨ x2 = 1 then fv_ri x2 σ5 else none) fv_no) fv_no
noncomputable def zX4_isWhole_124 (N : Nat) (x1 : Int32) (s0 : Int32) (σ : fv_S) : Option fv_O :=
  zX4_isWhole_125 N x1 s0 σ
noncomputable def zX4_isWhole_119 (N : Nat) (x1 : Int32) (σ : fv_S) : Option fv_O :=
  zX4_isWhole_124 N x1 1 σ
noncomputable def zX4_isWhole_12_b (N : Nat) (k12 : Int32 → Int32 → Int32 → Int32 → fv_S → Option fv_O) (x1 : Int32) (x2 : Int32) (x3 : Int32) (x4 : Int32) (σ : fv_S) : Option fv_O :=
  if x4 = 0 then
    if ¬ x3 = 0 then
      zX4_isWhole_125 N x1 x2 σ
    else
      if ¬ (fv_gi σ 1669) = (41 : Int32) then
        zX4_isWhole_125 N x1 x2 σ
      else
        fv_bv (zX4_pass σ) (fun σ8 =>
          fv_bi (zX4_isEnd N σ8) (fun r10 σ9 =>
            if ¬ r10 = 0 then
              zX4_isWhole_119 N x1 σ9
            else
              if ¬ (fv_gi σ9 1669) = (44 : Int32) then
                zX4_isWhole_124 N x1 0 σ9
              else
                zX4_isWhole_119 N x1 σ9) fv_no) fv_no
  else
    fv_bi (zX4_look N σ) (fun r12 σ11 =>
      if ¬ r12 = (40 : Int32) then
        if ¬ r12 = (41 : Int32) then
          zX4_isWhole_47 N k12 x1 x2 r12 x3 0 σ11
        else
          zX4_isWhole_47 N k12 x1 x2 r12 x3 (-1) σ11
      else
        zX4_isWhole_47 N k12 x1 x2 r12 x3 1 σ11) fv_no
noncomputable def zX4_isWhole_12 (N : Nat) : Nat → Int32 → Int32 → Int32 → Int32 → fv_S → Option fv_O
  | 0, _, _, _, _, _ => none
  | n + 1, x1, x2, x3, x4, σ => zX4_isWhole_12_b N (zX4_isWhole_12 N n) x1 x2 x3 x4 σ
noncomputable def zX4_isWhole (N : Nat) (σ : fv_S) : Option fv_O :=
  zX4_isWhole_12 N N (fv_gi σ 1670) 0 0 1 σ
noncomputable def zX4_signBehind_57 (N : Nat) (x1 : Int32) (σ : fv_S) : Option fv_O :=
  fv_bi (zX4_signAt x1 σ) (fun r2 σ1 =>
    fv_ri r2 σ1) fv_no
noncomputable def zX4_signBehind_10_b (N : Nat) (k10 : Int32 → fv_S → Option fv_O) (x1 : Int32) (σ : fv_S) : Option fv_O :=
  if (fv_gi σ 1665) ≤ x1 then
    zX4_signBehind_57 N x1 σ
  else
    if fv_in x1 6000 then
      if (fv_ga σ 14 x1) = (32 : Int32) then
        k10 (x1 + (1 : Int32)) σ
      else
        if fv_in x1 6000 then
          if (fv_ga σ 14 x1) = (9 : Int32) then
            k10 (x1 + (1 : Int32)) σ
          else
            if fv_in x1 6000 then
              if ¬ (fv_ga σ 14 x1) = (13 : Int32) then
                zX4_signBehind_57 N x1 σ
              else
                k10 (x1 + (1 : Int32)) σ
            else none
        else none
    else none
noncomputable def zX4_signBehind_10 (N : Nat) : Nat → Int32 → fv_S → Option fv_O
  | 0, _, _ => none
  | n + 1, x1, σ => zX4_signBehind_10_b N (zX4_signBehind_10 N n) x1 σ
noncomputable def zX4_signBehind (N : Nat) (σ : fv_S) : Option fv_O :=
  zX4_signBehind_10 N N ((fv_gi σ 1670) + (fv_gi σ 1671)) σ
noncomputable def zX3_value (x1 : Int32) (x2 : Int32) (σ : fv_S) : Option fv_O :=
  if fv_in x1 2 then
    if fv_in x1 2 then
      if fv_in x1 2 then
        if fv_in x1 2 then
          fv_rv (fv_sa (fv_sa (fv_sa (fv_sa σ 23 x1 (vp_nar .boolean 1)) 24 x1 (vp_nar .boolean (fv_gi σ 1560))) 25 x1 x2) 26 x1 (fv_gi σ 1561))
        else none
      else none
    else none
  else none
noncomputable def zX3_indexed_65 (N : Nat) (s1 : Int32) (s2 : Int32) (σ : fv_S) : Option fv_O :=
  fv_bv (zX3_value s1 s2 σ) (fun σ1 =>
    fv_rv σ1) fv_no
noncomputable def zX3_indexed (N : Nat) (x1 : Int32) (σ : fv_S) : Option fv_O :=
  if fv_in x1 2 then
    fv_bi (zX3_reserved N (fv_sa σ 21 x1 3)) (fun r4 σ3 =>
      if fv_in x1 2 then
        fv_bv (zX4_pass (fv_sa σ3 22 x1 r4)) (fun σ6 =>
          fv_bi (zX4_look N σ6) (fun r8 σ7 =>
            if ¬ r8 = (41 : Int32) then
              fv_bv (zX4_pass σ7) (fun σ9 =>
                fv_bi (zX3_exp N σ9) (fun r11 σ10 =>
                  if ¬ r8 = (45 : Int32) then
                    zX3_indexed_65 N x1 r11 σ10
                  else
                    zX3_indexed_65 N x1 (-r11) σ10) fv_th) fv_no
            else
              fv_rv σ7) fv_no) fv_no
      else none) fv_no
  else none
noncomputable def zX3_place_149 (N : Nat) (σ : fv_S) : Option fv_O :=
  fv_bv (zX4_want N 41 σ) (fun σ1 =>
    fv_rv σ1) fv_th
noncomputable def zX3_place_65 (N : Nat) (x1 : Int32) (σ : fv_S) : Option fv_O :=
  fv_bv (zX3_indexed N x1 σ) (fun σ2 =>
    zX3_place_149 N σ2) fv_th
noncomputable def zX3_place_109 (N : Nat) (x1 : Int32) (x2 : Int32) (σ : fv_S) : Option fv_O :=
  if fv_in x1 2 then
    if fv_in x1 2 then
      fv_bv (zX4_pass (fv_sa (fv_sa σ 21 x1 2) 22 x1 x2)) (fun σ5 =>
        zX3_place_149 N σ5) fv_no
    else none
  else none
noncomputable def zX3_place_133 (N : Nat) (x1 : Int32) (σ : fv_S) : Option fv_O :=
  if fv_in x1 2 then
    fv_bi (zX3_exp N (fv_sa σ 21 x1 4)) (fun r8 σ7 =>
      fv_bv (zX3_value x1 r8 σ7) (fun σ9 =>
        zX3_place_149 N σ9) fv_no) fv_th
  else none
noncomputable def zX3_place_73 (N : Nat) (x1 : Int32) (x2 : Int32) (x3 : Int32) (σ : fv_S) : Option fv_O :=
  if ¬ x3 = (41 : Int32) then
    zX3_place_133 N x1 σ
  else
    if x2 = (88 : Int32) then
      zX3_place_109 N x1 x2 σ
    else
      if x2 = (86 : Int32) then
        zX3_place_109 N x1 x2 σ
      else
        if x2 = (87 : Int32) then
          zX3_place_109 N x1 x2 σ
        else
          if x2 = (89 : Int32) then
            zX3_place_109 N x1 x2 σ
          else
            if ¬ x2 = (77 : Int32) then
              zX3_place_133 N x1 σ
            else
              zX3_place_109 N x1 x2 σ
noncomputable def zX3_place_47 (N : Nat) (x1 : Int32) (x2 : Int32) (x3 : Int32) (σ : fv_S) : Option fv_O :=
  if x3 = (41 : Int32) then
    zX3_place_65 N x1 σ
  else
    if x3 = (43 : Int32) then
      zX3_place_65 N x1 σ
    else
      if ¬ x3 = (45 : Int32) then
        zX3_place_73 N x1 x2 x3 σ
      else
        zX3_place_65 N x1 σ
noncomputable def zX3_place_26 (N : Nat) (x1 : Int32) (s0 : Int32) (σ : fv_S) : Option fv_O :=
  fv_bi (zX4_signBehind N σ) (fun r11 σ10 =>
    if s0 = (90 : Int32) then
      zX3_place_47 N x1 s0 r11 σ10
    else
      if ¬ s0 = (91 : Int32) then
        zX3_place_73 N x1 s0 r11 σ10
      else
        zX3_place_47 N x1 s0 r11 σ10) fv_no
noncomputable def zX3_place (N : Nat) (x1 : Int32) (σ : fv_S) : Option fv_O :=
  fv_bv (zX4_pass σ) (fun σ12 =>
    fv_bi (zX4_look N σ12) (fun r14 σ13 =>
      if ¬ r14 = (1 : Int32) then
        zX3_place_26 N x1 (-1) σ13
      else
        fv_bi (zX3_reserved N σ13) (fun r16 σ15 =>
          zX3_place_26 N x1 r16 σ15) fv_no) fv_no) fv_no
noncomputable def zX4_isAlone_57 (N : Nat) (x1 : Int32) (σ : fv_S) : Option fv_O :=
  fv_bi (zX4_signAt x1 σ) (fun r2 σ1 =>
    if x1 = (fv_gi σ1 1665) then
      fv_ri 1 σ1
    else
      if r2 = (10 : Int32) then
        fv_ri 1 σ1
      else
        if r2 = (59 : Int32) then
          fv_ri 1 σ1
        else
          if ¬ r2 = (44 : Int32) then
            fv_ri 0 σ1
          else
            fv_ri 1 σ1) fv_no
noncomputable def zX4_isAlone_10_b (N : Nat) (k10 : Int32 → fv_S → Option fv_O) (x1 : Int32) (σ : fv_S) : Option fv_O :=
  if (fv_gi σ 1665) ≤ x1 then
    zX4_isAlone_57 N x1 σ
  else
    if fv_in x1 6000 then
      if (fv_ga σ 14 x1) = (32 : Int32) then
        k10 (x1 + (1 : Int32)) σ
      else
        if fv_in x1 6000 then
          if (fv_ga σ 14 x1) = (9 : Int32) then
            k10 (x1 + (1 : Int32)) σ
          else
            if fv_in x1 6000 then
              if ¬ (fv_ga σ 14 x1) = (13 : Int32) then
                zX4_isAlone_57 N x1 σ
              else
                k10 (x1 + (1 : Int32)) σ
            else none
        else none
    else none
noncomputable def zX4_isAlone_10 (N : Nat) : Nat → Int32 → fv_S → Option fv_O
  | 0, _, _ => none
  | n + 1, x1, σ => zX4_isAlone_10_b N (zX4_isAlone_10 N n) x1 σ
noncomputable def zX4_isAlone (N : Nat) (σ : fv_S) : Option fv_O :=
  zX4_isAlone_10 N N ((fv_gi σ 1670) + (fv_gi σ 1671)) σ
noncomputable def zX3_operand_114 (N : Nat) (σ : fv_S) : Option fv_O :=
  fv_rv (fv_si σ 1555 ((fv_gi σ 1555) + (1 : Int32)))
noncomputable def zX3_operand_98 (N : Nat) (x1 : Int32) (σ : fv_S) : Option fv_O :=
  if fv_in x1 2 then
    fv_bi (zX3_exp N (fv_sa σ 21 x1 5)) (fun r3 σ2 =>
      fv_bv (zX3_value x1 r3 σ2) (fun σ4 =>
        zX3_operand_114 N σ4) fv_no) fv_th
  else none
noncomputable def zX3_operand_58 (N : Nat) (x1 : Int32) (x3 : Int32) (σ : fv_S) : Option fv_O :=
  if x3 < (75 : Int32) then
    zX3_operand_98 N x1 σ
  else
    fv_bi (zX4_isAlone N σ) (fun r6 σ5 =>
      if r6 = 0 then
        zX3_operand_98 N x1 σ5
      else
        if fv_in x1 2 then
          if fv_in x1 2 then
            fv_bv (zX4_pass (fv_sa (fv_sa σ5 21 x1 1) 22 x1 x3)) (fun σ9 =>
              zX3_operand_114 N σ9) fv_no
          else none
        else none) fv_no
noncomputable def zX3_operand_33 (N : Nat) (x1 : Int32) (x2 : Int32) (s0 : Int32) (σ : fv_S) : Option fv_O :=
  if ¬ x2 = (40 : Int32) then
    zX3_operand_58 N x1 s0 σ
  else
    fv_bi (zX4_isWhole N σ) (fun r11 σ10 =>
      if r11 = 0 then
        zX3_operand_58 N x1 s0 σ10
      else
        fv_bv (zX3_place N x1 σ10) (fun σ12 =>
          zX3_operand_114 N σ12) fv_th) fv_no
noncomputable def zX3_operand (N : Nat) (σ : fv_S) : Option fv_O :=
  if fv_in (fv_gi σ 1555) 2 then
    fv_bi (zX4_look N (fv_sa σ 23 (fv_gi σ 1555) (vp_nar .boolean 0))) (fun r15 σ14 =>
      if ¬ r15 = (1 : Int32) then
        zX3_operand_33 N (fv_gi σ 1555) r15 (-1) σ14
      else
        fv_bi (zX3_reserved N σ14) (fun r17 σ16 =>
          zX3_operand_33 N (fv_gi σ 1555) r15 r17 σ16) fv_no) fv_no
  else none
noncomputable def zX3_readOperands (N : Nat) (σ : fv_S) : Option fv_O :=
  fv_bi (zX4_isEnd N (fv_sa (fv_sa (fv_si σ 1555 0) 21 0 0) 21 1 0)) (fun r2 σ1 =>
    if r2 = 0 then
      fv_bv (zX3_operand N σ1) (fun σ3 =>
        fv_bi (zX4_look N σ3) (fun r5 σ4 =>
          if r5 = (44 : Int32) then
            fv_bv (zX4_pass σ4) (fun σ6 =>
              fv_bv (zX3_operand N σ6) (fun σ7 =>
                fv_rv σ7) fv_th) fv_no
          else
            fv_rv σ4) fv_no) fv_th
    else
      fv_rv σ1) fv_no
noncomputable def zX3_inRange (x1 : Int32) (x2 : Int32) (x3 : Int32) (x4 : Int32) (σ : fv_S) : Option fv_O :=
  if (fv_gi σ 1541) = 0 then
    fv_rv σ
  else
    fv_bi (zX0_isIn (Int32.toInt64 x1) (Int32.toInt64 x2) (Int32.toInt64 x3) σ) (fun r2 σ1 =>
      if ¬ r2 = 0 then
        fv_rv σ1
      else
        fv_bv (zX3_tellFault 5 x4 σ1) (fun σ3 =>
          fv_rv σ3) fv_no) fv_no
noncomputable def zX3_checkNumber_111 (s1 : Int32) (σ : fv_S) : Option fv_O :=
  fv_bv (zX3_inRange s1 0 56 (fv_ga σ 26 0) σ) (fun σ1 =>
    fv_rv σ1) fv_no
noncomputable def zX3_checkNumber_82 (x1 : Int32) (σ : fv_S) : Option fv_O :=
  if ¬ x1 = (34 : Int32) then
    fv_rv σ
  else
    if ¬ ((fv_ga σ 25 0) &&& (7 : Int32)) = 0 then
      zX3_checkNumber_111 (-1) σ
    else
      zX3_checkNumber_111 (fv_ga σ 25 0) σ
noncomputable def zX3_checkNumber_58 (x1 : Int32) (σ : fv_S) : Option fv_O :=
  if ¬ x1 = (48 : Int32) then
    zX3_checkNumber_82 x1 σ
  else
    fv_bv (zX3_inRange (fv_ga σ 25 0) 0 2 (fv_ga σ 26 0) σ) (fun σ2 =>
      zX3_checkNumber_82 x1 σ2) fv_no
noncomputable def zX3_checkNumber (x1 : Int32) (σ : fv_S) : Option fv_O :=
  if (fv_gi σ 1541) = 0 then
    fv_rv σ
  else
    if ¬ (fv_ga σ 21 0) = (5 : Int32) then
      fv_rv σ
    else
      if ¬ (fv_ga σ 24 0) = 0 then
        if x1 < (42 : Int32) then
          zX3_checkNumber_58 x1 σ
        else
          if (45 : Int32) ≤ x1 then
            zX3_checkNumber_58 x1 σ
          else
            fv_bv (zX3_inRange (fv_ga σ 25 0) 0 7 (fv_ga σ 26 0) σ) (fun σ3 =>
              zX3_checkNumber_58 x1 σ3) fv_no
      else
        fv_rv σ
noncomputable def zX6_atName (x0 : Int32) (σ : fv_S) : Option fv_O :=
  if (2 : Int32) ≤ x0 then
    if ¬ x0 = (2 : Int32) then
      if ¬ x0 = (3 : Int32) then
        fv_ri ((85 : Int32) + x0) σ
      else
        fv_ri 77 σ
    else
      fv_ri 89 σ
  else
    fv_ri ((86 : Int32) + x0) σ
noncomputable def zX6_condition (x0 : Int32) (σ : fv_S) : Option fv_O :=
  if ¬ x0 = (3 : Int32) then
    if (3 : Int32) ≤ x0 then
      fv_ri (((92 : Int32) + x0) - (1 : Int32)) σ
    else
      fv_ri ((92 : Int32) + x0) σ
  else
    fv_ri 77 σ
noncomputable def zX6_pair (x0 : Int32) (σ : fv_S) : Option fv_O :=
  if x0 = 4 then
    fv_ri 84 σ
  else if x0 = 5 then
    fv_ri 85 σ
  else if x0 = 6 then
    fv_ri ((84 : Int32) + x0) σ
  else if x0 = 7 then
    fv_ri ((84 : Int32) + x0) σ
  else 
    fv_ri ((86 : Int32) + x0) σ
noncomputable def zX6_register (x0 : Int32) (σ : fv_S) : Option fv_O :=
  if ¬ x0 = (7 : Int32) then
    if (6 : Int32) ≤ x0 then
      fv_ri 88 σ
    else
      fv_ri ((76 : Int32) + x0) σ
  else
    fv_ri 75 σ
noncomputable def zX3_isFit_226 (x4 : Int32) (σ : fv_S) : Option fv_O :=
  if ¬ x4 = (4 : Int32) then
    fv_ri 0 σ
  else
    fv_ri 1 σ
noncomputable def zX3_isFit_329 (x1 : Int32) (x3 : Int32) (x4 : Int32) (σ : fv_S) : Option fv_O :=
  if ¬ x4 = (5 : Int32) then
    fv_ri 0 σ
  else
    if (fv_gi σ 1541) = 0 then
      fv_ri 1 σ
    else
      if (0 : Int32) < (fv_gi σ 1563) then
        fv_ri 1 σ
      else
        if fv_in x1 2 then
          if ¬ (fv_ga σ 25 x1) = x3 then
            fv_ri 0 σ
          else
            fv_ri 1 σ
        else none
noncomputable def zX3_isFit_365 (x4 : Int32) (σ : fv_S) : Option fv_O :=
  if ¬ x4 = (5 : Int32) then
    fv_ri 0 σ
  else
    fv_ri 1 σ
noncomputable def zX3_isFit (x1 : Int32) (x2 : Int32) (x3 : Int32) (σ : fv_S) : Option fv_O :=
  if fv_in x1 2 then
    if x2 = 0 then
      if ¬ (fv_ga σ 21 x1) = 0 then
        fv_ri 0 σ
      else
        fv_ri 1 σ
    else if x2 = 1 then
      if ¬ x3 = (6 : Int32) then
        if ¬ (fv_ga σ 21 x1) = (1 : Int32) then
          fv_ri 0 σ
        else
          if fv_in x1 2 then
            fv_bi (zX6_register x3 σ) (fun r5 σ4 =>
              if ¬ (fv_ga σ 22 x1) = r5 then
                fv_ri 0 σ4
              else
                fv_ri 1 σ4) fv_no
          else none
      else
        if ¬ (fv_ga σ 21 x1) = (2 : Int32) then
          fv_ri 0 σ
        else
          if fv_in x1 2 then
            if ¬ (fv_ga σ 22 x1) = (88 : Int32) then
              fv_ri 0 σ
            else
              fv_ri 1 σ
          else none
    else if x2 = 2 then
      if ¬ (fv_ga σ 21 x1) = (1 : Int32) then
        fv_ri 0 σ
      else
        if fv_in x1 2 then
          fv_bi (zX6_pair x3 σ) (fun r9 σ8 =>
            if ¬ (fv_ga σ 22 x1) = r9 then
              fv_ri 0 σ8
            else
              fv_ri 1 σ8) fv_no
        else none
    else if x2 = 3 then
      if ¬ (fv_ga σ 21 x1) = (1 : Int32) then
        fv_ri 0 σ
      else
        if fv_in x1 2 then
          fv_bi (zX6_condition x3 σ) (fun r12 σ11 =>
            if ¬ (fv_ga σ 22 x1) = r12 then
              fv_ri 0 σ11
            else
              fv_ri 1 σ11) fv_no
        else none
    else if x2 = 4 then
      zX3_isFit_365 (fv_ga σ 21 x1) σ
    else if x2 = 5 then
      zX3_isFit_365 (fv_ga σ 21 x1) σ
    else if x2 = 6 then
      zX3_isFit_365 (fv_ga σ 21 x1) σ
    else if x2 = 7 then
      zX3_isFit_226 (fv_ga σ 21 x1) σ
    else if x2 = 8 then
      zX3_isFit_226 (fv_ga σ 21 x1) σ
    else if x2 = 9 then
      if (4 : Int32) ≤ x3 then
        if ¬ (fv_ga σ 21 x1) = (3 : Int32) then
          fv_ri 0 σ
        else
          if fv_in x1 2 then
            if ¬ (fv_ga σ 23 x1) = 0 then
              fv_ri 0 σ
            else
              if fv_in x1 2 then
                if ¬ (fv_ga σ 22 x1) = ((85 : Int32) + x3) then
                  fv_ri 0 σ
                else
                  fv_ri 1 σ
              else none
          else none
      else
        if ¬ (fv_ga σ 21 x1) = (2 : Int32) then
          fv_ri 0 σ
        else
          if fv_in x1 2 then
            fv_bi (zX6_atName x3 σ) (fun r17 σ16 =>
              if ¬ (fv_ga σ 22 x1) = r17 then
                fv_ri 0 σ16
              else
                fv_ri 1 σ16) fv_no
          else none
    else if x2 = 10 then
      if ¬ (fv_ga σ 21 x1) = (3 : Int32) then
        fv_ri 0 σ
      else
        if fv_in x1 2 then
          if ¬ (fv_ga σ 22 x1) = ((90 : Int32) + x3) then
            fv_ri 0 σ
          else
            fv_ri 1 σ
        else none
    else if x2 = 11 then
      zX3_isFit_329 x1 x3 (fv_ga σ 21 x1) σ
    else if x2 = 12 then
      zX3_isFit_329 x1 x3 (fv_ga σ 21 x1) σ
    else if x2 = 13 then
      zX3_isFit_329 x1 x3 (fv_ga σ 21 x1) σ
    else if x2 = 14 then
      if ¬ (fv_ga σ 21 x1) = (1 : Int32) then
        fv_ri 0 σ
      else
        if fv_in x1 2 then
          if ¬ (fv_ga σ 22 x1) = ((82 : Int32) + x3) then
            fv_ri 0 σ
          else
            fv_ri 1 σ
        else none
    else 
      zX3_isFit_365 (fv_ga σ 21 x1) σ
  else none
noncomputable def zX3_form_84 (N : Nat) (x2 : Int32) (σ : fv_S) : Option fv_O :=
  if (fv_gi σ 391) ≤ x2 then
    fv_ri (-1) σ
  else
    fv_ri x2 σ
noncomputable def zX3_form_2_b (N : Nat) (k2 : Int32 → Int32 → fv_S → Option fv_O) (x1 : Int32) (x2 : Int32) (σ : fv_S) : Option fv_O :=
  if (fv_gi σ 391) ≤ x2 then
    zX3_form_84 N x2 σ
  else
    if fv_in x2 900 then
      if ¬ (fv_ga σ 4 x2) = x1 then
        k2 x1 (x2 + (1 : Int32)) σ
      else
        if fv_in x2 900 then
          if fv_in x2 900 then
            fv_bi (zX3_isFit 0 (fv_ga σ 5 x2) (fv_ga σ 6 x2) σ) (fun r5 σ4 =>
              if r5 = 0 then
                k2 x1 (x2 + (1 : Int32)) σ4
              else
                if fv_in x2 900 then
                  if fv_in x2 900 then
                    fv_bi (zX3_isFit 1 (fv_ga σ4 7 x2) (fv_ga σ4 8 x2) σ4) (fun r9 σ8 =>
                      if ¬ r9 = 0 then
                        zX3_form_84 N x2 σ8
                      else
                        k2 x1 (x2 + (1 : Int32)) σ8) fv_no
                  else none
                else none) fv_no
          else none
        else none
    else none
noncomputable def zX3_form_2 (N : Nat) : Nat → Int32 → Int32 → fv_S → Option fv_O
  | 0, _, _, _ => none
  | n + 1, x1, x2, σ => zX3_form_2_b N (zX3_form_2 N n) x1 x2 σ
noncomputable def zX3_form (N : Nat) (x1 : Int32) (σ : fv_S) : Option fv_O :=
  zX3_form_2 N N x1 0 σ
noncomputable def zX2_hasIndex (x1 : Int32) (σ : fv_S) : Option fv_O :=
  if fv_in x1 900 then
    if (fv_ga σ 5 x1) = (10 : Int32) then
      fv_ri 1 σ
    else
      if fv_in x1 900 then
        if ¬ (fv_ga σ 7 x1) = (10 : Int32) then
          fv_ri 0 σ
        else
          fv_ri 1 σ
      else none
  else none
noncomputable def zX2_behind (x0 : Int32) (σ : fv_S) : Option fv_O :=
  if x0 = (4 : Int32) then
    fv_ri 1 σ
  else
    if x0 = (6 : Int32) then
      fv_ri 1 σ
    else
      if ¬ x0 = (8 : Int32) then
        if x0 = (5 : Int32) then
          fv_ri 2 σ
        else
          if ¬ x0 = (7 : Int32) then
            fv_ri 0 σ
          else
            fv_ri 2 σ
      else
        fv_ri 1 σ
noncomputable def zX2_size_40 (x1 : Int32) (s0 : Int32) (s1 : Int32) (σ : fv_S) : Option fv_O :=
  if fv_in x1 900 then
    fv_bi (zX2_behind (fv_ga σ 5 x1) σ) (fun r3 σ2 =>
      if fv_in x1 900 then
        fv_bi (zX2_behind (fv_ga σ2 7 x1) σ2) (fun r6 σ5 =>
          fv_ri (((s0 + s1) + r3) + r6) σ5) fv_no
      else none) fv_no
  else none
noncomputable def zX2_size_25 (x1 : Int32) (s0 : Int32) (σ : fv_S) : Option fv_O :=
  fv_bi (zX2_hasIndex x1 σ) (fun r8 σ7 =>
    if r8 = 0 then
      zX2_size_40 x1 s0 0 σ7
    else
      zX2_size_40 x1 s0 1 σ7) fv_no
noncomputable def zX2_size (x1 : Int32) (σ : fv_S) : Option fv_O :=
  if fv_in x1 900 then
    if ¬ (fv_ga σ 9 x1) = 0 then
      if (5 : Int32) ≤ (fv_ga σ 9 x1) then
        zX2_size_25 x1 3 σ
      else
        zX2_size_25 x1 2 σ
    else
      zX2_size_25 x1 1 σ
  else none
noncomputable def zX3_checkValue_80 (x1 : Int32) (x4 : Int32) (σ : fv_S) : Option fv_O :=
  if fv_in x1 2 then
    fv_bv (zX3_inRange x4 (-128) 255 (fv_ga σ 26 x1) σ) (fun σ2 =>
      fv_rv σ2) fv_no
  else none
noncomputable def zX3_checkValue_100 (x1 : Int32) (x4 : Int32) (σ : fv_S) : Option fv_O :=
  if fv_in x1 2 then
    fv_bv (zX3_inRange x4 (-32768) 65535 (fv_ga σ 26 x1) σ) (fun σ4 =>
      fv_rv σ4) fv_no
  else none
noncomputable def zX3_checkValue (x1 : Int32) (x2 : Int32) (x3 : Int32) (σ : fv_S) : Option fv_O :=
  if fv_in x1 2 then
    if fv_in x1 2 then
      if (fv_ga σ 21 x1) < (3 : Int32) then
        fv_rv σ
      else
        if fv_in x1 2 then
          if (fv_ga σ 23 x1) = 0 then
            fv_rv σ
          else
            if fv_in x1 2 then
              if ¬ (fv_ga σ 24 x1) = 0 then
                if x2 = 4 then
                  zX3_checkValue_80 x1 (fv_ga σ 25 x1) σ
                else if x2 = 5 then
                  zX3_checkValue_100 x1 (fv_ga σ 25 x1) σ
                else if x2 = 6 then
                  if fv_in x1 2 then
                    fv_bv (zX3_inRange ((Int32.toInt16 ((fv_ga σ 25 x1) - x3)).toInt32) (-128) 127 (fv_ga σ 26 x1) σ) (fun σ10 =>
                      fv_rv σ10) fv_no
                  else none
                else if x2 = 7 then
                  zX3_checkValue_100 x1 (fv_ga σ 25 x1) σ
                else if x2 = 8 then
                  zX3_checkValue_80 x1 (fv_ga σ 25 x1) σ
                else if x2 = 9 then
                  fv_rv σ
                else if x2 = 10 then
                  if fv_in x1 2 then
                    fv_bv (zX3_inRange (fv_ga σ 25 x1) (-128) 127 (fv_ga σ 26 x1) σ) (fun σ12 =>
                      fv_rv σ12) fv_no
                  else none
                else 
                  fv_rv σ
              else
                fv_rv σ
            else none
        else none
    else none
  else none
noncomputable def zX3_lay_45 (σ : fv_S) : Option fv_O :=
  fv_rv (fv_si (fv_si σ 1543 ((fv_gi σ 1543) + (1 : Int32))) 1545 ((fv_gi σ 1545) + (1 : Int32)))
noncomputable def zX3_lay_29 (x1 : Int32) (σ : fv_S) : Option fv_O :=
  if fv_in (fv_gi σ 1543) 65536 then
    zX3_lay_45 (fv_sa (fv_si σ 1547 1) 20 (fv_gi σ 1543) ((Int32.toInt8 ((Int32.toInt8 x1).toInt32)).toInt32))
  else none
noncomputable def zX3_lay (x1 : Int32) (σ : fv_S) : Option fv_O :=
  if (fv_gi σ 1541) = 0 then
    zX3_lay_45 σ
  else
    if ¬ (fv_gi σ 1563) = 0 then
      zX3_lay_45 σ
    else
      if ¬ (fv_gi σ 1547) = 0 then
        zX3_lay_29 x1 σ
      else
        zX3_lay_29 x1 (fv_si σ 1546 (fv_gi σ 1543))
noncomputable def zX3_indexOf_19 (s0 : Int32) (σ : fv_S) : Option fv_O :=
  if fv_in s0 2 then
    if (fv_ga σ 23 s0) = 0 then
      fv_ri 0 σ
    else
      if fv_in s0 2 then
        fv_ri (fv_ga σ 25 s0) σ
      else none
  else none
noncomputable def zX3_indexOf (x1 : Int32) (σ : fv_S) : Option fv_O :=
  if fv_in x1 900 then
    if ¬ (fv_ga σ 5 x1) = (10 : Int32) then
      zX3_indexOf_19 1 σ
    else
      zX3_indexOf_19 0 σ
  else none
noncomputable def zX3_layOperand_50 (x4 : Int32) (σ : fv_S) : Option fv_O :=
  fv_bv (zX3_lay x4 σ) (fun σ1 =>
    fv_bv (zX3_lay (x4 >>> (8 : Int32)) σ1) (fun σ2 =>
      fv_rv σ2) fv_no) fv_no
noncomputable def zX3_layOperand_39 (x2 : Int32) (x4 : Int32) (σ : fv_S) : Option fv_O :=
  if x2 = (5 : Int32) then
    zX3_layOperand_50 x4 σ
  else
    if ¬ x2 = (7 : Int32) then
      fv_rv σ
    else
      zX3_layOperand_50 x4 σ
noncomputable def zX3_layOperand_33 (x2 : Int32) (x4 : Int32) (σ : fv_S) : Option fv_O :=
  fv_bv (zX3_lay x4 σ) (fun σ3 =>
    zX3_layOperand_39 x2 x4 σ3) fv_no
noncomputable def zX3_layOperand_22 (x2 : Int32) (x4 : Int32) (σ : fv_S) : Option fv_O :=
  if x2 = (4 : Int32) then
    zX3_layOperand_33 x2 x4 σ
  else
    if ¬ x2 = (8 : Int32) then
      zX3_layOperand_39 x2 x4 σ
    else
      zX3_layOperand_33 x2 x4 σ
noncomputable def zX3_layOperand (x1 : Int32) (x2 : Int32) (x3 : Int32) (σ : fv_S) : Option fv_O :=
  if fv_in x1 2 then
    if ¬ x2 = (6 : Int32) then
      zX3_layOperand_22 x2 (fv_ga σ 25 x1) σ
    else
      fv_bv (zX3_lay ((fv_ga σ 25 x1) - x3) σ) (fun σ5 =>
        zX3_layOperand_22 x2 (fv_ga σ 25 x1) σ5) fv_no
  else none
noncomputable def zX3_instruction_225 (N : Nat) (x2 : Int32) (x4 : Int32) (σ : fv_S) : Option fv_O :=
  if fv_in x2 900 then
    fv_bv (zX3_layOperand 0 (fv_ga σ 5 x2) x4 σ) (fun σ2 =>
      if fv_in x2 900 then
        fv_bv (zX3_layOperand 1 (fv_ga σ2 7 x2) x4 σ2) (fun σ4 =>
          fv_rv σ4) fv_no
      else none) fv_no
  else none
noncomputable def zX3_instruction_186 (N : Nat) (x2 : Int32) (x4 : Int32) (x5 : Int32) (σ : fv_S) : Option fv_O :=
  if fv_in x2 900 then
    fv_bv (zX3_lay (fv_ga σ 10 x2) σ) (fun σ6 =>
      if (5 : Int32) ≤ x5 then
        zX3_instruction_225 N x2 x4 σ6
      else
        fv_bi (zX2_hasIndex x2 σ6) (fun r8 σ7 =>
          if r8 = 0 then
            zX3_instruction_225 N x2 x4 σ7
          else
            fv_bi (zX3_indexOf x2 σ7) (fun r10 σ9 =>
              fv_bv (zX3_lay r10 σ9) (fun σ11 =>
                zX3_instruction_225 N x2 x4 σ11) fv_no) fv_no) fv_no) fv_no
  else none
noncomputable def zX3_instruction_171 (N : Nat) (x2 : Int32) (x4 : Int32) (x5 : Int32) (σ : fv_S) : Option fv_O :=
  if x5 < (5 : Int32) then
    zX3_instruction_186 N x2 x4 x5 σ
  else
    fv_bi (zX3_indexOf x2 σ) (fun r13 σ12 =>
      fv_bv (zX3_lay r13 σ12) (fun σ14 =>
        zX3_instruction_186 N x2 x4 x5 σ14) fv_no) fv_no
noncomputable def zX3_instruction_164 (N : Nat) (x2 : Int32) (x4 : Int32) (x5 : Int32) (σ : fv_S) : Option fv_O :=
  fv_bv (zX3_lay 203 σ) (fun σ15 =>
    zX3_instruction_171 N x2 x4 x5 σ15) fv_no
noncomputable def zX3_instruction_152 (N : Nat) (x2 : Int32) (x4 : Int32) (x5 : Int32) (σ : fv_S) : Option fv_O :=
  if x5 = (1 : Int32) then
    zX3_instruction_164 N x2 x4 x5 σ
  else
    if x5 < (5 : Int32) then
      zX3_instruction_171 N x2 x4 x5 σ
    else
      zX3_instruction_164 N x2 x4 x5 σ
noncomputable def zX3_instruction_149 (N : Nat) (x2 : Int32) (x4 : Int32) (x5 : Int32) (s1 : Int32) (σ : fv_S) : Option fv_O :=
  fv_bv (zX3_lay s1 σ) (fun σ16 =>
    zX3_instruction_152 N x2 x4 x5 σ16) fv_no
noncomputable def zX3_instruction_140 (N : Nat) (x2 : Int32) (x4 : Int32) (x5 : Int32) (σ : fv_S) : Option fv_O :=
  zX3_instruction_149 N x2 x4 x5 221 σ
noncomputable def zX3_instruction_121 (N : Nat) (x2 : Int32) (x4 : Int32) (x5 : Int32) (σ : fv_S) : Option fv_O :=
  if x5 < (3 : Int32) then
    zX3_instruction_152 N x2 x4 x5 σ
  else
    if x5 = (3 : Int32) then
      zX3_instruction_140 N x2 x4 x5 σ
    else
      if ¬ x5 = (5 : Int32) then
        zX3_instruction_149 N x2 x4 x5 253 σ
      else
        zX3_instruction_140 N x2 x4 x5 σ
noncomputable def zX3_instruction (N : Nat) (x1 : Int32) (σ : fv_S) : Option fv_O :=
  fv_bv (zX3_readOperands N σ) (fun σ17 =>
    fv_bi (zX4_isEnd N σ17) (fun r19 σ18 =>
      if ¬ r19 = 0 then
        fv_bv (zX3_checkNumber x1 σ18) (fun σ20 =>
          fv_bi (zX3_form N x1 σ20) (fun r22 σ21 =>
            if (0 : Int32) ≤ r22 then
              fv_bi (zX2_size r22 σ21) (fun r24 σ23 =>
                if fv_in r22 900 then
                  fv_bv (zX3_checkValue 0 (fv_ga σ23 5 r22) ((fv_gi σ23 1543) + r24) σ23) (fun σ26 =>
                    if fv_in r22 900 then
                      fv_bv (zX3_checkValue 1 (fv_ga σ26 7 r22) ((fv_gi σ23 1543) + r24) σ26) (fun σ28 =>
                        if fv_in r22 900 then
                          if ¬ (fv_ga σ28 9 r22) = (2 : Int32) then
                            zX3_instruction_121 N r22 ((fv_gi σ23 1543) + r24) (fv_ga σ28 9 r22) σ28
                          else
                            fv_bv (zX3_lay 237 σ28) (fun σ30 =>
                              zX3_instruction_121 N r22 ((fv_gi σ23 1543) + r24) (fv_ga σ28 9 r22) σ30) fv_no
                        else none) fv_no
                    else none) fv_no
                else none) fv_no
            else
              fv_bv (zX3_tellFault 6 (fv_gi σ21 1548) σ21) (fun σ31 =>
                fv_rv σ31) fv_no) fv_no) fv_no
      else
        fv_ba (zX4_wrong σ18) (fun r33 r34 σ32 =>
          fv_th r33 r34 σ32) fv_no) fv_no) fv_th
noncomputable def zX3_texts_2_b (N : Nat) (k2 : Int32 → fv_S → Option fv_O) (x1 : Int32) (σ : fv_S) : Option fv_O :=
  if ((fv_gi σ 1671) - (1 : Int32)) ≤ x1 then
    fv_bv (zX4_pass σ) (fun σ1 =>
      fv_rv σ1) fv_no
  else
    if fv_in ((fv_gi σ 1670) + x1) 6000 then
      fv_bv (zX3_lay (fv_ga σ 14 ((fv_gi σ 1670) + x1)) σ) (fun σ3 =>
        k2 (x1 + (1 : Int32)) σ3) fv_no
    else none
noncomputable def zX3_texts_2 (N : Nat) : Nat → Int32 → fv_S → Option fv_O
  | 0, _, _ => none
  | n + 1, x1, σ => zX3_texts_2_b N (zX3_texts_2 N n) x1 σ
noncomputable def zX3_texts (N : Nat) (σ : fv_S) : Option fv_O :=
  zX3_texts_2 N N 1 σ
noncomputable def zX3_data_108 (N : Nat) (k2 : Int32 → Int32 → fv_S → Option fv_O) (x1 : Int32) (s0 : Int32) (σ : fv_S) : Option fv_O :=
  if s0 = 0 then
    k2 x1 s0 σ
  else
    fv_bv (zX4_pass σ) (fun σ1 =>
      k2 x1 s0 σ1) fv_no
noncomputable def zX3_data_91 (N : Nat) (k2 : Int32 → Int32 → fv_S → Option fv_O) (x1 : Int32) (σ : fv_S) : Option fv_O :=
  fv_bi (zX4_look N σ) (fun r3 σ2 =>
    if ¬ r3 = (44 : Int32) then
      zX3_data_108 N k2 x1 0 σ2
    else
      zX3_data_108 N k2 x1 1 σ2) fv_no
noncomputable def zX3_data_74 (N : Nat) (k2 : Int32 → Int32 → fv_S → Option fv_O) (x1 : Int32) (x3 : Int32) (σ : fv_S) : Option fv_O :=
  fv_bv (zX3_lay x3 σ) (fun σ4 =>
    if x1 = 0 then
      zX3_data_91 N k2 x1 σ4
    else
      fv_bv (zX3_lay (x3 >>> (8 : Int32)) σ4) (fun σ5 =>
        zX3_data_91 N k2 x1 σ5) fv_no) fv_no
noncomputable def zX3_data_67 (N : Nat) (k2 : Int32 → Int32 → fv_S → Option fv_O) (x1 : Int32) (x3 : Int32) (s1 : Int32) (s2 : Int32) (s3 : Int32) (σ : fv_S) : Option fv_O :=
  fv_bv (zX3_inRange s1 s2 s3 (fv_gi σ 1561) σ) (fun σ6 =>
    zX3_data_74 N k2 x1 x3 σ6) fv_no
noncomputable def zX3_data_54 (N : Nat) (k2 : Int32 → Int32 → fv_S → Option fv_O) (x1 : Int32) (x3 : Int32) (s1 : Int32) (s2 : Int32) (σ : fv_S) : Option fv_O :=
  if x1 = 0 then
    zX3_data_67 N k2 x1 x3 s1 s2 255 σ
  else
    zX3_data_67 N k2 x1 x3 s1 s2 65535 σ
noncomputable def zX3_data_28 (N : Nat) (k2 : Int32 → Int32 → fv_S → Option fv_O) (x1 : Int32) (σ : fv_S) : Option fv_O :=
  fv_bi (zX3_exp N σ) (fun r8 σ7 =>
    if (fv_gi σ7 1560) = 0 then
      zX3_data_74 N k2 x1 r8 σ7
    else
      if x1 = 0 then
        zX3_data_54 N k2 x1 r8 r8 (-128) σ7
      else
        zX3_data_54 N k2 x1 r8 r8 (-32768) σ7) fv_th
noncomputable def zX3_data_2_b (N : Nat) (k2 : Int32 → Int32 → fv_S → Option fv_O) (x1 : Int32) (x2 : Int32) (σ : fv_S) : Option fv_O :=
  if x2 = 0 then
    fv_rv σ
  else
    if ¬ x1 = 0 then
      zX3_data_28 N k2 x1 σ
    else
      fv_bi (zX4_look N σ) (fun r10 σ9 =>
        if ¬ r10 = (3 : Int32) then
          zX3_data_28 N k2 x1 σ9
        else
          fv_bv (zX3_texts N σ9) (fun σ11 =>
            zX3_data_91 N k2 x1 σ11) fv_no) fv_no
noncomputable def zX3_data_2 (N : Nat) : Nat → Int32 → Int32 → fv_S → Option fv_O
  | 0, _, _, _ => none
  | n + 1, x1, x2, σ => zX3_data_2_b N (zX3_data_2 N n) x1 x2 σ
noncomputable def zX3_data (N : Nat) (x1 : Int32) (σ : fv_S) : Option fv_O :=
  zX3_data_2 N N x1 1 σ
noncomputable def zX3_space_81_b (N : Nat) (k81 : Int32 → Int32 → Int32 → fv_S → Option fv_O) (x1 : Int32) (x2 : Int32) (x3 : Int32) (σ : fv_S) : Option fv_O :=
  if x1 ≤ x3 then
    fv_rv σ
  else
    fv_bv (zX3_lay x2 σ) (fun σ1 =>
      k81 x1 x2 (x3 + (1 : Int32)) σ1) fv_no
noncomputable def zX3_space_81 (N : Nat) : Nat → Int32 → Int32 → Int32 → fv_S → Option fv_O
  | 0, _, _, _, _ => none
  | n + 1, x1, x2, x3, σ => zX3_space_81_b N (zX3_space_81 N n) x1 x2 x3 σ
noncomputable def zX3_space (N : Nat) (σ : fv_S) : Option fv_O :=
  fv_bi (zX3_knownExp N 0 65535 σ) (fun r3 σ2 =>
    if (fv_gi σ2 1563) ≤ 0 then
      fv_bi (zX4_look N σ2) (fun r5 σ4 =>
        if ¬ r5 = (44 : Int32) then
          zX3_space_81 N N r3 0 0 σ4
        else
          fv_bv (zX4_pass σ4) (fun σ6 =>
            fv_bi (zX3_exp N σ6) (fun r8 σ7 =>
              if (fv_gi σ7 1560) = 0 then
                zX3_space_81 N N r3 r8 0 σ7
              else
                fv_bv (zX3_inRange r8 (-128) 255 (fv_gi σ7 1561) σ7) (fun σ9 =>
                  zX3_space_81 N N r3 r8 0 σ9) fv_no) fv_th) fv_no) fv_no
    else
      fv_th (fv_gi σ2 1563) (fv_gi σ2 1564) (fv_sc σ2)) fv_th
noncomputable def zX3_begin (x1 : Int32) (x2 : Int32) (σ : fv_S) : Option fv_O :=
  if fv_in ((fv_gi σ 1559) + (1 : Int32)) 9 then
    if fv_in ((fv_gi σ 1559) + (1 : Int32)) 9 then
      if fv_in ((fv_gi σ 1559) + (1 : Int32)) 9 then
        fv_rv (fv_sa (fv_sa (fv_sa (fv_si σ 1559 ((fv_gi σ 1559) + (1 : Int32))) 27 ((fv_gi σ 1559) + (1 : Int32)) (vp_nar .boolean x1)) 29 ((fv_gi σ 1559) + (1 : Int32)) (vp_nar .boolean x2)) 28 ((fv_gi σ 1559) + (1 : Int32)) (vp_nar .boolean 0))
      else none
    else none
  else none
noncomputable def zX3_otherwise_25 (x2 : Int32) (σ : fv_S) : Option fv_O :=
  fv_th 7 x2 (fv_sc σ)
noncomputable def zX3_otherwise_102 (s1 : Int32) (s2 : Int32) (σ : fv_S) : Option fv_O :=
  if fv_in s1 9 then
    fv_rv (fv_sa σ 27 s1 (vp_nar .boolean s2))
  else none
noncomputable def zX3_otherwise_101 (s1 : Int32) (σ : fv_S) : Option fv_O :=
  zX3_otherwise_102 s1 0 σ
noncomputable def zX3_otherwise_36 (x1 : Int32) (σ : fv_S) : Option fv_O :=
  if ¬ x1 = (74 : Int32) then
    if fv_in (fv_gi σ 1559) 9 then
      if fv_in (fv_gi σ 1559) 9 then
        if ¬ (fv_ga σ 29 (fv_gi σ 1559)) = 0 then
          zX3_otherwise_101 (fv_gi σ 1559) (fv_sa σ 28 (fv_gi σ 1559) (vp_nar .boolean 1))
        else
          if fv_in (fv_gi σ 1559) 9 then
            if ¬ (fv_ga σ 27 (fv_gi σ 1559)) = 0 then
              zX3_otherwise_101 (fv_gi σ 1559) (fv_sa σ 28 (fv_gi σ 1559) (vp_nar .boolean 1))
            else
              zX3_otherwise_102 (fv_gi σ 1559) 1 (fv_sa σ 28 (fv_gi σ 1559) (vp_nar .boolean 1))
          else none
      else none
    else none
  else
    fv_rv (fv_si σ 1559 ((fv_gi σ 1559) - (1 : Int32)))
noncomputable def zX3_otherwise (x1 : Int32) (x2 : Int32) (σ : fv_S) : Option fv_O :=
  if (fv_gi σ 1559) = 0 then
    zX3_otherwise_25 x2 σ
  else
    if ¬ x1 = (73 : Int32) then
      zX3_otherwise_36 x1 σ
    else
      if fv_in (fv_gi σ 1559) 9 then
        if (fv_ga σ 28 (fv_gi σ 1559)) = 0 then
          zX3_otherwise_36 x1 σ
        else
          zX3_otherwise_25 x2 σ
      else none
noncomputable def zX3_conditional_50 (N : Nat) (s1 : Int32) (σ : fv_S) : Option fv_O :=
  fv_bv (zX3_begin s1 0 σ) (fun σ1 =>
    fv_rv σ1) fv_no
noncomputable def zX3_conditional (N : Nat) (x1 : Int32) (σ : fv_S) : Option fv_O :=
  if ¬ x1 = (72 : Int32) then
    fv_bv (zX3_otherwise x1 (fv_gi σ 1548) σ) (fun σ2 =>
      fv_rv σ2) fv_th
  else
    if ¬ (fv_gi σ 1559) = (8 : Int32) then
      fv_bi (zX3_knownExp N (-2147483648) 2147483647 σ) (fun r4 σ3 =>
        if r4 = 0 then
          zX3_conditional_50 N 0 σ3
        else
          zX3_conditional_50 N 1 σ3) fv_th
    else
      fv_th 7 (fv_gi σ 1548) (fv_sc σ)
noncomputable def zX3_statement_90 (N : Nat) (σ : fv_S) : Option fv_O :=
  fv_th 6 (fv_gi σ 1548) (fv_sc σ)
noncomputable def zX3_statement_167 (N : Nat) (s1 : Int32) (σ : fv_S) : Option fv_O :=
  fv_bv (zX3_data N s1 σ) (fun σ5 =>
    fv_rv σ5) fv_th
noncomputable def zX3_statement_155 (N : Nat) (x1 : Int32) (σ : fv_S) : Option fv_O :=
  if ¬ x1 = (70 : Int32) then
    zX3_statement_167 N 0 σ
  else
    zX3_statement_167 N 1 σ
noncomputable def zX3_statement (N : Nat) (σ : fv_S) : Option fv_O :=
  fv_bi (zX4_isEnd N σ) (fun r7 σ6 =>
    if r7 = 0 then
      if (fv_gi σ6 1669) = (1 : Int32) then
        fv_bi (zX3_reserved N σ6) (fun r9 σ8 =>
          fv_bv (zX4_pass (fv_si σ8 1548 (fv_gi σ8 1670))) (fun σ10 =>
            fv_bi (zX3_isEqu N (fv_gi σ10 1548) (fv_gi σ8 1671) σ10) (fun r12 σ11 =>
              if r12 = 0 then
                if r9 < 0 then
                  zX3_statement_90 N σ11
                else
                  if (75 : Int32) ≤ r9 then
                    zX3_statement_90 N σ11
                  else
                    if ¬ r9 = (68 : Int32) then
                      if (67 : Int32) ≤ r9 then
                        if ¬ r9 = (67 : Int32) then
                          if r9 = (69 : Int32) then
                            zX3_statement_155 N r9 σ11
                          else
                            if ¬ r9 = (70 : Int32) then
                              if ¬ r9 = (71 : Int32) then
                                fv_bv (zX3_conditional N r9 σ11) (fun σ13 =>
                                  fv_rv σ13) fv_th
                              else
                                fv_bv (zX3_space N σ11) (fun σ14 =>
                                  fv_rv σ14) fv_th
                            else
                              zX3_statement_155 N r9 σ11
                        else
                          fv_bi (zX3_knownExp N 0 65535 σ11) (fun r16 σ15 =>
                            fv_rv (fv_si σ15 1543 (r16 &&& (65535 : Int32)))) fv_th
                      else
                        fv_bv (zX3_instruction N r9 σ11) (fun σ17 =>
                          fv_rv σ17) fv_th
                    else
                      zX3_statement_90 N σ11
              else
                fv_rv σ11) fv_th) fv_no) fv_no
      else
        fv_ba (zX4_wrong σ6) (fun r19 r20 σ18 =>
          fv_th r19 r20 σ18) fv_no
    else
      fv_rv σ6) fv_no
noncomputable def zX3_doLine_82 (N : Nat) (σ : fv_S) : Option fv_O :=
  fv_bv (zX3_statement N σ) (fun σ1 =>
    fv_bi (zX4_isEnd N σ1) (fun r3 σ2 =>
      if ¬ r3 = 0 then
        if (fv_gi σ2 1543) ≤ (65536 : Int32) then
          fv_rv σ2
        else
          fv_bv (zX3_tellFault 8 (fv_gi σ2 1548) σ2) (fun σ4 =>
            fv_rv σ4) fv_no
      else
        fv_ba (zX4_wrong σ2) (fun r6 r7 σ5 =>
          fv_th r6 r7 σ5) fv_no) fv_no) fv_th
noncomputable def zX3_doLine (N : Nat) (σ : fv_S) : Option fv_O :=
  fv_bi (zX4_look N σ) (fun r13 σ12 =>
    if ¬ r13 = (1 : Int32) then
      zX3_doLine_82 N σ12
    else
      fv_bv (zX4_pass σ12) (fun σ14 =>
        fv_bi (zX4_isBefore N 58 σ14) (fun r16 σ15 =>
          if r16 = 0 then
            fv_bv (zX4_back (fv_gi σ12 1670) σ15) (fun σ17 =>
              zX3_doLine_82 N σ17) fv_no
          else
            fv_bi (zX4_look N σ15) (fun r19 σ18 =>
              fv_bv (zX3_tell N (fv_gi σ12 1670) (fv_gi σ12 1671) (fv_gi σ18 1543) σ18) (fun σ20 =>
                fv_bv (zX4_pass σ20) (fun σ21 =>
                  zX3_doLine_82 N σ21) fv_no) fv_th) fv_no) fv_no) fv_no) fv_no
noncomputable def zX3_readLine_13 (N : Nat) (σ : fv_S) : Option fv_O :=
  fv_bv (zX3_lineFault_n σ) (fun σ1 =>
    fv_rv σ1) fv_th
noncomputable def zX3_readLine (N : Nat) (σ : fv_S) : Option fv_O :=
  fv_bv (zX3_doLine N σ) (fun σ2 =>
    zX3_readLine_13 N σ2) (fun n3 n4 σ5 =>
    fv_bv (zX3_lineFault_a n3 n4 σ5) (fun σ10 =>
      zX3_readLine_13 N σ10) fv_th)
noncomputable def zX4_endLine_19 (σ : fv_S) : Option fv_O :=
  fv_rv (fv_si σ 1668 0)
noncomputable def zX4_endLine (σ : fv_S) : Option fv_O :=
  if ¬ (fv_gi σ 1669) = (10 : Int32) then
    zX4_endLine_19 σ
  else
    zX4_endLine_19 (fv_si σ 1667 ((fv_gi σ 1670) + (1 : Int32)))
noncomputable def zX3_nameEnd_2_b (N : Nat) (k2 : Int32 → fv_S → Option fv_O) (x2 : Int32) (σ : fv_S) : Option fv_O :=
  fv_bi (zX4_signAt x2 σ) (fun r2 σ1 =>
    fv_bi (zX4_isNamePart r2 σ1) (fun r4 σ3 =>
      if r4 = 0 then
        fv_ri x2 σ3
      else
        k2 (x2 + (1 : Int32)) σ3) fv_no) fv_no
noncomputable def zX3_nameEnd_2 (N : Nat) : Nat → Int32 → fv_S → Option fv_O
  | 0, _, _ => none
  | n + 1, x2, σ => zX3_nameEnd_2_b N (zX3_nameEnd_2 N n) x2 σ
noncomputable def zX3_nameEnd (N : Nat) (x1 : Int32) (σ : fv_S) : Option fv_O :=
  zX3_nameEnd_2 N N x1 σ
noncomputable def zX3_skipLine_264 (N : Nat) (σ : fv_S) : Option fv_O :=
  fv_rv (fv_si σ 1668 0)
noncomputable def zX3_skipLine_211_b (N : Nat) (k211 : fv_S → Option fv_O) (σ : fv_S) : Option fv_O :=
  if (fv_gi σ 1665) ≤ (fv_gi σ 1667) then
    zX3_skipLine_264 N σ
  else
    if fv_in (fv_gi σ 1667) 6000 then
      if (fv_ga σ 14 (fv_gi σ 1667)) = (10 : Int32) then
        zX3_skipLine_264 N σ
      else
        k211 (fv_si σ 1667 ((fv_gi σ 1667) + (1 : Int32)))
    else none
noncomputable def zX3_skipLine_211 (N : Nat) : Nat → fv_S → Option fv_O
  | 0, _ => none
  | n + 1, σ => zX3_skipLine_211_b N (zX3_skipLine_211 N n) σ
noncomputable def zX3_skipLine_205 (N : Nat) (x1 : Int32) (x3 : Int32) (σ : fv_S) : Option fv_O :=
  fv_bv (zX3_otherwise x3 x1 σ) (fun σ2 =>
    zX3_skipLine_211 N N σ2) fv_th
noncomputable def zX3_skipLine_157 (N : Nat) (x1 : Int32) (s0 : Int32) (σ : fv_S) : Option fv_O :=
  if ¬ s0 = (72 : Int32) then
    if s0 = (73 : Int32) then
      zX3_skipLine_205 N x1 s0 σ
    else
      if ¬ s0 = (74 : Int32) then
        zX3_skipLine_211 N N σ
      else
        zX3_skipLine_205 N x1 s0 σ
  else
    if ¬ (fv_gi σ 1559) = (8 : Int32) then
      fv_bv (zX3_begin 0 1 σ) (fun σ3 =>
        zX3_skipLine_211 N N σ3) fv_no
    else
      fv_th 7 x1 (fv_sc σ)
noncomputable def zX3_skipLine_130 (N : Nat) (x1 : Int32) (x2 : Int32) (σ : fv_S) : Option fv_O :=
  if x2 ≤ x1 then
    zX3_skipLine_157 N x1 (-1) σ
  else
    fv_bi (zX1_find N x1 (x2 - x1) σ) (fun r9 σ8 =>
      zX3_skipLine_157 N x1 r9 σ8) fv_no
noncomputable def zX3_skipLine_129 (N : Nat) (x1 : Int32) (s0 : Int32) (σ : fv_S) : Option fv_O :=
  zX3_skipLine_130 N x1 s0 σ
noncomputable def zX3_skipLine_38 (N : Nat) (x1 : Int32) (s0 : Int32) (σ : fv_S) : Option fv_O :=
  fv_bv (zX4_skipBlanks N (fv_si σ 1667 s0)) (fun σ10 =>
    if s0 ≤ x1 then
      zX3_skipLine_130 N x1 s0 σ10
    else
      fv_bi (zX4_signAt (fv_gi σ10 1667) σ10) (fun r12 σ11 =>
        if ¬ r12 = (58 : Int32) then
          zX3_skipLine_130 N x1 s0 σ11
        else
          fv_bv (zX4_skipBlanks N (fv_si σ11 1667 ((fv_gi σ11 1667) + (1 : Int32)))) (fun σ13 =>
            fv_bi (zX4_signAt (fv_gi σ13 1667) σ13) (fun r15 σ14 =>
              fv_bi (zX4_isNameStart r15 σ14) (fun r17 σ16 =>
                if r17 = 0 then
                  zX3_skipLine_129 N (fv_gi σ13 1667) (fv_gi σ13 1667) σ16
                else
                  fv_bi (zX3_nameEnd N (fv_gi σ13 1667) σ16) (fun r19 σ18 =>
                    zX3_skipLine_129 N (fv_gi σ13 1667) r19 σ18) fv_no) fv_no) fv_no) fv_no) fv_no) fv_no
noncomputable def zX3_skipLine (N : Nat) (σ : fv_S) : Option fv_O :=
  fv_bv (zX4_skipBlanks N σ) (fun σ20 =>
    fv_bi (zX4_signAt (fv_gi σ20 1667) σ20) (fun r22 σ21 =>
      fv_bi (zX4_isNameStart r22 σ21) (fun r24 σ23 =>
        if r24 = 0 then
          zX3_skipLine_38 N (fv_gi σ20 1667) (fv_gi σ20 1667) σ23
        else
          fv_bi (zX3_nameEnd N (fv_gi σ20 1667) σ23) (fun r26 σ25 =>
            zX3_skipLine_38 N (fv_gi σ20 1667) r26 σ25) fv_no) fv_no) fv_no) fv_no
noncomputable def zX3_pass_134 (N : Nat) (k44 : fv_S → Option fv_O) (σ : fv_S) : Option fv_O :=
  fv_bi (zX4_look N σ) (fun r2 σ1 =>
    fv_bv (zX4_endLine σ1) (fun σ3 =>
      k44 σ3) fv_no) fv_no
noncomputable def zX3_pass_44_b (N : Nat) (k44 : fv_S → Option fv_O) (σ : fv_S) : Option fv_O :=
  if (fv_gi σ 1665) ≤ (fv_gi σ 1667) then
    if (fv_gi σ 1559) ≤ 0 then
      fv_rv σ
    else
      fv_th 7 (fv_gi σ 1665) (fv_sc σ)
  else
    if ((fv_gi σ 1544) + (1 : Int32)) ≤ (300 : Int32) then
      if fv_in (fv_gi σ 1559) 9 then
        if (fv_ga σ 27 (fv_gi σ 1559)) = 0 then
          fv_bv (zX3_skipLine N (fv_si (fv_si (fv_si σ 1544 ((fv_gi σ 1544) + (1 : Int32))) 1563 0) 1565 (fv_gi σ 1543))) (fun σ9 =>
            zX3_pass_134 N k44 σ9) fv_th
        else
          fv_bv (zX3_readLine N (fv_si (fv_si (fv_si σ 1544 ((fv_gi σ 1544) + (1 : Int32))) 1563 0) 1565 (fv_gi σ 1543))) (fun σ10 =>
            zX3_pass_134 N k44 σ10) fv_th
      else none
    else
      fv_th 9 (fv_gi σ 1667) (fv_sc (fv_si σ 1544 ((fv_gi σ 1544) + (1 : Int32))))
noncomputable def zX3_pass_44 (N : Nat) : Nat → fv_S → Option fv_O
  | 0, _ => none
  | n + 1, σ => zX3_pass_44_b N (zX3_pass_44 N n) σ
noncomputable def zX3_pass (N : Nat) (x1 : Int32) (σ : fv_S) : Option fv_O :=
  if x1 = 0 ∨ x1 = 1 then
    fv_bv (zX4_begin N (fv_sa (fv_si (fv_si (fv_si (fv_si (fv_si (fv_si σ 1541 x1) 1543 0) 1545 0) 1544 0) 1559 0) 1562 0) 27 0 (vp_nar .boolean 1))) (fun σ16 =>
      zX3_pass_44 N N σ16) fv_no
  else none
noncomputable def zX3_forge (N : Nat) (σ : fv_S) : Option fv_O :=
  fv_bv (zX3_pass N 0 (fv_si (fv_si (fv_si (fv_si σ 2051 0) 1547 0) 1546 0) 1542 0)) (fun σ1 =>
    fv_bv (fv_jcb 35 65536 20 65536 (0 : Int32) (0 : Int32) (65536 : Int32) σ1) (fun σ2 =>
      fv_bv (zX3_pass N 1 σ2) (fun σ3 =>
        fv_rv σ3) fv_th) fv_no) fv_th
noncomputable def zX5_copy (σ : fv_S) : Option fv_O :=
  fv_bv (fv_jcb 17 2400 42 2400 (0 : Int32) (0 : Int32) ((12 : Int32) * (fv_gi σ 2051)) (fv_si σ 5251 (fv_gi σ 2051))) (fun σ1 =>
    fv_bv (fv_jci 18 200 43 200 (0 : Int32) (0 : Int32) (fv_gi σ1 5251) σ1) (fun σ2 =>
      fv_bv (fv_jci 19 200 44 200 (0 : Int32) (0 : Int32) (fv_gi σ2 5251) σ2) (fun σ3 =>
        fv_rv σ3) fv_no) fv_no) fv_no
noncomputable def zX0_forge (N : Nat) (σ : fv_S) : Option fv_O :=
  fv_bv (zX3_forge N σ) (fun σ1 =>
    fv_bv (zX5_copy (fv_si (fv_si (fv_si (fv_si (fv_si σ1 9 0) 10 0) 11 (fv_gi σ1 1544)) 12 (fv_gi σ1 1546)) 13 (fv_gi σ1 1543))) (fun σ2 =>
      fv_bv (fv_jcb 20 65536 35 65536 (0 : Int32) (0 : Int32) (65536 : Int32) σ2) (fun σ3 =>
        fv_ri (fv_gi σ3 1545) σ3) fv_no) fv_no) (fun n4 n5 σ6 =>
    fv_ri (((-10) : Int32) - n4) (fv_si (fv_si σ6 9 (fv_gi σ6 1544)) 10 n5))
noncomputable def zX0_told (x1 : Int32) (σ : fv_S) : Option fv_O :=
  if x1 = 0 then
    fv_ri (fv_gi σ 9) σ
  else if x1 = 1 then
    fv_ri (fv_gi σ 10) σ
  else if x1 = 2 then
    fv_ri (fv_gi σ 11) σ
  else if x1 = 3 then
    fv_ri (fv_gi σ 5251) σ
  else if x1 = 4 then
    fv_ri (fv_gi σ 12) σ
  else if x1 = 5 then
    fv_ri (fv_gi σ 13) σ
  else 
    fv_ri (-2) σ
noncomputable def zX0_label (x1 : Int32) (σ : fv_S) : Option fv_O :=
  fv_bi (zX0_isIn (Int32.toInt64 x1) 0 (Int32.toInt64 ((fv_gi σ 5251) - (1 : Int32))) σ) (fun r2 σ1 =>
    if r2 = 0 then
      fv_ri 0 σ1
    else
      if fv_in x1 200 then
        fv_ri (fv_ga σ1 44 x1) σ1
      else none) fv_no
noncomputable def zX0_labelSign (x1 : Int32) (x2 : Int32) (σ : fv_S) : Option fv_O :=
  fv_bi (zX0_isIn (Int32.toInt64 x1) 0 (Int32.toInt64 ((fv_gi σ 5251) - (1 : Int32))) σ) (fun r2 σ1 =>
    if r2 = 0 then
      fv_ri (-1) σ1
    else
      if fv_in x1 200 then
        fv_bi (zX0_isIn (Int32.toInt64 x2) 0 (Int32.toInt64 ((fv_ga σ1 43 x1) - (1 : Int32))) σ1) (fun r5 σ4 =>
          if r5 = 0 then
            fv_ri (-1) σ4
          else
            if fv_in (((12 : Int32) * x1) + x2) 2400 then
              fv_ri (fv_ga σ4 42 (((12 : Int32) * x1) + x2)) σ4
            else none) fv_no
      else none) fv_no
noncomputable def zX2_at_93 (x2 : Int32) (x4 : Int32) (s0 : Int32) (σ : fv_S) : Option fv_O :=
  if ¬ x4 = (203 : Int32) then
    if fv_in (((256 : Int32) * ((3 : Int32) + s0)) + x4) 1792 then
      fv_ri (fv_ga σ 11 (((256 : Int32) * ((3 : Int32) + s0)) + x4)) σ
    else none
  else
    if fv_in ((x2 + (3 : Int32)) &&& (65535 : Int32)) 65536 then
      if fv_in (((256 : Int32) * ((5 : Int32) + s0)) + ((fv_ga σ 35 ((x2 + (3 : Int32)) &&& (65535 : Int32))) &&& (255 : Int32))) 1792 then
        fv_ri (fv_ga σ 11 (((256 : Int32) * ((5 : Int32) + s0)) + ((fv_ga σ 35 ((x2 + (3 : Int32)) &&& (65535 : Int32))) &&& (255 : Int32)))) σ
      else none
    else none
noncomputable def zX2_at_81 (x2 : Int32) (x3 : Int32) (x4 : Int32) (σ : fv_S) : Option fv_O :=
  if ¬ x3 = (221 : Int32) then
    zX2_at_93 x2 x4 1 σ
  else
    zX2_at_93 x2 x4 0 σ
noncomputable def zX2_at (x2 : Int32) (σ : fv_S) : Option fv_O :=
  if fv_in x2 65536 then
    if fv_in ((x2 + (1 : Int32)) &&& (65535 : Int32)) 65536 then
      if ¬ ((fv_ga σ 35 x2) &&& (255 : Int32)) = (203 : Int32) then
        if ¬ ((fv_ga σ 35 x2) &&& (255 : Int32)) = (237 : Int32) then
          if ((fv_ga σ 35 x2) &&& (255 : Int32)) = (221 : Int32) then
            zX2_at_81 x2 ((fv_ga σ 35 x2) &&& (255 : Int32)) ((fv_ga σ 35 ((x2 + (1 : Int32)) &&& (65535 : Int32))) &&& (255 : Int32)) σ
          else
            if ((fv_ga σ 35 x2) &&& (255 : Int32)) = (253 : Int32) then
              zX2_at_81 x2 ((fv_ga σ 35 x2) &&& (255 : Int32)) ((fv_ga σ 35 ((x2 + (1 : Int32)) &&& (65535 : Int32))) &&& (255 : Int32)) σ
            else
              if fv_in ((fv_ga σ 35 x2) &&& (255 : Int32)) 1792 then
                fv_ri (fv_ga σ 11 ((fv_ga σ 35 x2) &&& (255 : Int32))) σ
              else none
        else
          if fv_in ((512 : Int32) + ((fv_ga σ 35 ((x2 + (1 : Int32)) &&& (65535 : Int32))) &&& (255 : Int32))) 1792 then
            fv_ri (fv_ga σ 11 ((512 : Int32) + ((fv_ga σ 35 ((x2 + (1 : Int32)) &&& (65535 : Int32))) &&& (255 : Int32)))) σ
          else none
      else
        if fv_in ((256 : Int32) + ((fv_ga σ 35 ((x2 + (1 : Int32)) &&& (65535 : Int32))) &&& (255 : Int32))) 1792 then
          fv_ri (fv_ga σ 11 ((256 : Int32) + ((fv_ga σ 35 ((x2 + (1 : Int32)) &&& (65535 : Int32))) &&& (255 : Int32)))) σ
        else none
    else none
  else none
noncomputable def zX6_put_30 (x1 : Int32) (σ : fv_S) : Option fv_O :=
  if fv_in (fv_gi σ 3841) 64 then
    fv_rv (fv_sa (fv_si σ 3841 ((fv_gi σ 3841) + (1 : Int32))) 31 (fv_gi σ 3841) ((Int32.toInt8 ((Int32.toInt8 x1).toInt32)).toInt32))
  else none
noncomputable def zX6_putText_30_2_b (N : Nat) (k2 : Nat → Int32 → fv_S → Option fv_O) (x1 : Nat) (x2 : Int32) (σ : fv_S) : Option fv_O :=
  if x1 < 102 then
    fv_bi (zJ4_length x1 σ) (fun r2 σ1 =>
    if r2 ≤ x2 then
      fv_rv σ1
    else
      if x1 < 102 then
        fv_bi (zJ4_charAt x1 x2 σ1) (fun r4 σ3 =>
        fv_bv (zX6_put_30 r4 σ3) (fun σ5 =>
          k2 x1 (x2 + (1 : Int32)) σ5) fv_no) fv_no
      else none) fv_no
  else none
noncomputable def zX6_putText_30_2 (N : Nat) : Nat → Nat → Int32 → fv_S → Option fv_O
  | 0, _, _, _ => none
  | n + 1, x1, x2, σ => zX6_putText_30_2_b N (zX6_putText_30_2 N n) x1 x2 σ
noncomputable def zX6_putText_30 (N : Nat) (x1 : Nat) (σ : fv_S) : Option fv_O :=
  zX6_putText_30_2 N N x1 0 σ
noncomputable def zX6_octet (x1 : Int32) (σ : fv_S) : Option fv_O :=
  if fv_in (x1 &&& (65535 : Int32)) 65536 then
    fv_ri ((fv_ga σ 35 (x1 &&& (65535 : Int32))) &&& (255 : Int32)) σ
  else none
noncomputable def zX6_putNumber_30_18_b (N : Nat) (k18 : Int32 → Int32 → fv_S → Option fv_O) (x1 : Int32) (x2 : Int32) (σ : fv_S) : Option fv_O :=
  if x2 ≤ 0 then
    fv_rv σ
  else
    if x2 = 0 then none else
      fv_bv (zX6_put_30 ((48 : Int32) + ((x1 / x2) - (x1 / x2) / (10 : Int32) * (10 : Int32))) σ) (fun σ2 =>
        k18 x1 (x2 / (10 : Int32)) σ2) fv_no
noncomputable def zX6_putNumber_30_18 (N : Nat) : Nat → Int32 → Int32 → fv_S → Option fv_O
  | 0, _, _, _ => none
  | n + 1, x1, x2, σ => zX6_putNumber_30_18_b N (zX6_putNumber_30_18 N n) x1 x2 σ
noncomputable def zX6_putNumber_30_2_b (N : Nat) (k2 : Int32 → Int32 → fv_S → Option fv_O) (x1 : Int32) (x2 : Int32) (σ : fv_S) : Option fv_O :=
  if x2 = 0 then none else
    if (x1 / x2) < (10 : Int32) then
      zX6_putNumber_30_18 N N x1 x2 σ
    else
      k2 x1 (x2 * (10 : Int32)) σ
noncomputable def zX6_putNumber_30_2 (N : Nat) : Nat → Int32 → Int32 → fv_S → Option fv_O
  | 0, _, _, _ => none
  | n + 1, x1, x2, σ => zX6_putNumber_30_2_b N (zX6_putNumber_30_2 N n) x1 x2 σ
noncomputable def zX6_putNumber_30 (N : Nat) (x1 : Int32) (σ : fv_S) : Option fv_O :=
  zX6_putNumber_30_2 N N x1 1 σ
noncomputable def zX6_putName_30 (N : Nat) (x1 : Int32) (σ : fv_S) : Option fv_O :=
  if fv_in x1 99 then
    fv_bv (zX6_putText_30 N (Int32.toNatClampNeg x1) σ) (fun σ2 =>
      fv_rv σ2) fv_no
  else none
noncomputable def zJ3_abs (x0 : Int32) (σ : fv_S) : Option fv_O :=
  if (0 : Int32) ≤ x0 then
    fv_ri x0 σ
  else
    fv_ri (-x0) σ
noncomputable def zX6_putIndex_30_26 (N : Nat) (x2 : Int32) (s1 : Int32) (σ : fv_S) : Option fv_O :=
  fv_bv (zX6_put_30 s1 σ) (fun σ1 =>
    fv_bi (zJ3_abs x2 σ1) (fun r3 σ2 =>
      fv_bv (zX6_putNumber_30 N r3 σ2) (fun σ4 =>
        fv_bv (zX6_put_30 41 σ4) (fun σ5 =>
          fv_rv σ5) fv_no) fv_no) fv_no) fv_no
noncomputable def zX6_putIndex_30 (N : Nat) (x1 : Int32) (x2 : Int32) (σ : fv_S) : Option fv_O :=
  fv_bv (zX6_put_30 40 σ) (fun σ6 =>
    fv_bv (zX6_putName_30 N ((90 : Int32) + x1) σ6) (fun σ7 =>
      if (0 : Int32) ≤ x2 then
        zX6_putIndex_30_26 N x2 43 σ7
      else
        zX6_putIndex_30_26 N x2 45 σ7) fv_no) fv_no
noncomputable def zX6_within_30 (N : Nat) (x1 : Int32) (σ : fv_S) : Option fv_O :=
  fv_bv (zX6_put_30 40 σ) (fun σ1 =>
    fv_bv (zX6_putName_30 N x1 σ1) (fun σ2 =>
      fv_bv (zX6_put_30 41 σ2) (fun σ3 =>
        fv_rv σ3) fv_no) fv_no) fv_no
noncomputable def zX6_operand_30_120 (N : Nat) (x3 : Int32) (σ : fv_S) : Option fv_O :=
  fv_bv (zX6_putNumber_30 N x3 σ) (fun σ1 =>
    fv_rv σ1) fv_no
noncomputable def zX6_operand_30_128 (N : Nat) (x3 : Int32) (σ : fv_S) : Option fv_O :=
  fv_bv (zX6_put_30 40 σ) (fun σ2 =>
    fv_bv (zX6_putNumber_30 N x3 σ2) (fun σ3 =>
      fv_bv (zX6_put_30 41 σ3) (fun σ4 =>
        fv_rv σ4) fv_no) fv_no) fv_no
noncomputable def zX6_operand_30_180 (N : Nat) (x2 : Int32) (σ : fv_S) : Option fv_O :=
  fv_bv (zX6_putNumber_30 N x2 σ) (fun σ5 =>
    fv_rv σ5) fv_no
noncomputable def zX6_operand_30 (N : Nat) (x1 : Int32) (x2 : Int32) (x3 : Int32) (x4 : Int32) (σ : fv_S) : Option fv_O :=
  if x1 = 1 then
    if ¬ x2 = (6 : Int32) then
      fv_bi (zX6_register x2 σ) (fun r7 σ6 =>
        fv_bv (zX6_putName_30 N r7 σ6) (fun σ8 =>
          fv_rv σ8) fv_no) fv_no
    else
      fv_bv (zX6_within_30 N 88 σ) (fun σ9 =>
        fv_rv σ9) fv_no
  else if x1 = 2 then
    fv_bi (zX6_pair x2 σ) (fun r11 σ10 =>
      fv_bv (zX6_putName_30 N r11 σ10) (fun σ12 =>
        fv_rv σ12) fv_no) fv_no
  else if x1 = 3 then
    fv_bi (zX6_condition x2 σ) (fun r14 σ13 =>
      fv_bv (zX6_putName_30 N r14 σ13) (fun σ15 =>
        fv_rv σ15) fv_no) fv_no
  else if x1 = 4 then
    zX6_operand_30_120 N x3 σ
  else if x1 = 5 then
    zX6_operand_30_120 N x3 σ
  else if x1 = 6 then
    zX6_operand_30_120 N x3 σ
  else if x1 = 7 then
    zX6_operand_30_128 N x3 σ
  else if x1 = 8 then
    zX6_operand_30_128 N x3 σ
  else if x1 = 9 then
    fv_bi (zX6_atName x2 σ) (fun r17 σ16 =>
      fv_bv (zX6_within_30 N r17 σ16) (fun σ18 =>
        fv_rv σ18) fv_no) fv_no
  else if x1 = 10 then
    fv_bv (zX6_putIndex_30 N x2 x4 σ) (fun σ19 =>
      fv_rv σ19) fv_no
  else if x1 = 11 then
    zX6_operand_30_180 N x2 σ
  else if x1 = 12 then
    zX6_operand_30_180 N x2 σ
  else if x1 = 13 then
    zX6_operand_30_180 N x2 σ
  else if x1 = 14 then
    fv_bv (zX6_putName_30 N ((82 : Int32) + x2) σ) (fun σ20 =>
      fv_rv σ20) fv_no
  else 
    zX6_operand_30_180 N x2 σ
noncomputable def zX6_write_30_214 (N : Nat) (x3 : Int32) (x4 : Int32) (x6 : Int32) (x8 : Int32) (x11 : Int32) (σ : fv_S) : Option fv_O :=
  if x8 = 0 then
    fv_ri x4 σ
  else
    fv_bv (zX6_put_30 44 σ) (fun σ1 =>
      if fv_in x3 900 then
        fv_bv (zX6_operand_30 N x8 (fv_ga σ1 8 x3) x11 x6 σ1) (fun σ3 =>
          fv_ri x4 σ3) fv_no
      else none) fv_no
noncomputable def zX6_write_30_171 (N : Nat) (x3 : Int32) (x4 : Int32) (x6 : Int32) (x7 : Int32) (x8 : Int32) (x11 : Int32) (σ : fv_S) : Option fv_O :=
  if fv_in x3 900 then
    fv_bv (zX6_putName_30 N (fv_ga σ 4 x3) σ) (fun σ5 =>
      if x7 = 0 then
        zX6_write_30_214 N x3 x4 x6 x8 x11 σ5
      else
        fv_bv (zX6_put_30 32 σ5) (fun σ6 =>
          if fv_in x3 900 then
            fv_bv (zX6_operand_30 N x7 (fv_ga σ6 6 x3) x11 x6 σ6) (fun σ8 =>
              zX6_write_30_214 N x3 x4 x6 x8 x11 σ8) fv_no
          else none) fv_no) fv_no
  else none
noncomputable def zX6_write_30_158 (N : Nat) (x2 : Int32) (x3 : Int32) (x4 : Int32) (x6 : Int32) (x7 : Int32) (x8 : Int32) (x10 : Int32) (σ : fv_S) : Option fv_O :=
  zX6_write_30_171 N x3 x4 x6 x7 x8 (((x2 + x4) + ((Int32.toInt8 x10).toInt32)) &&& (65535 : Int32)) σ
noncomputable def zX6_write_30_142 (N : Nat) (x2 : Int32) (x3 : Int32) (x4 : Int32) (x6 : Int32) (x7 : Int32) (x8 : Int32) (x10 : Int32) (s0 : Int32) (σ : fv_S) : Option fv_O :=
  if x7 = (6 : Int32) then
    zX6_write_30_158 N x2 x3 x4 x6 x7 x8 x10 σ
  else
    if ¬ x8 = (6 : Int32) then
      zX6_write_30_171 N x3 x4 x6 x7 x8 s0 σ
    else
      zX6_write_30_158 N x2 x3 x4 x6 x7 x8 x10 σ
noncomputable def zX6_write_30 (N : Nat) (x2 : Int32) (σ : fv_S) : Option fv_O :=
  fv_bi (zX2_at x2 (fv_si σ 3841 0)) (fun r10 σ9 =>
    if (0 : Int32) ≤ r10 then
      fv_bi (zX2_size r10 σ9) (fun r12 σ11 =>
        if fv_in r10 900 then
          fv_bi (zX6_octet (x2 + (2 : Int32)) σ11) (fun r15 σ14 =>
            if fv_in r10 900 then
              if fv_in r10 900 then
                fv_bi (zX2_behind (fv_ga σ14 5 r10) σ14) (fun r19 σ18 =>
                  fv_bi (zX2_behind (fv_ga σ14 7 r10) σ18) (fun r21 σ20 =>
                    fv_bi (zX6_octet ((x2 + r12) - (r19 + r21)) σ20) (fun r23 σ22 =>
                      if ¬ (r19 + r21) = (2 : Int32) then
                        zX6_write_30_142 N x2 r10 r12 ((Int32.toInt8 r15).toInt32) (fv_ga σ14 5 r10) (fv_ga σ14 7 r10) r23 r23 σ22
                      else
                        fv_bi (zX6_octet ((x2 + r12) - (1 : Int32)) σ22) (fun r25 σ24 =>
                          zX6_write_30_142 N x2 r10 r12 ((Int32.toInt8 r15).toInt32) (fv_ga σ14 5 r10) (fv_ga σ14 7 r10) r23 (r23 ||| (r25 <<< (8 : Int32))) σ24) fv_no) fv_no) fv_no) fv_no
              else none
            else none) fv_no
        else none) fv_no
    else
      fv_bv (zX6_putText_30 N 99 σ9) (fun σ26 =>
        fv_bi (zX6_octet x2 σ26) (fun r28 σ27 =>
          fv_bv (zX6_putNumber_30 N r28 σ27) (fun σ29 =>
            fv_ri 1 σ29) fv_no) fv_no) fv_no) fv_no
noncomputable def zX0_write (N : Nat) (x1 : Int32) (σ : fv_S) : Option fv_O :=
  fv_bi (zX0_isIn (Int32.toInt64 x1) 0 65535 σ) (fun r2 σ1 =>
    if r2 = 0 then
      fv_ri (-2) σ1
    else
      fv_bi (zX6_write_30 N x1 σ1) (fun r4 σ3 =>
        fv_ri r4 σ3) fv_no) fv_no
noncomputable def zX0_sign (x1 : Int32) (σ : fv_S) : Option fv_O :=
  fv_bi (zX0_isIn (Int32.toInt64 x1) 0 (Int32.toInt64 ((fv_gi σ 3841) - (1 : Int32))) σ) (fun r2 σ1 =>
    if r2 = 0 then
      fv_ri (-1) σ1
    else
      if fv_in x1 64 then
        fv_ri (fv_ga σ1 31 x1) σ1
      else none) fv_no
noncomputable def zX6_put_32 (x1 : Int32) (σ : fv_S) : Option fv_O :=
  if fv_in (fv_gi σ 4097) 64 then
    fv_rv (fv_sa (fv_si σ 4097 ((fv_gi σ 4097) + (1 : Int32))) 33 (fv_gi σ 4097) ((Int32.toInt8 ((Int32.toInt8 x1).toInt32)).toInt32))
  else none
noncomputable def zX6_putText_32_2_b (N : Nat) (k2 : Nat → Int32 → fv_S → Option fv_O) (x1 : Nat) (x2 : Int32) (σ : fv_S) : Option fv_O :=
  if x1 < 102 then
    fv_bi (zJ4_length x1 σ) (fun r2 σ1 =>
    if r2 ≤ x2 then
      fv_rv σ1
    else
      if x1 < 102 then
        fv_bi (zJ4_charAt x1 x2 σ1) (fun r4 σ3 =>
        fv_bv (zX6_put_32 r4 σ3) (fun σ5 =>
          k2 x1 (x2 + (1 : Int32)) σ5) fv_no) fv_no
      else none) fv_no
  else none
noncomputable def zX6_putText_32_2 (N : Nat) : Nat → Nat → Int32 → fv_S → Option fv_O
  | 0, _, _, _ => none
  | n + 1, x1, x2, σ => zX6_putText_32_2_b N (zX6_putText_32_2 N n) x1 x2 σ
noncomputable def zX6_putText_32 (N : Nat) (x1 : Nat) (σ : fv_S) : Option fv_O :=
  zX6_putText_32_2 N N x1 0 σ
noncomputable def zX6_putNumber_32_18_b (N : Nat) (k18 : Int32 → Int32 → fv_S → Option fv_O) (x1 : Int32) (x2 : Int32) (σ : fv_S) : Option fv_O :=
  if x2 ≤ 0 then
    fv_rv σ
  else
    if x2 = 0 then none else
      fv_bv (zX6_put_32 ((48 : Int32) + ((x1 / x2) - (x1 / x2) / (10 : Int32) * (10 : Int32))) σ) (fun σ2 =>
        k18 x1 (x2 / (10 : Int32)) σ2) fv_no
noncomputable def zX6_putNumber_32_18 (N : Nat) : Nat → Int32 → Int32 → fv_S → Option fv_O
  | 0, _, _, _ => none
  | n + 1, x1, x2, σ => zX6_putNumber_32_18_b N (zX6_putNumber_32_18 N n) x1 x2 σ
noncomputable def zX6_putNumber_32_2_b (N : Nat) (k2 : Int32 → Int32 → fv_S → Option fv_O) (x1 : Int32) (x2 : Int32) (σ : fv_S) : Option fv_O :=
  if x2 = 0 then none else
    if (x1 / x2) < (10 : Int32) then
      zX6_putNumber_32_18 N N x1 x2 σ
    else
      k2 x1 (x2 * (10 : Int32)) σ
noncomputable def zX6_putNumber_32_2 (N : Nat) : Nat → Int32 → Int32 → fv_S → Option fv_O
  | 0, _, _, _ => none
  | n + 1, x1, x2, σ => zX6_putNumber_32_2_b N (zX6_putNumber_32_2 N n) x1 x2 σ
noncomputable def zX6_putNumber_32 (N : Nat) (x1 : Int32) (σ : fv_S) : Option fv_O :=
  zX6_putNumber_32_2 N N x1 1 σ
noncomputable def zX0_draftLine_54 (N : Nat) (σ : fv_S) : Option fv_O :=
  if (6050 : Int32) ≤ (fv_gi σ 14) then
    fv_rv σ
  else
    if fv_in (fv_gi σ 14) 6100 then
      fv_rv (fv_sa (fv_si σ 14 ((fv_gi σ 14) + (1 : Int32))) 45 (fv_gi σ 14) ((Int32.toInt8 10).toInt32))
    else none
noncomputable def zX0_draftLine_2_b (N : Nat) (k2 : Int32 → fv_S → Option fv_O) (x1 : Int32) (σ : fv_S) : Option fv_O :=
  if (fv_gi σ 4097) ≤ x1 then
    zX0_draftLine_54 N σ
  else
    if (6050 : Int32) ≤ (fv_gi σ 14) then
      zX0_draftLine_54 N σ
    else
      if fv_in x1 64 then
        if fv_in (fv_gi σ 14) 6100 then
          k2 (x1 + (1 : Int32)) (fv_sa (fv_si σ 14 ((fv_gi σ 14) + (1 : Int32))) 45 (fv_gi σ 14) ((Int32.toInt8 (fv_ga σ 33 x1)).toInt32))
        else none
      else none
noncomputable def zX0_draftLine_2 (N : Nat) : Nat → Int32 → fv_S → Option fv_O
  | 0, _, _ => none
  | n + 1, x1, σ => zX0_draftLine_2_b N (zX0_draftLine_2 N n) x1 σ
noncomputable def zX0_draftLine (N : Nat) (σ : fv_S) : Option fv_O :=
  zX0_draftLine_2 N N 0 σ
noncomputable def zX6_putName_32 (N : Nat) (x1 : Int32) (σ : fv_S) : Option fv_O :=
  if fv_in x1 99 then
    fv_bv (zX6_putText_32 N (Int32.toNatClampNeg x1) σ) (fun σ2 =>
      fv_rv σ2) fv_no
  else none
noncomputable def zX6_putIndex_32_26 (N : Nat) (x2 : Int32) (s1 : Int32) (σ : fv_S) : Option fv_O :=
  fv_bv (zX6_put_32 s1 σ) (fun σ1 =>
    fv_bi (zJ3_abs x2 σ1) (fun r3 σ2 =>
      fv_bv (zX6_putNumber_32 N r3 σ2) (fun σ4 =>
        fv_bv (zX6_put_32 41 σ4) (fun σ5 =>
          fv_rv σ5) fv_no) fv_no) fv_no) fv_no
noncomputable def zX6_putIndex_32 (N : Nat) (x1 : Int32) (x2 : Int32) (σ : fv_S) : Option fv_O :=
  fv_bv (zX6_put_32 40 σ) (fun σ6 =>
    fv_bv (zX6_putName_32 N ((90 : Int32) + x1) σ6) (fun σ7 =>
      if (0 : Int32) ≤ x2 then
        zX6_putIndex_32_26 N x2 43 σ7
      else
        zX6_putIndex_32_26 N x2 45 σ7) fv_no) fv_no
noncomputable def zX6_within_32 (N : Nat) (x1 : Int32) (σ : fv_S) : Option fv_O :=
  fv_bv (zX6_put_32 40 σ) (fun σ1 =>
    fv_bv (zX6_putName_32 N x1 σ1) (fun σ2 =>
      fv_bv (zX6_put_32 41 σ2) (fun σ3 =>
        fv_rv σ3) fv_no) fv_no) fv_no
noncomputable def zX6_operand_32_120 (N : Nat) (x3 : Int32) (σ : fv_S) : Option fv_O :=
  fv_bv (zX6_putNumber_32 N x3 σ) (fun σ1 =>
    fv_rv σ1) fv_no
noncomputable def zX6_operand_32_128 (N : Nat) (x3 : Int32) (σ : fv_S) : Option fv_O :=
  fv_bv (zX6_put_32 40 σ) (fun σ2 =>
    fv_bv (zX6_putNumber_32 N x3 σ2) (fun σ3 =>
      fv_bv (zX6_put_32 41 σ3) (fun σ4 =>
        fv_rv σ4) fv_no) fv_no) fv_no
noncomputable def zX6_operand_32_180 (N : Nat) (x2 : Int32) (σ : fv_S) : Option fv_O :=
  fv_bv (zX6_putNumber_32 N x2 σ) (fun σ5 =>
    fv_rv σ5) fv_no
noncomputable def zX6_operand_32 (N : Nat) (x1 : Int32) (x2 : Int32) (x3 : Int32) (x4 : Int32) (σ : fv_S) : Option fv_O :=
  if x1 = 1 then
    if ¬ x2 = (6 : Int32) then
      fv_bi (zX6_register x2 σ) (fun r7 σ6 =>
        fv_bv (zX6_putName_32 N r7 σ6) (fun σ8 =>
          fv_rv σ8) fv_no) fv_no
    else
      fv_bv (zX6_within_32 N 88 σ) (fun σ9 =>
        fv_rv σ9) fv_no
  else if x1 = 2 then
    fv_bi (zX6_pair x2 σ) (fun r11 σ10 =>
      fv_bv (zX6_putName_32 N r11 σ10) (fun σ12 =>
        fv_rv σ12) fv_no) fv_no
  else if x1 = 3 then
    fv_bi (zX6_condition x2 σ) (fun r14 σ13 =>
      fv_bv (zX6_putName_32 N r14 σ13) (fun σ15 =>
        fv_rv σ15) fv_no) fv_no
  else if x1 = 4 then
    zX6_operand_32_120 N x3 σ
  else if x1 = 5 then
    zX6_operand_32_120 N x3 σ
  else if x1 = 6 then
    zX6_operand_32_120 N x3 σ
  else if x1 = 7 then
    zX6_operand_32_128 N x3 σ
  else if x1 = 8 then
    zX6_operand_32_128 N x3 σ
  else if x1 = 9 then
    fv_bi (zX6_atName x2 σ) (fun r17 σ16 =>
      fv_bv (zX6_within_32 N r17 σ16) (fun σ18 =>
        fv_rv σ18) fv_no) fv_no
  else if x1 = 10 then
    fv_bv (zX6_putIndex_32 N x2 x4 σ) (fun σ19 =>
      fv_rv σ19) fv_no
  else if x1 = 11 then
    zX6_operand_32_180 N x2 σ
  else if x1 = 12 then
    zX6_operand_32_180 N x2 σ
  else if x1 = 13 then
    zX6_operand_32_180 N x2 σ
  else if x1 = 14 then
    fv_bv (zX6_putName_32 N ((82 : Int32) + x2) σ) (fun σ20 =>
      fv_rv σ20) fv_no
  else 
    zX6_operand_32_180 N x2 σ
noncomputable def zX6_write_32_214 (N : Nat) (x3 : Int32) (x4 : Int32) (x6 : Int32) (x8 : Int32) (x11 : Int32) (σ : fv_S) : Option fv_O :=
  if x8 = 0 then
    fv_ri x4 σ
  else
    fv_bv (zX6_put_32 44 σ) (fun σ1 =>
      if fv_in x3 900 then
        fv_bv (zX6_operand_32 N x8 (fv_ga σ1 8 x3) x11 x6 σ1) (fun σ3 =>
          fv_ri x4 σ3) fv_no
      else none) fv_no
noncomputable def zX6_write_32_171 (N : Nat) (x3 : Int32) (x4 : Int32) (x6 : Int32) (x7 : Int32) (x8 : Int32) (x11 : Int32) (σ : fv_S) : Option fv_O :=
  if fv_in x3 900 then
    fv_bv (zX6_putName_32 N (fv_ga σ 4 x3) σ) (fun σ5 =>
      if x7 = 0 then
        zX6_write_32_214 N x3 x4 x6 x8 x11 σ5
      else
        fv_bv (zX6_put_32 32 σ5) (fun σ6 =>
          if fv_in x3 900 then
            fv_bv (zX6_operand_32 N x7 (fv_ga σ6 6 x3) x11 x6 σ6) (fun σ8 =>
              zX6_write_32_214 N x3 x4 x6 x8 x11 σ8) fv_no
          else none) fv_no) fv_no
  else none
noncomputable def zX6_write_32_158 (N : Nat) (x2 : Int32) (x3 : Int32) (x4 : Int32) (x6 : Int32) (x7 : Int32) (x8 : Int32) (x10 : Int32) (σ : fv_S) : Option fv_O :=
  zX6_write_32_171 N x3 x4 x6 x7 x8 (((x2 + x4) + ((Int32.toInt8 x10).toInt32)) &&& (65535 : Int32)) σ
noncomputable def zX6_write_32_142 (N : Nat) (x2 : Int32) (x3 : Int32) (x4 : Int32) (x6 : Int32) (x7 : Int32) (x8 : Int32) (x10 : Int32) (s0 : Int32) (σ : fv_S) : Option fv_O :=
  if x7 = (6 : Int32) then
    zX6_write_32_158 N x2 x3 x4 x6 x7 x8 x10 σ
  else
    if ¬ x8 = (6 : Int32) then
      zX6_write_32_171 N x3 x4 x6 x7 x8 s0 σ
    else
      zX6_write_32_158 N x2 x3 x4 x6 x7 x8 x10 σ
noncomputable def zX6_write_32 (N : Nat) (x2 : Int32) (σ : fv_S) : Option fv_O :=
  fv_bi (zX2_at x2 (fv_si σ 4097 0)) (fun r10 σ9 =>
    if (0 : Int32) ≤ r10 then
      fv_bi (zX2_size r10 σ9) (fun r12 σ11 =>
        if fv_in r10 900 then
          fv_bi (zX6_octet (x2 + (2 : Int32)) σ11) (fun r15 σ14 =>
            if fv_in r10 900 then
              if fv_in r10 900 then
                fv_bi (zX2_behind (fv_ga σ14 5 r10) σ14) (fun r19 σ18 =>
                  fv_bi (zX2_behind (fv_ga σ14 7 r10) σ18) (fun r21 σ20 =>
                    fv_bi (zX6_octet ((x2 + r12) - (r19 + r21)) σ20) (fun r23 σ22 =>
                      if ¬ (r19 + r21) = (2 : Int32) then
                        zX6_write_32_142 N x2 r10 r12 ((Int32.toInt8 r15).toInt32) (fv_ga σ14 5 r10) (fv_ga σ14 7 r10) r23 r23 σ22
                      else
                        fv_bi (zX6_octet ((x2 + r12) - (1 : Int32)) σ22) (fun r25 σ24 =>
                          zX6_write_32_142 N x2 r10 r12 ((Int32.toInt8 r15).toInt32) (fv_ga σ14 5 r10) (fv_ga σ14 7 r10) r23 (r23 ||| (r25 <<< (8 : Int32))) σ24) fv_no) fv_no) fv_no) fv_no
              else none
            else none) fv_no
        else none) fv_no
    else
      fv_bv (zX6_putText_32 N 99 σ9) (fun σ26 =>
        fv_bi (zX6_octet x2 σ26) (fun r28 σ27 =>
          fv_bv (zX6_putNumber_32 N r28 σ27) (fun σ29 =>
            fv_ri 1 σ29) fv_no) fv_no) fv_no) fv_no
noncomputable def zX0_source_66_b (N : Nat) (k66 : Int32 → Int32 → Int32 → fv_S → Option fv_O) (x2 : Int32) (x3 : Int32) (x4 : Int32) (σ : fv_S) : Option fv_O :=
  if x2 ≤ x4 then
    if (fv_gi σ 14) ≤ (6000 : Int32) then
      fv_bv (fv_jcb 45 6100 14 6000 (0 : Int32) (0 : Int32) (fv_gi σ 14) σ) (fun σ1 =>
        fv_ri (fv_gi σ1 14) (fv_si σ1 1665 (fv_gi σ1 14))) fv_no
    else
      fv_ri (-4) σ
  else
    fv_bi (zX6_write_32 N x3 σ) (fun r3 σ2 =>
      fv_bv (zX0_draftLine N σ2) (fun σ4 =>
        k66 x2 ((x3 + r3) &&& (65535 : Int32)) (x4 + (1 : Int32)) σ4) fv_no) fv_no
noncomputable def zX0_source_66 (N : Nat) : Nat → Int32 → Int32 → Int32 → fv_S → Option fv_O
  | 0, _, _, _, _ => none
  | n + 1, x2, x3, x4, σ => zX0_source_66_b N (zX0_source_66 N n) x2 x3 x4 σ
noncomputable def zX0_source (N : Nat) (x1 : Int32) (x2 : Int32) (σ : fv_S) : Option fv_O :=
  fv_bi (zX0_isIn (Int32.toInt64 x1) 0 65535 σ) (fun r6 σ5 =>
    if r6 = 0 then
      fv_ri (-2) σ5
    else
      fv_bi (zX0_isIn (Int32.toInt64 x2) 1 300 σ5) (fun r8 σ7 =>
        if ¬ r8 = 0 then
          fv_bv (zX6_putText_32 N 100 (fv_si (fv_si σ7 14 0) 4097 0)) (fun σ9 =>
            fv_bv (zX6_putNumber_32 N x1 σ9) (fun σ10 =>
              fv_bv (zX0_draftLine N σ10) (fun σ11 =>
                zX0_source_66 N N x2 x1 0 σ11) fv_no) fv_no) fv_no
        else
          fv_ri (-2) σ7) fv_no) fv_no
noncomputable def zX0_sourceAt (x1 : Int32) (σ : fv_S) : Option fv_O :=
  fv_bi (zX0_isIn (Int32.toInt64 x1) 0 (Int32.toInt64 ((fv_gi σ 1665) - (1 : Int32))) σ) (fun r2 σ1 =>
    if r2 = 0 then
      fv_ri (-1) σ1
    else
      if fv_in x1 6000 then
        fv_ri ((fv_ga σ1 14 x1) &&& (255 : Int32)) σ1
      else none) fv_no
noncomputable def zX7_get (x1 : Int32) (σ : fv_S) : Option fv_O :=
  if fv_in (x1 &&& (65535 : Int32)) 65536 then
    fv_ri ((fv_ga σ 35 (x1 &&& (65535 : Int32))) &&& (255 : Int32)) σ
  else none
noncomputable def zX0_octet (x1 : Int32) (σ : fv_S) : Option fv_O :=
  fv_bi (zX0_isIn (Int32.toInt64 x1) 0 65535 σ) (fun r2 σ1 =>
    if r2 = 0 then
      fv_ri (-1) σ1
    else
      fv_bi (zX7_get x1 σ1) (fun r4 σ3 =>
        fv_ri r4 σ3) fv_no) fv_no
noncomputable def zX7_put (x1 : Int32) (x2 : Int32) (σ : fv_S) : Option fv_O :=
  if fv_in (x1 &&& (65535 : Int32)) 65536 then
    fv_rv (fv_sa σ 35 (x1 &&& (65535 : Int32)) ((Int32.toInt8 ((Int32.toInt8 x2).toInt32)).toInt32))
  else none
noncomputable def zX0_put (x1 : Int32) (x2 : Int32) (σ : fv_S) : Option fv_O :=
  fv_bi (zX0_isIn (Int32.toInt64 x1) 0 65535 σ) (fun r2 σ1 =>
    if ¬ r2 = 0 then
      fv_bi (zX0_isIn (Int32.toInt64 x2) 0 255 σ1) (fun r4 σ3 =>
        if ¬ r4 = 0 then
          fv_bi (zX7_get x1 σ3) (fun r6 σ5 =>
            fv_bv (zX7_put x1 x2 σ5) (fun σ7 =>
              fv_ri r6 σ7) fv_no) fv_no
        else
          fv_ri (-2) σ3) fv_no
    else
      fv_ri (-1) σ1) fv_no
noncomputable def zX0_otherPair (x1 : Int32) (σ : fv_S) : Option fv_O :=
  if ¬ x1 = 0 then
    if fv_in (((2 : Int32) * x1) - (2 : Int32)) 9 then
      if fv_in (((2 : Int32) * x1) - (1 : Int32)) 9 then
        fv_ri (((fv_ga σ 37 (((2 : Int32) * x1) - (2 : Int32))) <<< (8 : Int32)) ||| (fv_ga σ 37 (((2 : Int32) * x1) - (1 : Int32)))) σ
      else none
    else none
  else
    fv_ri (((fv_ga σ 37 7) <<< (8 : Int32)) ||| (fv_ga σ 37 8)) σ
noncomputable def zX7_pair_70 (x1 : Int32) (σ : fv_S) : Option fv_O :=
  if fv_in ((2 : Int32) * x1) 9 then
    if fv_in (((2 : Int32) * x1) + (1 : Int32)) 9 then
      fv_ri (((fv_ga σ 36 ((2 : Int32) * x1)) <<< (8 : Int32)) ||| (fv_ga σ 36 (((2 : Int32) * x1) + (1 : Int32)))) σ
    else none
  else none
noncomputable def zX7_pair (x1 : Int32) (σ : fv_S) : Option fv_O :=
  if x1 = 3 then
    fv_ri (fv_gi σ 4357) σ
  else if x1 = 4 then
    fv_ri (((fv_ga σ 36 7) <<< (8 : Int32)) ||| (fv_ga σ 36 8)) σ
  else if x1 = 5 then
    zX7_pair_70 x1 σ
  else if x1 = 6 then
    if fv_in (x1 - (6 : Int32)) 2 then
      fv_ri (fv_ga σ 38 (x1 - (6 : Int32))) σ
    else none
  else if x1 = 7 then
    if fv_in (x1 - (6 : Int32)) 2 then
      fv_ri (fv_ga σ 38 (x1 - (6 : Int32))) σ
    else none
  else 
    zX7_pair_70 x1 σ
noncomputable def zX0_register_93 (x1 : Int32) (σ : fv_S) : Option fv_O :=
  fv_bi (zX7_pair (x1 - (1 : Int32)) σ) (fun r2 σ1 =>
    fv_ri r2 σ1) fv_no
noncomputable def zX0_register_104 (x1 : Int32) (σ : fv_S) : Option fv_O :=
  fv_bi (zX0_otherPair (x1 - (4 : Int32)) σ) (fun r4 σ3 =>
    fv_ri r4 σ3) fv_no
noncomputable def zX0_register_112 (x1 : Int32) (σ : fv_S) : Option fv_O :=
  if fv_in (x1 - (8 : Int32)) 2 then
    fv_ri (fv_ga σ 38 (x1 - (8 : Int32))) σ
  else none
noncomputable def zX0_register (x1 : Int32) (σ : fv_S) : Option fv_O :=
  if x1 = 0 then
    fv_bi (zX7_pair 4 σ) (fun r7 σ6 =>
      fv_ri r7 σ6) fv_no
  else if x1 = 1 then
    zX0_register_93 x1 σ
  else if x1 = 2 then
    zX0_register_93 x1 σ
  else if x1 = 3 then
    zX0_register_93 x1 σ
  else if x1 = 4 then
    zX0_register_104 x1 σ
  else if x1 = 5 then
    zX0_register_104 x1 σ
  else if x1 = 6 then
    zX0_register_104 x1 σ
  else if x1 = 7 then
    zX0_register_104 x1 σ
  else if x1 = 8 then
    zX0_register_112 x1 σ
  else if x1 = 9 then
    zX0_register_112 x1 σ
  else if x1 = 10 then
    fv_ri (fv_gi σ 4357) σ
  else if x1 = 11 then
    fv_ri (fv_gi σ 4358) σ
  else if x1 = 12 then
    fv_ri (fv_gi σ 4359) σ
  else if x1 = 13 then
    fv_ri (fv_gi σ 4360) σ
  else if x1 = 14 then
    fv_ri (fv_gi σ 4361) σ
  else if x1 = 15 then
    fv_ri (fv_gi σ 4362) σ
  else if x1 = 16 then
    fv_ri (fv_gi σ 4363) σ
  else 
    fv_ri (-1) σ
noncomputable def zX0_setOtherPair_47 (x2 : Int32) (s1 : Int32) (σ : fv_S) : Option fv_O :=
  if fv_in s1 9 then
    fv_rv (fv_sa σ 37 s1 (x2 &&& (255 : Int32)))
  else none
noncomputable def zX0_setOtherPair_21 (x1 : Int32) (x2 : Int32) (s1 : Int32) (σ : fv_S) : Option fv_O :=
  if fv_in s1 9 then
    if ¬ x1 = 0 then
      zX0_setOtherPair_47 x2 (((2 : Int32) * x1) - (1 : Int32)) (fv_sa σ 37 s1 (x2 >>> (8 : Int32)))
    else
      zX0_setOtherPair_47 x2 8 (fv_sa σ 37 s1 (x2 >>> (8 : Int32)))
  else none
noncomputable def zX0_setOtherPair (x1 : Int32) (x2 : Int32) (σ : fv_S) : Option fv_O :=
  if ¬ x1 = 0 then
    zX0_setOtherPair_21 x1 x2 (((2 : Int32) * x1) - (2 : Int32)) σ
  else
    zX0_setOtherPair_21 x1 x2 7 σ
noncomputable def zX7_setPair_77 (x3 : Int32) (s1 : Int32) (σ : fv_S) : Option fv_O :=
  if fv_in s1 9 then
    fv_rv (fv_sa σ 36 s1 (x3 &&& (255 : Int32)))
  else none
noncomputable def zX7_setPair_53 (x1 : Int32) (x3 : Int32) (s1 : Int32) (σ : fv_S) : Option fv_O :=
  if fv_in s1 9 then
    if ¬ x1 = (4 : Int32) then
      zX7_setPair_77 x3 (((2 : Int32) * x1) + (1 : Int32)) (fv_sa σ 36 s1 (x3 >>> (8 : Int32)))
    else
      zX7_setPair_77 x3 8 (fv_sa σ 36 s1 (x3 >>> (8 : Int32)))
  else none
noncomputable def zX7_setPair (x1 : Int32) (x2 : Int32) (σ : fv_S) : Option fv_O :=
  if ¬ x1 = (3 : Int32) then
    if x1 ≤ (5 : Int32) then
      if ¬ x1 = (4 : Int32) then
        zX7_setPair_53 x1 (x2 &&& (65535 : Int32)) ((2 : Int32) * x1) σ
      else
        zX7_setPair_53 x1 (x2 &&& (65535 : Int32)) 7 σ
    else
      if fv_in (x1 - (6 : Int32)) 2 then
        fv_rv (fv_sa σ 38 (x1 - (6 : Int32)) (x2 &&& (65535 : Int32)))
      else none
  else
    fv_rv (fv_si σ 4357 (x2 &&& (65535 : Int32)))
noncomputable def zX0_setRegister_92 (x1 : Int32) (x2 : Int32) (σ : fv_S) : Option fv_O :=
  fv_bv (zX7_setPair (x1 - (1 : Int32)) x2 σ) (fun σ1 =>
    fv_rv σ1) fv_no
noncomputable def zX0_setRegister_106 (x1 : Int32) (x2 : Int32) (σ : fv_S) : Option fv_O :=
  fv_bv (zX0_setOtherPair (x1 - (4 : Int32)) x2 σ) (fun σ2 =>
    fv_rv σ2) fv_no
noncomputable def zX0_setRegister_117 (x1 : Int32) (x2 : Int32) (σ : fv_S) : Option fv_O :=
  if fv_in (x1 - (8 : Int32)) 2 then
    fv_rv (fv_sa σ 38 (x1 - (8 : Int32)) x2)
  else none
noncomputable def zX0_setRegister (x1 : Int32) (x2 : Int32) (σ : fv_S) : Option fv_O :=
  if x1 = 0 then
    fv_bv (zX7_setPair 4 x2 σ) (fun σ4 =>
      fv_rv σ4) fv_no
  else if x1 = 1 then
    zX0_setRegister_92 x1 x2 σ
  else if x1 = 2 then
    zX0_setRegister_92 x1 x2 σ
  else if x1 = 3 then
    zX0_setRegister_92 x1 x2 σ
  else if x1 = 4 then
    zX0_setRegister_106 x1 x2 σ
  else if x1 = 5 then
    zX0_setRegister_106 x1 x2 σ
  else if x1 = 6 then
    zX0_setRegister_106 x1 x2 σ
  else if x1 = 7 then
    zX0_setRegister_106 x1 x2 σ
  else if x1 = 8 then
    zX0_setRegister_117 x1 x2 σ
  else if x1 = 9 then
    zX0_setRegister_117 x1 x2 σ
  else if x1 = 10 then
    fv_rv (fv_si σ 4357 x2)
  else if x1 = 11 then
    fv_rv (fv_si σ 4358 x2)
  else if x1 = 12 then
    fv_rv (fv_si σ 4359 x2)
  else if x1 = 13 then
    fv_rv (fv_si σ 4360 x2)
  else if x1 = 14 then
    fv_rv (fv_si σ 4361 x2)
  else if x1 = 15 then
    fv_rv (fv_si σ 4362 x2)
  else 
    fv_rv (fv_si σ 4363 x2)
noncomputable def zX0_set_54 (x1 : Int32) (x2 : Int32) (s0 : Int64) (s1 : Int64) (s2 : Int64) (σ : fv_S) : Option fv_O :=
  fv_bi (zX0_isIn s0 s1 s2 σ) (fun r2 σ1 =>
    if ¬ r2 = 0 then
      fv_bi (zX0_register x1 σ1) (fun r4 σ3 =>
        fv_bv (zX0_setRegister x1 x2 σ3) (fun σ5 =>
          fv_ri r4 σ5) fv_no) fv_no
    else
      fv_ri (-2) σ1) fv_no
noncomputable def zX0_set (x1 : Int32) (x2 : Int32) (σ : fv_S) : Option fv_O :=
  fv_bi (zX0_isIn (Int32.toInt64 x1) 0 16 σ) (fun r7 σ6 =>
    if ¬ r7 = 0 then
      if (12 : Int32) ≤ x1 then
        if (14 : Int32) ≤ x1 then
          if (16 : Int32) ≤ x1 then
            zX0_set_54 x1 x2 (Int32.toInt64 x2) 0 2 σ6
          else
            zX0_set_54 x1 x2 (Int32.toInt64 x2) 0 1 σ6
        else
          zX0_set_54 x1 x2 (Int32.toInt64 x2) 0 255 σ6
      else
        zX0_set_54 x1 x2 (Int32.toInt64 x2) 0 65535 σ6
    else
      fv_ri (-1) σ6) fv_no
noncomputable def zX0_port (x1 : Int32) (x2 : Int32) (σ : fv_S) : Option fv_O :=
  fv_bi (zX0_isIn (Int32.toInt64 x1) 0 255 σ) (fun r2 σ1 =>
    if ¬ r2 = 0 then
      fv_bi (zX0_isIn (Int32.toInt64 x2) 0 255 σ1) (fun r4 σ3 =>
        if ¬ r4 = 0 then
          if fv_in x1 256 then
            if fv_in x1 256 then
              fv_ri (fv_ga σ3 39 x1) (fv_sa σ3 39 x1 x2)
            else none
          else none
        else
          fv_ri (-2) σ3) fv_no
    else
      fv_ri (-1) σ1) fv_no
noncomputable def zX0_out (x1 : Int32) (σ : fv_S) : Option fv_O :=
  fv_bi (zX0_isIn (Int32.toInt64 x1) 0 255 σ) (fun r2 σ1 =>
    if r2 = 0 then
      fv_ri (-1) σ1
    else
      if fv_in x1 256 then
        fv_ri (fv_ga σ1 40 x1) σ1
      else none) fv_no
noncomputable def zX0_request_78 (x3 : Int32) (σ : fv_S) : Option fv_O :=
  if x3 = 0 then
    fv_ri 1 σ
  else
    fv_ri 0 σ
noncomputable def zX0_request_46 (x1 : Int32) (x2 : Int32) (s0 : Int32) (σ : fv_S) : Option fv_O :=
  if ¬ x1 = 0 then
    zX0_request_78 s0 (fv_si σ 4369 1)
  else
    zX0_request_78 s0 (fv_si (fv_si σ 4367 1) 4368 x2)
noncomputable def zX0_request (x1 : Int32) (x2 : Int32) (σ : fv_S) : Option fv_O :=
  fv_bi (zX0_isIn (Int32.toInt64 x1) 0 1 σ) (fun r2 σ1 =>
    if r2 = 0 then
      fv_ri (-2) σ1
    else
      fv_bi (zX0_isIn (Int32.toInt64 x2) 0 255 σ1) (fun r4 σ3 =>
        if ¬ r4 = 0 then
          if ¬ x1 = 0 then
            zX0_request_46 x1 x2 (fv_gi σ3 4369) σ3
          else
            zX0_request_46 x1 x2 (fv_gi σ3 4367) σ3
        else
          fv_ri (-2) σ3) fv_no) fv_no
noncomputable def zX7_refreshBy (x1 : Int32) (σ : fv_S) : Option fv_O :=
  fv_rv (fv_si σ 4360 (((fv_gi σ 4360) &&& (128 : Int32)) ||| (((fv_gi σ 4360) + x1) &&& (127 : Int32))))
noncomputable def zX7_put16 (x1 : Int32) (x2 : Int32) (σ : fv_S) : Option fv_O :=
  fv_bv (zX7_put x1 x2 σ) (fun σ1 =>
    fv_bv (zX7_put (x1 + (1 : Int32)) (x2 >>> (8 : Int32)) σ1) (fun σ2 =>
      fv_rv σ2) fv_no) fv_no
noncomputable def zX7_push (x1 : Int32) (σ : fv_S) : Option fv_O :=
  fv_bv (zX7_put16 (((fv_gi σ 4357) - (2 : Int32)) &&& (65535 : Int32)) x1 (fv_si σ 4357 (((fv_gi σ 4357) - (2 : Int32)) &&& (65535 : Int32)))) (fun σ1 =>
    fv_rv σ1) fv_no
noncomputable def zX7_get16 (x1 : Int32) (σ : fv_S) : Option fv_O :=
  fv_bi (zX7_get x1 σ) (fun r2 σ1 =>
    fv_bi (zX7_get (x1 + (1 : Int32)) σ1) (fun r4 σ3 =>
      fv_ri (r2 ||| (r4 <<< (8 : Int32))) σ3) fv_no) fv_no
noncomputable def zX7_hasTaken_163 (s1 : Int32) (σ : fv_S) : Option fv_O :=
  fv_ri 1 (fv_si σ 4358 s1)
noncomputable def zX7_hasTaken_67 (σ : fv_S) : Option fv_O :=
  fv_bv (zX7_refreshBy 1 σ) (fun σ1 =>
    fv_bv (zX7_push (fv_gi σ1 4358) σ1) (fun σ2 =>
      if (fv_gi σ2 4369) = 0 then
        if ¬ (fv_gi σ2 4363) = 0 then
          if ¬ (fv_gi σ2 4363) = (1 : Int32) then
            fv_bi (zX7_get16 (((256 : Int32) * (fv_gi σ2 4359)) + (fv_gi σ2 4368)) (fv_si (fv_si (fv_si σ2 4361 0) 4362 0) 4367 0)) (fun r4 σ3 =>
              zX7_hasTaken_163 r4 σ3) fv_no
          else
            zX7_hasTaken_163 56 (fv_si (fv_si (fv_si σ2 4361 0) 4362 0) 4367 0)
        else
          zX7_hasTaken_163 ((fv_gi σ2 4368) &&& (56 : Int32)) (fv_si (fv_si (fv_si σ2 4361 0) 4362 0) 4367 0)
      else
        fv_ri 1 (fv_si (fv_si (fv_si σ2 4361 0) 4369 0) 4358 102)) fv_no) fv_no
noncomputable def zX7_hasTaken_41 (σ : fv_S) : Option fv_O :=
  fv_bi (zX7_get (fv_gi σ 4358) σ) (fun r6 σ5 =>
    if ¬ r6 = (118 : Int32) then
      zX7_hasTaken_67 σ5
    else
      zX7_hasTaken_67 (fv_si σ5 4358 (((fv_gi σ5 4358) + (1 : Int32)) &&& (65535 : Int32)))) fv_no
noncomputable def zX7_hasTaken_27 (s0 : Int32) (σ : fv_S) : Option fv_O :=
  if ¬ (fv_gi σ 4369) = 0 then
    zX7_hasTaken_41 σ
  else
    if ¬ s0 = 0 then
      zX7_hasTaken_41 σ
    else
      fv_ri 0 σ
noncomputable def zX7_hasTaken_26 (σ : fv_S) : Option fv_O :=
  zX7_hasTaken_27 0 σ
noncomputable def zX7_hasTaken (σ : fv_S) : Option fv_O :=
  if (fv_gi σ 4367) = 0 then
    zX7_hasTaken_26 σ
  else
    if ¬ (fv_gi σ 4361) = (1 : Int32) then
      zX7_hasTaken_26 σ
    else
      if ¬ (fv_gi σ 4370) = 0 then
        zX7_hasTaken_26 σ
      else
        zX7_hasTaken_27 1 σ
noncomputable def zX7_hl (σ : fv_S) : Option fv_O :=
  fv_ri (((fv_ga σ 36 4) <<< (8 : Int32)) ||| (fv_ga σ 36 5)) σ
noncomputable def zX7_named (x1 : Int32) (x2 : Int32) (σ : fv_S) : Option fv_O :=
  if ¬ x1 = (2 : Int32) then
    fv_ri x1 σ
  else
    fv_ri x2 σ
noncomputable def zX7_moved_94 (x4 : Int32) (x5 : Int32) (x6 : Int32) (s0 : Int32) (σ : fv_S) : Option fv_O :=
  if x4 = 0 then
    fv_ri ((x6 ||| (s0 <<< (7 : Int32))) &&& (255 : Int32)) (fv_sa σ 36 8 (((fv_ga σ 36 8) &&& ((-2) : Int32)) ||| x5))
  else
    fv_ri ((x6 ||| s0) &&& (255 : Int32)) (fv_sa σ 36 8 (((fv_ga σ 36 8) &&& ((-2) : Int32)) ||| x5))
noncomputable def zX7_moved_60 (x1 : Int32) (x2 : Int32) (x3 : Int32) (x4 : Int32) (x5 : Int32) (s0 : Int32) (σ : fv_S) : Option fv_O :=
  if (2 : Int32) ≤ x1 then
    if (4 : Int32) ≤ x1 then
      if ¬ x1 = (5 : Int32) then
        zX7_moved_94 x4 x5 s0 0 σ
      else
        zX7_moved_94 x4 x5 s0 (x2 >>> (7 : Int32)) σ
    else
      zX7_moved_94 x4 x5 s0 x3 σ
  else
    zX7_moved_94 x4 x5 s0 x5 σ
noncomputable def zX7_moved_44 (x1 : Int32) (x2 : Int32) (x3 : Int32) (x4 : Int32) (s0 : Int32) (σ : fv_S) : Option fv_O :=
  if x4 = 0 then
    zX7_moved_60 x1 x2 x3 x4 s0 (x2 >>> (1 : Int32)) σ
  else
    zX7_moved_60 x1 x2 x3 x4 s0 (x2 <<< (1 : Int32)) σ
noncomputable def zX7_moved_27 (x1 : Int32) (x2 : Int32) (x3 : Int32) (s0 : Int32) (σ : fv_S) : Option fv_O :=
  if s0 = 0 then
    zX7_moved_44 x1 x2 x3 s0 (x2 &&& (1 : Int32)) σ
  else
    zX7_moved_44 x1 x2 x3 s0 (x2 >>> (7 : Int32)) σ
noncomputable def zX7_moved_26 (x1 : Int32) (x2 : Int32) (x3 : Int32) (σ : fv_S) : Option fv_O :=
  zX7_moved_27 x1 x2 x3 0 σ
noncomputable def zX7_moved (x1 : Int32) (x2 : Int32) (σ : fv_S) : Option fv_O :=
  if ¬ (x1 &&& (1 : Int32)) = 0 then
    zX7_moved_26 x1 x2 ((fv_ga σ 36 8) &&& (1 : Int32)) σ
  else
    if (6 : Int32) ≤ x1 then
      zX7_moved_26 x1 x2 ((fv_ga σ 36 8) &&& (1 : Int32)) σ
    else
      zX7_moved_27 x1 x2 ((fv_ga σ 36 8) &&& (1 : Int32)) 1 σ
noncomputable def zX7_accumulator (x1 : Int32) (σ : fv_S) : Option fv_O :=
  fv_bi (zX7_moved x1 (fv_ga σ 36 7) σ) (fun r2 σ1 =>
    fv_rv (fv_sa (fv_sa σ1 36 7 r2) 36 8 (((fv_ga σ1 36 8) &&& (197 : Int32)) ||| (r2 &&& (40 : Int32))))) fv_no
noncomputable def zX7_is (x1 : Int32) (σ : fv_S) : Option fv_O :=
  if ((fv_ga σ 36 8) &&& x1) = 0 then
    fv_ri 0 σ
  else
    fv_ri 1 σ
noncomputable def zX7_shown (x0 : Int32) (σ : fv_S) : Option fv_O :=
  if ¬ (x0 &&& (255 : Int32)) = 0 then
    fv_ri ((x0 &&& (168 : Int32)) ||| (0 : Int32)) σ
  else
    fv_ri ((x0 &&& (168 : Int32)) ||| (64 : Int32)) σ
noncomputable def zX7_parity (x0 : Int32) (σ : fv_S) : Option fv_O :=
  if ¬ ((((x0 ^^^ (x0 >>> (4 : Int32))) ^^^ ((x0 ^^^ (x0 >>> (4 : Int32))) >>> (2 : Int32))) ^^^ (((x0 ^^^ (x0 >>> (4 : Int32))) ^^^ ((x0 ^^^ (x0 >>> (4 : Int32))) >>> (2 : Int32))) >>> (1 : Int32))) &&& (1 : Int32)) = 0 then
    fv_ri 0 σ
  else
    fv_ri 4 σ
noncomputable def zX7_adjust_201 (s1 : Int32) (s2 : Int32) (s3 : Int32) (σ : fv_S) : Option fv_O :=
  if fv_in s1 9 then
    fv_rv (fv_sa σ 36 s1 (s2 ||| s3))
  else none
noncomputable def zX7_adjust_191 (x3 : Int32) (s1 : Int32) (s2 : Int32) (s3 : Int32) (σ : fv_S) : Option fv_O :=
  if x3 = 0 then
    zX7_adjust_201 s1 (s2 ||| s3) 0 σ
  else
    zX7_adjust_201 s1 (s2 ||| s3) 1 σ
noncomputable def zX7_adjust_138 (x3 : Int32) (x5 : Int32) (s1 : Int32) (s2 : Int32) (σ : fv_S) : Option fv_O :=
  if fv_in s1 9 then
    fv_bi (zX7_shown (fv_ga (fv_sa σ 36 s1 (s2 &&& (255 : Int32))) 36 7) (fv_sa σ 36 s1 (s2 &&& (255 : Int32)))) (fun r4 σ3 =>
      fv_bi (zX7_parity (fv_ga σ3 36 7) σ3) (fun r6 σ5 =>
        if x5 = 0 then
          zX7_adjust_191 x3 8 ((r4 ||| r6) ||| ((fv_ga σ5 36 8) &&& (2 : Int32))) 0 σ5
        else
          zX7_adjust_191 x3 8 ((r4 ||| r6) ||| ((fv_ga σ5 36 8) &&& (2 : Int32))) 16 σ5) fv_no) fv_no
  else none
noncomputable def zX7_adjust_111 (x1 : Int32) (x3 : Int32) (x4 : Int32) (s0 : Int32) (σ : fv_S) : Option fv_O :=
  fv_bi (zX7_is 2 σ) (fun r8 σ7 =>
    if r8 = 0 then
      zX7_adjust_138 x3 s0 7 (x1 + x4) σ7
    else
      zX7_adjust_138 x3 s0 7 (x1 - x4) σ7) fv_no
noncomputable def zX7_adjust_106 (x1 : Int32) (x3 : Int32) (x4 : Int32) (σ : fv_S) : Option fv_O :=
  zX7_adjust_111 x1 x3 x4 0 σ
noncomputable def zX7_adjust_73 (x1 : Int32) (x2 : Int32) (x3 : Int32) (s0 : Int32) (s1 : Int32) (σ : fv_S) : Option fv_O :=
  fv_bi (zX7_is 2 σ) (fun r10 σ9 =>
    if r10 = 0 then
      zX7_adjust_111 x1 x3 (s0 + s1) x2 σ9
    else
      fv_bi (zX7_is 16 σ9) (fun r12 σ11 =>
        if r12 = 0 then
          zX7_adjust_106 x1 x3 (s0 + s1) σ11
        else
          if (6 : Int32) ≤ (x1 &&& (15 : Int32)) then
            zX7_adjust_106 x1 x3 (s0 + s1) σ11
          else
            zX7_adjust_111 x1 x3 (s0 + s1) 1 σ11) fv_no) fv_no
noncomputable def zX7_adjust_63 (x1 : Int32) (x2 : Int32) (x3 : Int32) (s0 : Int32) (σ : fv_S) : Option fv_O :=
  if x3 = 0 then
    zX7_adjust_73 x1 x2 x3 s0 0 σ
  else
    zX7_adjust_73 x1 x2 x3 s0 96 σ
noncomputable def zX7_adjust_57 (x1 : Int32) (x2 : Int32) (x3 : Int32) (σ : fv_S) : Option fv_O :=
  zX7_adjust_63 x1 x2 x3 6 σ
noncomputable def zX7_adjust_43 (x1 : Int32) (x2 : Int32) (s0 : Int32) (σ : fv_S) : Option fv_O :=
  fv_bi (zX7_is 16 σ) (fun r14 σ13 =>
    if ¬ r14 = 0 then
      zX7_adjust_57 x1 x2 s0 σ13
    else
      if x2 = 0 then
        zX7_adjust_63 x1 x2 s0 0 σ13
      else
        zX7_adjust_57 x1 x2 s0 σ13) fv_no
noncomputable def zX7_adjust_38 (x1 : Int32) (x2 : Int32) (σ : fv_S) : Option fv_O :=
  zX7_adjust_43 x1 x2 1 σ
noncomputable def zX7_adjust_22 (x1 : Int32) (s0 : Int32) (σ : fv_S) : Option fv_O :=
  fv_bi (zX7_is 1 σ) (fun r16 σ15 =>
    if ¬ r16 = 0 then
      zX7_adjust_38 x1 s0 σ15
    else
      if x1 ≤ (153 : Int32) then
        zX7_adjust_43 x1 s0 0 σ15
      else
        zX7_adjust_38 x1 s0 σ15) fv_no
noncomputable def zX7_adjust (σ : fv_S) : Option fv_O :=
  if ((fv_ga σ 36 7) &&& (15 : Int32)) ≤ (9 : Int32) then
    zX7_adjust_22 (fv_ga σ 36 7) 0 σ
  else
    zX7_adjust_22 (fv_ga σ 36 7) 1 σ
noncomputable def zX7_single_156 (x2 : Int32) (s1 : Int32) (s2 : Int32) (s3 : Int32) (σ : fv_S) : Option fv_O :=
  if fv_in s1 9 then
    fv_rv (fv_sa σ 36 s1 ((s2 ||| s3) ||| ((fv_ga σ 36 7) &&& x2)))
  else none
noncomputable def zX7_single (x1 : Int32) (σ : fv_S) : Option fv_O :=
  if x1 = 4 then
    fv_bv (zX7_adjust σ) (fun σ2 =>
      fv_rv σ2) fv_no
  else if x1 = 5 then
    fv_rv (fv_sa (fv_sa σ 36 7 ((fv_ga σ 36 7) ^^^ (255 : Int32))) 36 8 (((((fv_ga σ 36 8) &&& (197 : Int32)) ||| (16 : Int32)) ||| (2 : Int32)) ||| (((fv_ga σ 36 7) ^^^ (255 : Int32)) &&& (40 : Int32))))
  else if x1 = 6 then
    fv_rv (fv_sa σ 36 8 ((((fv_ga σ 36 8) &&& (196 : Int32)) ||| (1 : Int32)) ||| ((fv_ga σ 36 7) &&& (40 : Int32))))
  else if x1 = 7 then
    fv_bi (zX7_is 1 σ) (fun r4 σ3 =>
      if r4 = 0 then
        zX7_single_156 40 8 ((fv_ga σ 36 8) &&& (196 : Int32)) 1 σ3
      else
        zX7_single_156 40 8 ((fv_ga σ 36 8) &&& (196 : Int32)) 16 σ3) fv_no
  else 
    fv_bv (zX7_accumulator x1 σ) (fun σ5 =>
      fv_rv σ5) fv_no
noncomputable def zX7_setOctet (x1 : Int32) (x2 : Int32) (x3 : Int32) (σ : fv_S) : Option fv_O :=
  if ¬ x1 = (6 : Int32) then
    if fv_in x1 9 then
      fv_rv (fv_sa σ 36 x1 (x3 &&& (255 : Int32)))
    else none
  else
    fv_bv (zX7_put x2 x3 σ) (fun σ2 =>
      fv_rv σ2) fv_no
noncomputable def zX7_octet (x1 : Int32) (x2 : Int32) (σ : fv_S) : Option fv_O :=
  if ¬ x1 = (6 : Int32) then
    if fv_in x1 9 then
      fv_ri (fv_ga σ 36 x1) σ
    else none
  else
    fv_bi (zX7_get x2 σ) (fun r3 σ2 =>
      fv_ri r3 σ2) fv_no
noncomputable def zX7_added (x1 : Int32) (x2 : Int32) (x3 : Int32) (σ : fv_S) : Option fv_O :=
  fv_bi (zX7_shown (((x1 + x2) + x3) &&& (255 : Int32)) σ) (fun r2 σ1 =>
    fv_ri (((x1 + x2) + x3) &&& (255 : Int32)) (fv_sa σ1 36 8 (((r2 ||| (((x1 ^^^ x2) ^^^ ((x1 + x2) + x3)) &&& (16 : Int32))) ||| ((((x1 ^^^ (x2 ^^^ ((-1) : Int32))) &&& (x1 ^^^ ((x1 + x2) + x3))) &&& (128 : Int32)) >>> (5 : Int32))) ||| ((((x1 + x2) + x3) >>> (8 : Int32)) &&& (1 : Int32))))) fv_no
noncomputable def zX7_taken (x1 : Int32) (x2 : Int32) (x3 : Int32) (σ : fv_S) : Option fv_O :=
  fv_bi (zX7_shown (((x1 - x2) - x3) &&& (255 : Int32)) σ) (fun r2 σ1 =>
    fv_ri (((x1 - x2) - x3) &&& (255 : Int32)) (fv_sa σ1 36 8 ((((r2 ||| (((x1 ^^^ x2) ^^^ ((x1 - x2) - x3)) &&& (16 : Int32))) ||| ((((x1 ^^^ x2) &&& (x1 ^^^ ((x1 - x2) - x3))) &&& (128 : Int32)) >>> (5 : Int32))) ||| (2 : Int32)) ||| ((((x1 - x2) - x3) >>> (8 : Int32)) &&& (1 : Int32))))) fv_no
noncomputable def zX7_stepped_31 (x3 : Int32) (s0 : Int32) (σ : fv_S) : Option fv_O :=
  fv_ri s0 (fv_sa σ 36 8 (((fv_ga σ 36 8) &&& ((-2) : Int32)) ||| x3))
noncomputable def zX7_stepped (x1 : Int32) (x2 : Int32) (σ : fv_S) : Option fv_O :=
  if x2 = 0 then
    fv_bi (zX7_taken x1 1 0 σ) (fun r2 σ1 =>
      zX7_stepped_31 ((fv_ga σ 36 8) &&& (1 : Int32)) r2 σ1) fv_no
  else
    fv_bi (zX7_added x1 1 0 σ) (fun r4 σ3 =>
      zX7_stepped_31 ((fv_ga σ 36 8) &&& (1 : Int32)) r4 σ3) fv_no
noncomputable def zX7_loads_49 (x1 : Int32) (x2 : Int32) (x5 : Int32) (σ : fv_S) : Option fv_O :=
  if x1 = 4 then
    fv_bi (zX7_pair x2 σ) (fun r2 σ1 =>
      fv_bv (zX7_put16 x5 r2 σ1) (fun σ3 =>
        fv_rv σ3) fv_no) fv_no
  else if x1 = 5 then
    fv_bi (zX7_get16 x5 σ) (fun r5 σ4 =>
      fv_bv (zX7_setPair x2 r5 σ4) (fun σ6 =>
        fv_rv σ6) fv_no) fv_no
  else 
    if ¬ (x1 &&& (1 : Int32)) = 0 then
      fv_bi (zX7_get x5 σ) (fun r8 σ7 =>
        fv_rv (fv_sa σ7 36 7 r8)) fv_no
    else
      fv_bv (zX7_put x5 (fv_ga σ 36 7) σ) (fun σ9 =>
        fv_rv σ9) fv_no
noncomputable def zX7_loads_32 (x1 : Int32) (x2 : Int32) (x3 : Int32) (x4 : Int32) (s0 : Int32) (σ : fv_S) : Option fv_O :=
  if x4 = 0 then
    zX7_loads_49 x1 x2 s0 σ
  else
    zX7_loads_49 x1 x2 s0 (fv_si σ 4358 ((x3 + (2 : Int32)) &&& (65535 : Int32)))
noncomputable def zX7_loads_10 (x1 : Int32) (x2 : Int32) (x3 : Int32) (s0 : Int32) (σ : fv_S) : Option fv_O :=
  if s0 = 0 then
    fv_bi (zX7_pair (x1 >>> (1 : Int32)) σ) (fun r11 σ10 =>
      zX7_loads_32 x1 x2 x3 s0 r11 σ10) fv_no
  else
    fv_bi (zX7_get16 x3 σ) (fun r13 σ12 =>
      zX7_loads_32 x1 x2 x3 s0 r13 σ12) fv_no
noncomputable def zX7_loads (x1 : Int32) (x2 : Int32) (x3 : Int32) (σ : fv_S) : Option fv_O :=
  if x1 ≤ (3 : Int32) then
    zX7_loads_10 x1 x2 x3 0 σ
  else
    zX7_loads_10 x1 x2 x3 1 σ
noncomputable def zX7_sum16 (x1 : Int32) (x2 : Int32) (σ : fv_S) : Option fv_O :=
  fv_ri ((x1 + x2) &&& (65535 : Int32)) (fv_sa σ 36 8 (((((fv_ga σ 36 8) &&& (196 : Int32)) ||| ((((x1 ^^^ x2) ^^^ (x1 + x2)) >>> (8 : Int32)) &&& (16 : Int32))) ||| (((x1 + x2) >>> (8 : Int32)) &&& (40 : Int32))) ||| (((x1 + x2) >>> (16 : Int32)) &&& (1 : Int32))))
noncomputable def zX7_swap_2_b (N : Nat) (k2 : Int32 → Int32 → fv_S → Option fv_O) (x2 : Int32) (x3 : Int32) (σ : fv_S) : Option fv_O :=
  if x2 < x3 then
    fv_rv σ
  else
    if fv_in x3 9 then
      if fv_in x3 9 then
        if fv_in x3 9 then
          if fv_in x3 9 then
            k2 x2 (x3 + (1 : Int32)) (fv_sa (fv_sa σ 36 x3 (fv_ga σ 37 x3)) 37 x3 (fv_ga σ 36 x3))
          else none
        else none
      else none
    else none
noncomputable def zX7_swap_2 (N : Nat) : Nat → Int32 → Int32 → fv_S → Option fv_O
  | 0, _, _, _ => none
  | n + 1, x2, x3, σ => zX7_swap_2_b N (zX7_swap_2 N n) x2 x3 σ
noncomputable def zX7_swap (N : Nat) (x1 : Int32) (x2 : Int32) (σ : fv_S) : Option fv_O :=
  zX7_swap_2 N N x2 x1 σ
noncomputable def zX7_jumpBy (x1 : Int32) (x2 : Int32) (σ : fv_S) : Option fv_O :=
  if x1 = 0 then
    fv_rv (fv_si σ 4358 ((x2 + (2 : Int32)) &&& (65535 : Int32)))
  else
    fv_bi (zX7_get (x2 + (1 : Int32)) (fv_si σ 4358 ((x2 + (2 : Int32)) &&& (65535 : Int32)))) (fun r2 σ1 =>
      fv_rv (fv_si σ1 4358 ((((x2 + (2 : Int32)) &&& (65535 : Int32)) + ((Int32.toInt8 r2).toInt32)) &&& (65535 : Int32)))) fv_no
noncomputable def zX7_holds_50 (s0 : Int32) (s1 : Int32) (σ : fv_S) : Option fv_O :=
  if ¬ s0 = s1 then
    fv_ri 0 σ
  else
    fv_ri 1 σ
noncomputable def zX7_holds_32 (x1 : Int32) (s0 : Int32) (σ : fv_S) : Option fv_O :=
  fv_bi (zX7_is s0 σ) (fun r2 σ1 =>
    if ¬ (x1 &&& (1 : Int32)) = (1 : Int32) then
      zX7_holds_50 r2 0 σ1
    else
      zX7_holds_50 r2 1 σ1) fv_no
noncomputable def zX7_holds (x1 : Int32) (σ : fv_S) : Option fv_O :=
  if (2 : Int32) ≤ x1 then
    if (4 : Int32) ≤ x1 then
      if (6 : Int32) ≤ x1 then
        zX7_holds_32 x1 128 σ
      else
        zX7_holds_32 x1 4 σ
    else
      zX7_holds_32 x1 1 σ
  else
    zX7_holds_32 x1 64 σ
noncomputable def zX7_relative_59 (N : Nat) (x2 : Int32) (s1 : Int32) (σ : fv_S) : Option fv_O :=
  fv_bv (zX7_jumpBy s1 x2 σ) (fun σ1 =>
    fv_rv σ1) fv_no
noncomputable def zX7_relative_87 (N : Nat) (x2 : Int32) (s1 : Int32) (σ : fv_S) : Option fv_O :=
  fv_bv (zX7_jumpBy s1 x2 σ) (fun σ2 =>
    fv_rv σ2) fv_no
noncomputable def zX7_relative_82 (N : Nat) (x2 : Int32) (σ : fv_S) : Option fv_O :=
  zX7_relative_87 N x2 1 σ
noncomputable def zX7_relative (N : Nat) (x1 : Int32) (x2 : Int32) (σ : fv_S) : Option fv_O :=
  if ¬ x1 = 0 then
    if ¬ x1 = (1 : Int32) then
      if ¬ x1 = (2 : Int32) then
        if x1 = (3 : Int32) then
          zX7_relative_82 N x2 σ
        else
          fv_bi (zX7_holds (x1 - (4 : Int32)) σ) (fun r4 σ3 =>
            if r4 = 0 then
              zX7_relative_87 N x2 0 σ3
            else
              zX7_relative_82 N x2 σ3) fv_no
      else
        if (((fv_ga σ 36 0) - (1 : Int32)) &&& (255 : Int32)) = 0 then
          zX7_relative_59 N x2 0 (fv_sa σ 36 0 (((fv_ga σ 36 0) - (1 : Int32)) &&& (255 : Int32)))
        else
          zX7_relative_59 N x2 1 (fv_sa σ 36 0 (((fv_ga σ 36 0) - (1 : Int32)) &&& (255 : Int32)))
    else
      fv_bv (zX7_swap N 7 8 σ) (fun σ5 =>
        fv_rv σ5) fv_no
  else
    fv_rv σ
noncomputable def zX7_low_136 (N : Nat) (s1 : Int32) (σ : fv_S) : Option fv_O :=
  fv_rv (fv_si σ 4358 s1)
noncomputable def zX7_low_118 (N : Nat) (x6 : Int32) (x8 : Int32) (σ : fv_S) : Option fv_O :=
  if x8 = 0 then
    zX7_low_136 N ((x6 + (2 : Int32)) &&& (65535 : Int32)) σ
  else
    zX7_low_136 N x6 σ
noncomputable def zX7_low_172 (N : Nat) (s1 : Int32) (s2 : Int32) (s3 : Int32) (σ : fv_S) : Option fv_O :=
  fv_bv (zX7_setPair s1 (s2 + s3) σ) (fun σ1 =>
    fv_rv σ1) fv_no
noncomputable def zX7_low_201 (N : Nat) (s1 : Int32) (s2 : Int32) (s4 : Int32) (s5 : Int32) (σ : fv_S) : Option fv_O :=
  fv_bi (zX7_stepped s4 s5 σ) (fun r3 σ2 =>
    fv_bv (zX7_setOctet s1 s2 r3 σ2) (fun σ4 =>
      fv_rv σ4) fv_no) fv_no
noncomputable def zX7_low_179 (N : Nat) (x1 : Int32) (x2 : Int32) (x4 : Int32) (σ : fv_S) : Option fv_O :=
  fv_bi (zX7_octet x1 x4 σ) (fun r6 σ5 =>
    if ¬ x2 = (4 : Int32) then
      zX7_low_201 N x1 x4 r6 0 σ5
    else
      zX7_low_201 N x1 x4 r6 1 σ5) fv_no
noncomputable def zX7_low_22 (N : Nat) (x1 : Int32) (x2 : Int32) (x3 : Int32) (x4 : Int32) (x5 : Int32) (x6 : Int32) (x7 : Int32) (s0 : Int32) (σ : fv_S) : Option fv_O :=
  if x2 = 0 then
    fv_bv (zX7_relative N x1 x5 σ) (fun σ7 =>
      fv_rv σ7) fv_no
  else if x2 = 1 then
    if s0 = 0 then
      fv_bi (zX7_get16 x6 σ) (fun r9 σ8 =>
        fv_bv (zX7_setPair x7 r9 σ8) (fun σ10 =>
          zX7_low_118 N x6 s0 σ10) fv_no) fv_no
    else
      fv_bi (zX7_pair x3 σ) (fun r12 σ11 =>
        fv_bi (zX7_pair x7 σ11) (fun r14 σ13 =>
          fv_bi (zX7_sum16 r12 r14 σ13) (fun r16 σ15 =>
            fv_bv (zX7_setPair x3 r16 σ15) (fun σ17 =>
              zX7_low_118 N x6 s0 σ17) fv_no) fv_no) fv_no) fv_no
  else if x2 = 2 then
    fv_bv (zX7_loads x1 x3 x6 σ) (fun σ18 =>
      fv_rv σ18) fv_no
  else if x2 = 3 then
    fv_bi (zX7_pair x7 σ) (fun r20 σ19 =>
      if s0 = 0 then
        zX7_low_172 N x7 r20 1 σ19
      else
        zX7_low_172 N x7 r20 (-1) σ19) fv_no
  else if x2 = 4 then
    zX7_low_179 N x1 x2 x4 σ
  else if x2 = 5 then
    zX7_low_179 N x1 x2 x4 σ
  else if x2 = 6 then
    fv_bi (zX7_get x6 σ) (fun r22 σ21 =>
      fv_bv (zX7_setOctet x1 x4 r22 σ21) (fun σ23 =>
        fv_rv (fv_si σ23 4358 ((x6 + (1 : Int32)) &&& (65535 : Int32)))) fv_no) fv_no
  else 
    fv_bv (zX7_single x1 σ) (fun σ24 =>
      fv_rv σ24) fv_no
noncomputable def zX7_low (N : Nat) (x1 : Int32) (x2 : Int32) (x3 : Int32) (x4 : Int32) (x5 : Int32) (x6 : Int32) (σ : fv_S) : Option fv_O :=
  fv_bi (zX7_named (x1 >>> (1 : Int32)) x3 σ) (fun r26 σ25 =>
    if ¬ (x1 &&& (1 : Int32)) = (1 : Int32) then
      zX7_low_22 N x1 x2 x3 x4 x5 x6 r26 0 σ25
    else
      zX7_low_22 N x1 x2 x3 x4 x5 x6 r26 1 σ25) fv_no
noncomputable def zX7_logic (x1 : Int32) (x2 : Int32) (σ : fv_S) : Option fv_O :=
  fv_bi (zX7_shown x1 (fv_sa σ 36 7 x1)) (fun r2 σ1 =>
    fv_bi (zX7_parity x1 σ1) (fun r4 σ3 =>
      fv_rv (fv_sa σ3 36 8 ((r2 ||| x2) ||| r4))) fv_no) fv_no
noncomputable def zX7_arithmetic (x1 : Int32) (x2 : Int32) (σ : fv_S) : Option fv_O :=
  if x1 = 0 then
    fv_bi (zX7_added (fv_ga σ 36 7) x2 0 σ) (fun r2 σ1 =>
      fv_rv (fv_sa σ1 36 7 r2)) fv_no
  else if x1 = 1 then
    fv_bi (zX7_added (fv_ga σ 36 7) x2 ((fv_ga σ 36 8) &&& (1 : Int32)) σ) (fun r4 σ3 =>
      fv_rv (fv_sa σ3 36 7 r4)) fv_no
  else if x1 = 2 then
    fv_bi (zX7_taken (fv_ga σ 36 7) x2 0 σ) (fun r6 σ5 =>
      fv_rv (fv_sa σ5 36 7 r6)) fv_no
  else if x1 = 3 then
    fv_bi (zX7_taken (fv_ga σ 36 7) x2 ((fv_ga σ 36 8) &&& (1 : Int32)) σ) (fun r8 σ7 =>
      fv_rv (fv_sa σ7 36 7 r8)) fv_no
  else if x1 = 4 then
    fv_bv (zX7_logic ((fv_ga σ 36 7) &&& x2) 16 σ) (fun σ9 =>
      fv_rv σ9) fv_no
  else if x1 = 5 then
    fv_bv (zX7_logic ((fv_ga σ 36 7) ^^^ x2) 0 σ) (fun σ10 =>
      fv_rv σ10) fv_no
  else if x1 = 6 then
    fv_bv (zX7_logic ((fv_ga σ 36 7) ||| x2) 0 σ) (fun σ11 =>
      fv_rv σ11) fv_no
  else 
    fv_bi (zX7_taken (fv_ga σ 36 7) x2 0 σ) (fun r13 σ12 =>
      fv_rv (fv_sa σ12 36 8 (((fv_ga σ12 36 8) &&& ((-41) : Int32)) ||| (x2 &&& (40 : Int32))))) fv_no
noncomputable def zX7_call (x1 : Int32) (x2 : Int32) (σ : fv_S) : Option fv_O :=
  if ¬ x1 = 0 then
    fv_bi (zX7_get16 x2 (fv_si σ 4358 ((x2 + (2 : Int32)) &&& (65535 : Int32)))) (fun r2 σ1 =>
      fv_bv (zX7_push (fv_gi σ1 4358) σ1) (fun σ3 =>
        fv_rv (fv_si σ3 4358 r2)) fv_no) fv_no
  else
    fv_rv (fv_si σ 4358 ((x2 + (2 : Int32)) &&& (65535 : Int32)))
noncomputable def zX7_in (x1 : Int32) (σ : fv_S) : Option fv_O :=
  if fv_in (x1 &&& (255 : Int32)) 256 then
    fv_ri (fv_ga σ 39 (x1 &&& (255 : Int32))) σ
  else none
noncomputable def zX7_out (x1 : Int32) (x2 : Int32) (σ : fv_S) : Option fv_O :=
  if fv_in (x1 &&& (255 : Int32)) 256 then
    fv_rv (fv_sl (fv_sa σ 40 (x1 &&& (255 : Int32)) (x2 &&& (255 : Int32))) 4366 ((fv_gl σ 4366) + (1 : Int64)))
  else none
noncomputable def zX7_others_205 (s1 : Int32) (σ : fv_S) : Option fv_O :=
  if s1 = 0 ∨ s1 = 1 then
    fv_rv (fv_si σ 4370 s1)
  else none
noncomputable def zX7_others_182 (x1 : Int32) (s1 : Int32) (σ : fv_S) : Option fv_O :=
  if ¬ x1 = (7 : Int32) then
    zX7_others_205 0 (fv_si (fv_si σ 4361 s1) 4362 s1)
  else
    zX7_others_205 1 (fv_si (fv_si σ 4361 s1) 4362 s1)
noncomputable def zX7_others_170 (x1 : Int32) (σ : fv_S) : Option fv_O :=
  if ¬ x1 = (7 : Int32) then
    zX7_others_182 x1 0 σ
  else
    zX7_others_182 x1 1 σ
noncomputable def zX7_others (x1 : Int32) (x2 : Int32) (x3 : Int32) (σ : fv_S) : Option fv_O :=
  if x1 = 0 then
    fv_bi (zX7_get16 x3 σ) (fun r3 σ2 =>
      fv_rv (fv_si σ2 4358 r3)) fv_no
  else if x1 = 1 then
    zX7_others_170 x1 σ
  else if x1 = 2 then
    fv_bi (zX7_get x3 (fv_si σ 4358 ((x3 + (1 : Int32)) &&& (65535 : Int32)))) (fun r5 σ4 =>
      fv_bv (zX7_out r5 (fv_ga σ4 36 7) σ4) (fun σ6 =>
        fv_rv σ6) fv_no) fv_no
  else if x1 = 3 then
    fv_bi (zX7_get x3 (fv_si σ 4358 ((x3 + (1 : Int32)) &&& (65535 : Int32)))) (fun r8 σ7 =>
      fv_bi (zX7_in r8 σ7) (fun r10 σ9 =>
        fv_rv (fv_sa σ9 36 7 r10)) fv_no) fv_no
  else if x1 = 4 then
    fv_bi (zX7_get16 (fv_gi σ 4357) σ) (fun r12 σ11 =>
      fv_bi (zX7_pair x2 σ11) (fun r14 σ13 =>
        fv_bv (zX7_put16 (fv_gi σ11 4357) r14 σ13) (fun σ15 =>
          fv_bv (zX7_setPair x2 r12 σ15) (fun σ16 =>
            fv_rv σ16) fv_no) fv_no) fv_no) fv_no
  else if x1 = 5 then
    fv_bi (zX7_pair 1 σ) (fun r18 σ17 =>
      fv_bi (zX7_pair 2 σ17) (fun r20 σ19 =>
        fv_bv (zX7_setPair 1 r20 σ19) (fun σ21 =>
          fv_bv (zX7_setPair 2 r18 σ21) (fun σ22 =>
            fv_rv σ22) fv_no) fv_no) fv_no) fv_no
  else 
    zX7_others_170 x1 σ
noncomputable def zX7_pop (σ : fv_S) : Option fv_O :=
  fv_bi (zX7_get16 (fv_gi σ 4357) σ) (fun r2 σ1 =>
    fv_ri r2 (fv_si σ1 4357 (((fv_gi σ1 4357) + (2 : Int32)) &&& (65535 : Int32)))) fv_no
noncomputable def zX7_high_201 (N : Nat) (s1 : Int32) (σ : fv_S) : Option fv_O :=
  fv_rv (fv_si σ 4358 s1)
noncomputable def zX7_high_33 (N : Nat) (x1 : Int32) (x2 : Int32) (x3 : Int32) (x4 : Int32) (x5 : Int32) (s0 : Int32) (σ : fv_S) : Option fv_O :=
  if x2 = 0 then
    fv_bi (zX7_holds x1 σ) (fun r2 σ1 =>
      if r2 = 0 then
        fv_rv σ1
      else
        fv_bi (zX7_pop σ1) (fun r4 σ3 =>
          fv_rv (fv_si σ3 4358 r4)) fv_no) fv_no
  else if x2 = 1 then
    if ¬ s0 = 0 then
      if ¬ x1 = (1 : Int32) then
        if ¬ x1 = (3 : Int32) then
          if ¬ x1 = (5 : Int32) then
            fv_bi (zX7_pair x3 σ) (fun r6 σ5 =>
              fv_rv (fv_si σ5 4357 r6)) fv_no
          else
            fv_bi (zX7_pair x3 σ) (fun r8 σ7 =>
              fv_rv (fv_si σ7 4358 r8)) fv_no
        else
          fv_bv (zX7_swap N 0 5 σ) (fun σ9 =>
            fv_rv σ9) fv_no
      else
        fv_bi (zX7_pop σ) (fun r11 σ10 =>
          fv_rv (fv_si σ10 4358 r11)) fv_no
    else
      fv_bi (zX7_pop σ) (fun r13 σ12 =>
        fv_bv (zX7_setPair x5 r13 σ12) (fun σ14 =>
          fv_rv σ14) fv_no) fv_no
  else if x2 = 2 then
    fv_bi (zX7_holds x1 σ) (fun r16 σ15 =>
      if r16 = 0 then
        zX7_high_201 N ((x4 + (2 : Int32)) &&& (65535 : Int32)) σ15
      else
        fv_bi (zX7_get16 x4 σ15) (fun r18 σ17 =>
          zX7_high_201 N r18 σ17) fv_no) fv_no
  else if x2 = 3 then
    fv_bv (zX7_others x1 x3 x4 σ) (fun σ19 =>
      fv_rv σ19) fv_no
  else if x2 = 4 then
    fv_bi (zX7_holds x1 σ) (fun r21 σ20 =>
      fv_bv (zX7_call r21 x4 σ20) (fun σ22 =>
        fv_rv σ22) fv_no) fv_no
  else if x2 = 5 then
    if s0 = 0 then
      fv_bi (zX7_pair x5 σ) (fun r24 σ23 =>
        fv_bv (zX7_push r24 σ23) (fun σ25 =>
          fv_rv σ25) fv_no) fv_no
    else
      fv_bv (zX7_call 1 x4 σ) (fun σ26 =>
        fv_rv σ26) fv_no
  else if x2 = 6 then
    fv_bi (zX7_get x4 (fv_si σ 4358 ((x4 + (1 : Int32)) &&& (65535 : Int32)))) (fun r28 σ27 =>
      fv_bv (zX7_arithmetic x1 r28 σ27) (fun σ29 =>
        fv_rv σ29) fv_no) fv_no
  else 
    fv_bv (zX7_push (fv_gi σ 4358) σ) (fun σ30 =>
      fv_rv (fv_si σ30 4358 ((8 : Int32) * x1))) fv_no
noncomputable def zX7_high_19 (N : Nat) (x1 : Int32) (x2 : Int32) (x3 : Int32) (x4 : Int32) (s0 : Int32) (σ : fv_S) : Option fv_O :=
  if ¬ (x1 &&& (1 : Int32)) = (1 : Int32) then
    zX7_high_33 N x1 x2 x3 x4 s0 0 σ
  else
    zX7_high_33 N x1 x2 x3 x4 s0 1 σ
noncomputable def zX7_high (N : Nat) (x1 : Int32) (x2 : Int32) (x3 : Int32) (x4 : Int32) (σ : fv_S) : Option fv_O :=
  if ¬ (x1 >>> (1 : Int32)) = (3 : Int32) then
    fv_bi (zX7_named (x1 >>> (1 : Int32)) x3 σ) (fun r32 σ31 =>
      zX7_high_19 N x1 x2 x3 x4 r32 σ31) fv_no
  else
    zX7_high_19 N x1 x2 x3 x4 4 σ
noncomputable def zX7_plain (N : Nat) (x1 : Int32) (x2 : Int32) (x3 : Int32) (x4 : Int32) (x5 : Int32) (σ : fv_S) : Option fv_O :=
  if ¬ x1 = (118 : Int32) then
    if ¬ (x1 >>> (6 : Int32)) = 0 then
      if ¬ (x1 >>> (6 : Int32)) = (1 : Int32) then
        if ¬ (x1 >>> (6 : Int32)) = (2 : Int32) then
          fv_bv (zX7_high N ((x1 >>> (3 : Int32)) &&& (7 : Int32)) (x1 &&& (7 : Int32)) x2 x5 (fv_si σ 4358 x5)) (fun σ1 =>
            fv_ri 1 σ1) fv_no
        else
          fv_bi (zX7_octet (x1 &&& (7 : Int32)) x3 (fv_si σ 4358 x5)) (fun r3 σ2 =>
            fv_bv (zX7_arithmetic ((x1 >>> (3 : Int32)) &&& (7 : Int32)) r3 σ2) (fun σ4 =>
              fv_ri 1 σ4) fv_no) fv_no
      else
        fv_bi (zX7_octet (x1 &&& (7 : Int32)) x3 (fv_si σ 4358 x5)) (fun r6 σ5 =>
          fv_bv (zX7_setOctet ((x1 >>> (3 : Int32)) &&& (7 : Int32)) x3 r6 σ5) (fun σ7 =>
            fv_ri 1 σ7) fv_no) fv_no
    else
      fv_bv (zX7_low N ((x1 >>> (3 : Int32)) &&& (7 : Int32)) (x1 &&& (7 : Int32)) x2 x3 x4 x5 (fv_si σ 4358 x5)) (fun σ8 =>
        fv_ri 1 σ8) fv_no
  else
    fv_ri 3 (fv_si (fv_si σ 4358 x5) 4358 x4)
noncomputable def zX7_rotated (x1 : Int32) (x2 : Int32) (σ : fv_S) : Option fv_O :=
  fv_bi (zX7_moved x1 x2 σ) (fun r2 σ1 =>
    fv_bi (zX7_shown r2 σ1) (fun r4 σ3 =>
      fv_bi (zX7_parity r2 σ3) (fun r6 σ5 =>
        fv_ri r2 (fv_sa σ5 36 8 ((r4 ||| r6) ||| ((fv_ga σ5 36 8) &&& (1 : Int32))))) fv_no) fv_no) fv_no
noncomputable def zX7_bits_109 (x6 : Int32) (s1 : Int32) (s2 : Int32) (s3 : Int32) (σ : fv_S) : Option fv_O :=
  if fv_in s1 9 then
    fv_rv (fv_sa σ 36 s1 ((((s2 ||| s3) ||| (16 : Int32)) ||| (x6 &&& (40 : Int32))) ||| ((fv_ga σ 36 8) &&& (1 : Int32))))
  else none
noncomputable def zX7_bits_108 (x6 : Int32) (s1 : Int32) (s2 : Int32) (σ : fv_S) : Option fv_O :=
  zX7_bits_109 x6 s1 s2 0 σ
noncomputable def zX7_bits_90 (x4 : Int32) (x6 : Int32) (x7 : Int32) (s1 : Int32) (s2 : Int32) (σ : fv_S) : Option fv_O :=
  if x7 = 0 then
    zX7_bits_108 x6 s1 s2 σ
  else
    if ¬ x4 = (7 : Int32) then
      zX7_bits_108 x6 s1 s2 σ
    else
      zX7_bits_109 x6 s1 s2 128 σ
noncomputable def zX7_bits_71 (x4 : Int32) (x6 : Int32) (s0 : Int32) (σ : fv_S) : Option fv_O :=
  if s0 = 0 then
    zX7_bits_90 x4 x6 s0 8 68 σ
  else
    zX7_bits_90 x4 x6 s0 8 0 σ
noncomputable def zX7_bits_161 (s1 : Int32) (s2 : Int32) (s3 : Int32) (σ : fv_S) : Option fv_O :=
  fv_bv (zX7_setOctet s1 s2 s3 σ) (fun σ2 =>
    fv_rv σ2) fv_no
noncomputable def zX7_bits (x1 : Int32) (x2 : Int32) (σ : fv_S) : Option fv_O :=
  fv_bi (zX7_octet (x1 &&& (7 : Int32)) x2 σ) (fun r4 σ3 =>
    if ¬ (x1 >>> (6 : Int32)) = 0 then
      if ¬ (x1 >>> (6 : Int32)) = (1 : Int32) then
        if ¬ (x1 >>> (6 : Int32)) = (2 : Int32) then
          zX7_bits_161 (x1 &&& (7 : Int32)) x2 (r4 ||| ((1 : Int32) <<< (((x1 >>> (3 : Int32)) &&& (7 : Int32)) &&& (31 : Int32)))) σ3
        else
          zX7_bits_161 (x1 &&& (7 : Int32)) x2 (r4 &&& (((1 : Int32) <<< (((x1 >>> (3 : Int32)) &&& (7 : Int32)) &&& (31 : Int32))) ^^^ ((-1) : Int32))) σ3
      else
        if ¬ ((r4 >>> (((x1 >>> (3 : Int32)) &&& (7 : Int32)) &&& (31 : Int32))) &&& (1 : Int32)) = (1 : Int32) then
          zX7_bits_71 ((x1 >>> (3 : Int32)) &&& (7 : Int32)) r4 0 σ3
        else
          zX7_bits_71 ((x1 >>> (3 : Int32)) &&& (7 : Int32)) r4 1 σ3
    else
      fv_bi (zX7_rotated ((x1 >>> (3 : Int32)) &&& (7 : Int32)) r4 σ3) (fun r6 σ5 =>
        fv_bv (zX7_setOctet (x1 &&& (7 : Int32)) x2 r6 σ5) (fun σ7 =>
          fv_rv σ7) fv_no) fv_no) fv_no
noncomputable def zX7_copy_94 (x3 : Int32) (s1 : Int32) (s2 : Int32) (s3 : Int32) (σ : fv_S) : Option fv_O :=
  if fv_in s1 9 then
    fv_rv (fv_sa σ 36 s1 (((s2 ||| s3) ||| (x3 &&& (8 : Int32))) ||| ((x3 &&& (2 : Int32)) <<< (4 : Int32))))
  else none
noncomputable def zX7_copy (x1 : Int32) (σ : fv_S) : Option fv_O :=
  fv_bi (zX7_hl σ) (fun r3 σ2 =>
    fv_bi (zX7_get r3 σ2) (fun r5 σ4 =>
      fv_bi (zX7_pair 1 σ4) (fun r7 σ6 =>
        fv_bv (zX7_put r7 r5 σ6) (fun σ8 =>
          fv_bi (zX7_hl σ8) (fun r10 σ9 =>
            fv_bv (zX7_setPair 2 (r10 + x1) σ9) (fun σ11 =>
              fv_bi (zX7_pair 1 σ11) (fun r13 σ12 =>
                fv_bv (zX7_setPair 1 (r13 + x1) σ12) (fun σ14 =>
                  fv_bi (zX7_pair 0 σ14) (fun r16 σ15 =>
                    fv_bv (zX7_setPair 0 (r16 - (1 : Int32)) σ15) (fun σ17 =>
                      fv_bi (zX7_pair 0 σ17) (fun r19 σ18 =>
                        if r19 = 0 then
                          zX7_copy_94 (r5 + (fv_ga σ17 36 7)) 8 ((fv_ga σ17 36 8) &&& (193 : Int32)) 0 σ18
                        else
                          zX7_copy_94 (r5 + (fv_ga σ17 36 7)) 8 ((fv_ga σ17 36 8) &&& (193 : Int32)) 4 σ18) fv_no) fv_no) fv_no) fv_no) fv_no) fv_no) fv_no) fv_no) fv_no) fv_no) fv_no
noncomputable def zX7_search_108 (x2 : Int32) (x5 : Int32) (s1 : Int32) (s2 : Int32) (s3 : Int32) (σ : fv_S) : Option fv_O :=
  if fv_in s1 9 then
    fv_rv (fv_sa σ 36 s1 ((((s2 ||| s3) ||| (x5 &&& (8 : Int32))) ||| ((x5 &&& (2 : Int32)) <<< (4 : Int32))) ||| x2))
  else none
noncomputable def zX7_search_73 (x2 : Int32) (s0 : Int32) (s1 : Int32) (σ : fv_S) : Option fv_O :=
  fv_bi (zX7_pair 0 σ) (fun r3 σ2 =>
    if r3 = 0 then
      zX7_search_108 x2 (s0 - s1) 8 (((fv_ga σ 36 8) &&& (208 : Int32)) ||| (2 : Int32)) 0 σ2
    else
      zX7_search_108 x2 (s0 - s1) 8 (((fv_ga σ 36 8) &&& (208 : Int32)) ||| (2 : Int32)) 4 σ2) fv_no
noncomputable def zX7_search (x1 : Int32) (σ : fv_S) : Option fv_O :=
  fv_bi (zX7_hl σ) (fun r5 σ4 =>
    fv_bi (zX7_get r5 σ4) (fun r7 σ6 =>
      fv_bi (zX7_taken (fv_ga σ6 36 7) r7 0 σ6) (fun r9 σ8 =>
        fv_bi (zX7_hl σ8) (fun r11 σ10 =>
          fv_bv (zX7_setPair 2 (r11 + x1) σ10) (fun σ12 =>
            fv_bi (zX7_pair 0 σ12) (fun r14 σ13 =>
              fv_bv (zX7_setPair 0 (r14 - (1 : Int32)) σ13) (fun σ15 =>
                fv_bi (zX7_is 16 σ15) (fun r17 σ16 =>
                  if r17 = 0 then
                    zX7_search_73 ((fv_ga σ 36 8) &&& (1 : Int32)) r9 0 σ16
                  else
                    zX7_search_73 ((fv_ga σ 36 8) &&& (1 : Int32)) r9 1 σ16) fv_no) fv_no) fv_no) fv_no) fv_no) fv_no) fv_no) fv_no
noncomputable def zX7_counted_35 (x2 : Int32) (s1 : Int32) (s2 : Int32) (s3 : Int32) (σ : fv_S) : Option fv_O :=
  fv_bi (zX7_parity ((x2 &&& (7 : Int32)) ^^^ (fv_ga σ 36 0)) σ) (fun r2 σ1 =>
    if fv_in s1 9 then
      fv_rv (fv_sa σ1 36 s1 ((s2 ||| s3) ||| r2))
    else none) fv_no
noncomputable def zX7_counted (x1 : Int32) (x2 : Int32) (σ : fv_S) : Option fv_O :=
  fv_bi (zX7_shown (fv_ga σ 36 0) σ) (fun r5 σ4 =>
    if x2 ≤ (255 : Int32) then
      zX7_counted_35 x2 8 (r5 ||| ((x1 >>> (7 : Int32)) <<< (1 : Int32))) 0 σ4
    else
      zX7_counted_35 x2 8 (r5 ||| ((x1 >>> (7 : Int32)) <<< (1 : Int32))) 17 σ4) fv_no
noncomputable def zX7_inBlock (x1 : Int32) (σ : fv_S) : Option fv_O :=
  fv_bi (zX7_in (fv_ga σ 36 1) σ) (fun r2 σ1 =>
    fv_bi (zX7_hl σ1) (fun r4 σ3 =>
      fv_bv (zX7_put r4 r2 σ3) (fun σ5 =>
        fv_bi (zX7_hl σ5) (fun r7 σ6 =>
          fv_bv (zX7_setPair 2 (r7 + x1) σ6) (fun σ8 =>
            fv_bv (zX7_counted r2 (r2 + (((fv_ga σ8 36 1) + x1) &&& (255 : Int32))) (fv_sa σ8 36 0 (((fv_ga σ8 36 0) - (1 : Int32)) &&& (255 : Int32)))) (fun σ9 =>
              fv_rv σ9) fv_no) fv_no) fv_no) fv_no) fv_no) fv_no
noncomputable def zX7_outBlock (x1 : Int32) (σ : fv_S) : Option fv_O :=
  fv_bi (zX7_hl σ) (fun r2 σ1 =>
    fv_bi (zX7_get r2 σ1) (fun r4 σ3 =>
      fv_bv (zX7_out (fv_ga σ3 36 1) r4 (fv_sa σ3 36 0 (((fv_ga σ3 36 0) - (1 : Int32)) &&& (255 : Int32)))) (fun σ5 =>
        fv_bi (zX7_hl σ5) (fun r7 σ6 =>
          fv_bv (zX7_setPair 2 (r7 + x1) σ6) (fun σ8 =>
            fv_bv (zX7_counted r4 (r4 + (fv_ga σ8 36 5)) σ8) (fun σ9 =>
              fv_rv σ9) fv_no) fv_no) fv_no) fv_no) fv_no) fv_no
noncomputable def zX7_block_107 (x1 : Int32) (x3 : Int32) (x5 : Int32) (σ : fv_S) : Option fv_O :=
  if x1 ≤ (5 : Int32) then
    fv_rv σ
  else
    if x5 = 0 then
      fv_rv σ
    else
      fv_rv (fv_si σ 4358 x3)
noncomputable def zX7_block_66 (x1 : Int32) (x3 : Int32) (s0 : Int32) (σ : fv_S) : Option fv_O :=
  zX7_block_107 x1 x3 s0 σ
noncomputable def zX7_block_65 (x1 : Int32) (x3 : Int32) (σ : fv_S) : Option fv_O :=
  zX7_block_66 x1 x3 0 σ
noncomputable def zX7_block_105 (x1 : Int32) (x3 : Int32) (s0 : Int32) (σ : fv_S) : Option fv_O :=
  zX7_block_107 x1 x3 s0 σ
noncomputable def zX7_block_91 (x1 : Int32) (x3 : Int32) (σ : fv_S) : Option fv_O :=
  if (fv_ga σ 36 0) = 0 then
    zX7_block_105 x1 x3 0 σ
  else
    zX7_block_105 x1 x3 1 σ
noncomputable def zX7_block_11 (x1 : Int32) (x2 : Int32) (x3 : Int32) (s0 : Int32) (σ : fv_S) : Option fv_O :=
  if ¬ x2 = 0 then
    if ¬ x2 = (1 : Int32) then
      if ¬ x2 = (2 : Int32) then
        fv_bv (zX7_outBlock s0 σ) (fun σ1 =>
          zX7_block_91 x1 x3 σ1) fv_no
      else
        fv_bv (zX7_inBlock s0 σ) (fun σ2 =>
          zX7_block_91 x1 x3 σ2) fv_no
    else
      fv_bv (zX7_search s0 σ) (fun σ3 =>
        fv_bi (zX7_is 4 σ3) (fun r5 σ4 =>
          if r5 = 0 then
            zX7_block_65 x1 x3 σ4
          else
            fv_bi (zX7_is 64 σ4) (fun r7 σ6 =>
              if ¬ r7 = 0 then
                zX7_block_65 x1 x3 σ6
              else
                zX7_block_66 x1 x3 1 σ6) fv_no) fv_no) fv_no
  else
    fv_bv (zX7_copy s0 σ) (fun σ8 =>
      fv_bi (zX7_is 4 σ8) (fun r10 σ9 =>
        zX7_block_107 x1 x3 r10 σ9) fv_no) fv_no
noncomputable def zX7_block (x1 : Int32) (x2 : Int32) (x3 : Int32) (σ : fv_S) : Option fv_O :=
  if ¬ (x1 &&& (1 : Int32)) = 0 then
    zX7_block_11 x1 x2 x3 (-1) σ
  else
    zX7_block_11 x1 x2 x3 1 σ
noncomputable def zX7_digit (x1 : Int32) (σ : fv_S) : Option fv_O :=
  fv_bi (zX7_shown (((fv_ga σ 36 7) &&& (240 : Int32)) ||| x1) (fv_sa σ 36 7 (((fv_ga σ 36 7) &&& (240 : Int32)) ||| x1))) (fun r2 σ1 =>
    fv_bi (zX7_parity (fv_ga σ1 36 7) σ1) (fun r4 σ3 =>
      fv_rv (fv_sa σ3 36 8 ((r2 ||| r4) ||| ((fv_ga σ3 36 8) &&& (1 : Int32))))) fv_no) fv_no
noncomputable def zX7_special_124 (s1 : Int32) (s2 : Int32) (s3 : Int32) (σ : fv_S) : Option fv_O :=
  if fv_in s1 9 then
    fv_rv (fv_sa σ 36 s1 ((s2 ||| s3) ||| ((fv_ga σ 36 8) &&& (1 : Int32))))
  else none
noncomputable def zX7_special_94 (s1 : Int32) (s2 : Int32) (σ : fv_S) : Option fv_O :=
  if fv_in s1 9 then
    fv_bi (zX7_shown (fv_ga (fv_sa σ 36 s1 s2) 36 7) (fv_sa σ 36 s1 s2)) (fun r4 σ3 =>
      if ¬ (fv_gi σ3 4362) = (1 : Int32) then
        zX7_special_124 8 r4 0 σ3
      else
        zX7_special_124 8 r4 4 σ3) fv_no
  else none
noncomputable def zX7_special_72 (x1 : Int32) (σ : fv_S) : Option fv_O :=
  if ¬ x1 = (2 : Int32) then
    zX7_special_94 7 (fv_gi σ 4360) σ
  else
    zX7_special_94 7 (fv_gi σ 4359) σ
noncomputable def zX7_special (x1 : Int32) (σ : fv_S) : Option fv_O :=
  fv_bi (zX7_hl σ) (fun r6 σ5 =>
    fv_bi (zX7_get r6 σ5) (fun r8 σ7 =>
      if x1 = 0 then
        fv_rv (fv_si σ7 4359 (fv_ga σ7 36 7))
      else if x1 = 1 then
        fv_rv (fv_si σ7 4360 (fv_ga σ7 36 7))
      else if x1 = 2 then
        zX7_special_72 x1 σ7
      else if x1 = 3 then
        zX7_special_72 x1 σ7
      else if x1 = 4 then
        fv_bi (zX7_hl σ7) (fun r10 σ9 =>
          fv_bv (zX7_put r10 ((r8 >>> (4 : Int32)) ||| (((fv_ga σ9 36 7) &&& (15 : Int32)) <<< (4 : Int32))) σ9) (fun σ11 =>
            fv_bv (zX7_digit (r8 &&& (15 : Int32)) σ11) (fun σ12 =>
              fv_rv σ12) fv_no) fv_no) fv_no
      else 
        fv_bi (zX7_hl σ7) (fun r14 σ13 =>
          fv_bv (zX7_put r14 ((r8 <<< (4 : Int32)) ||| ((fv_ga σ13 36 7) &&& (15 : Int32))) σ13) (fun σ15 =>
            fv_bv (zX7_digit (r8 >>> (4 : Int32)) σ15) (fun σ16 =>
              fv_rv σ16) fv_no) fv_no) fv_no) fv_no) fv_no
noncomputable def zX7_carried16_124 (x5 : Int32) (s1 : Int32) (s2 : Int32) (s3 : Int32) (σ : fv_S) : Option fv_O :=
  if fv_in s1 9 then
    fv_bv (zX7_setPair 2 x5 (fv_sa σ 36 s1 ((s2 ||| s3) ||| ((x5 >>> (16 : Int32)) &&& (1 : Int32))))) (fun σ2 =>
      fv_rv σ2) fv_no
  else none
noncomputable def zX7_carried16_93 (x1 : Int32) (x2 : Int32) (x3 : Int32) (x5 : Int32) (x6 : Int32) (s1 : Int32) (s2 : Int32) (s3 : Int32) (σ : fv_S) : Option fv_O :=
  if x2 = 0 then
    zX7_carried16_124 x5 s1 (((s2 ||| s3) ||| ((((x3 ^^^ x1) ^^^ x5) >>> (8 : Int32)) &&& (16 : Int32))) ||| ((x6 >>> (13 : Int32)) &&& (4 : Int32))) 2 σ
  else
    zX7_carried16_124 x5 s1 (((s2 ||| s3) ||| ((((x3 ^^^ x1) ^^^ x5) >>> (8 : Int32)) &&& (16 : Int32))) ||| ((x6 >>> (13 : Int32)) &&& (4 : Int32))) 0 σ
noncomputable def zX7_carried16_62 (x1 : Int32) (x2 : Int32) (x3 : Int32) (x5 : Int32) (s0 : Int32) (σ : fv_S) : Option fv_O :=
  if ¬ (x5 &&& (65535 : Int32)) = 0 then
    zX7_carried16_93 x1 x2 x3 x5 s0 8 ((x5 >>> (8 : Int32)) &&& (168 : Int32)) 0 σ
  else
    zX7_carried16_93 x1 x2 x3 x5 s0 8 ((x5 >>> (8 : Int32)) &&& (168 : Int32)) 64 σ
noncomputable def zX7_carried16_35 (x1 : Int32) (x2 : Int32) (x3 : Int32) (s0 : Int32) (σ : fv_S) : Option fv_O :=
  if x2 = 0 then
    zX7_carried16_62 x1 x2 x3 s0 ((x3 ^^^ x1) &&& (x3 ^^^ s0)) σ
  else
    zX7_carried16_62 x1 x2 x3 s0 ((x3 ^^^ (x1 ^^^ ((-1) : Int32))) &&& (x3 ^^^ s0)) σ
noncomputable def zX7_carried16 (x1 : Int32) (x2 : Int32) (σ : fv_S) : Option fv_O :=
  fv_bi (zX7_hl σ) (fun r4 σ3 =>
    if x2 = 0 then
      zX7_carried16_35 x1 x2 r4 ((r4 - x1) - ((fv_ga σ3 36 8) &&& (1 : Int32))) σ3
    else
      zX7_carried16_35 x1 x2 r4 ((r4 + x1) + ((fv_ga σ3 36 8) &&& (1 : Int32))) σ3) fv_no
noncomputable def zX7_extra_181 (s1 : Int32) (s2 : Int32) (σ : fv_S) : Option fv_O :=
  fv_bv (zX7_carried16 s1 s2 σ) (fun σ1 =>
    fv_rv σ1) fv_no
noncomputable def zX7_extra_293 (s1 : Int32) (σ : fv_S) : Option fv_O :=
  fv_rv (fv_si σ 4363 s1)
noncomputable def zX7_extra (x1 : Int32) (x2 : Int32) (σ : fv_S) : Option fv_O :=
  if ¬ (x1 >>> (6 : Int32)) = (2 : Int32) then
    if (x1 &&& (7 : Int32)) = 0 then
      fv_bi (zX7_in (fv_ga σ 36 1) (fv_si σ 4358 x2)) (fun r3 σ2 =>
        if fv_in ((x1 >>> (3 : Int32)) &&& (7 : Int32)) 9 then
          if fv_in ((x1 >>> (3 : Int32)) &&& (7 : Int32)) 9 then
            fv_bi (zX7_shown r3 (fv_sa σ2 36 ((x1 >>> (3 : Int32)) &&& (7 : Int32)) r3)) (fun r7 σ6 =>
              if fv_in ((x1 >>> (3 : Int32)) &&& (7 : Int32)) 9 then
                fv_bi (zX7_parity (fv_ga σ6 36 ((x1 >>> (3 : Int32)) &&& (7 : Int32))) σ6) (fun r10 σ9 =>
                  fv_rv (fv_sa σ9 36 8 ((r7 ||| r10) ||| ((fv_ga σ9 36 8) &&& (1 : Int32))))) fv_no
              else none) fv_no
          else none
        else none) fv_no
    else if (x1 &&& (7 : Int32)) = 1 then
      if fv_in ((x1 >>> (3 : Int32)) &&& (7 : Int32)) 9 then
        fv_bv (zX7_out (fv_ga σ 36 1) (fv_ga σ 36 ((x1 >>> (3 : Int32)) &&& (7 : Int32))) (fv_si σ 4358 x2)) (fun σ12 =>
          fv_rv σ12) fv_no
      else none
    else if (x1 &&& (7 : Int32)) = 2 then
      fv_bi (zX7_pair (((x1 >>> (3 : Int32)) &&& (7 : Int32)) >>> (1 : Int32)) (fv_si σ 4358 x2)) (fun r14 σ13 =>
        if ¬ (((x1 >>> (3 : Int32)) &&& (7 : Int32)) &&& (1 : Int32)) = (1 : Int32) then
          zX7_extra_181 r14 0 σ13
        else
          zX7_extra_181 r14 1 σ13) fv_no
    else if (x1 &&& (7 : Int32)) = 3 then
      if ¬ (((x1 >>> (3 : Int32)) &&& (7 : Int32)) &&& (1 : Int32)) = 0 then
        fv_bi (zX7_get16 x2 (fv_si (fv_si σ 4358 x2) 4358 ((x2 + (2 : Int32)) &&& (65535 : Int32)))) (fun r16 σ15 =>
          fv_bi (zX7_get16 r16 σ15) (fun r18 σ17 =>
            fv_bv (zX7_setPair (((x1 >>> (3 : Int32)) &&& (7 : Int32)) >>> (1 : Int32)) r18 σ17) (fun σ19 =>
              fv_rv σ19) fv_no) fv_no) fv_no
      else
        fv_bi (zX7_get16 x2 (fv_si (fv_si σ 4358 x2) 4358 ((x2 + (2 : Int32)) &&& (65535 : Int32)))) (fun r21 σ20 =>
          fv_bi (zX7_pair (((x1 >>> (3 : Int32)) &&& (7 : Int32)) >>> (1 : Int32)) σ20) (fun r23 σ22 =>
            fv_bv (zX7_put16 r21 r23 σ22) (fun σ24 =>
              fv_rv σ24) fv_no) fv_no) fv_no
    else if (x1 &&& (7 : Int32)) = 4 then
      fv_bi (zX7_taken 0 (fv_ga σ 36 7) 0 (fv_si σ 4358 x2)) (fun r26 σ25 =>
        fv_rv (fv_sa σ25 36 7 r26)) fv_no
    else if (x1 &&& (7 : Int32)) = 5 then
      fv_bi (zX7_pop (fv_si σ 4358 x2)) (fun r28 σ27 =>
        fv_rv (fv_si (fv_si σ27 4358 r28) 4361 (fv_gi σ27 4362))) fv_no
    else if (x1 &&& (7 : Int32)) = 6 then
      if ¬ ((x1 >>> (3 : Int32)) &&& (7 : Int32)) = 0 then
        zX7_extra_293 (((x1 >>> (3 : Int32)) &&& (7 : Int32)) - (1 : Int32)) (fv_si σ 4358 x2)
      else
        zX7_extra_293 0 (fv_si σ 4358 x2)
    else 
      fv_bv (zX7_special ((x1 >>> (3 : Int32)) &&& (7 : Int32)) (fv_si σ 4358 x2)) (fun σ29 =>
        fv_rv σ29) fv_no
  else
    fv_bv (zX7_block ((x1 >>> (3 : Int32)) &&& (7 : Int32)) (x1 &&& (7 : Int32)) ((x2 - (2 : Int32)) &&& (65535 : Int32)) (fv_si σ 4358 x2)) (fun σ30 =>
      fv_rv σ30) fv_no
noncomputable def zX7_instruction_231 (N : Nat) (s1 : Int32) (s2 : Int32) (s3 : Int32) (s4 : Int32) (s5 : Int32) (s6 : Int32) (σ : fv_S) : Option fv_O :=
  fv_bi (zX7_plain N s1 s2 s3 s4 ((s5 + s6) &&& (65535 : Int32)) σ) (fun r2 σ1 =>
    fv_ri r2 σ1) fv_no
noncomputable def zX7_instruction_152 (N : Nat) (x1 : Int32) (x2 : Int32) (x3 : Int32) (x4 : Int32) (s0 : Int32) (σ : fv_S) : Option fv_O :=
  fv_bi (zX7_pair s0 σ) (fun r4 σ3 =>
    fv_bi (zX7_get (x2 + (2 : Int32)) σ3) (fun r6 σ5 =>
      if x3 < (5 : Int32) then
        fv_bi (zX2_hasIndex x1 σ5) (fun r8 σ7 =>
          if r8 = 0 then
            zX7_instruction_231 N x4 s0 ((r4 + ((Int32.toInt8 r6).toInt32)) &&& (65535 : Int32)) ((x2 + (1 : Int32)) &&& (65535 : Int32)) (x2 + (2 : Int32)) 0 σ7
          else
            zX7_instruction_231 N x4 s0 ((r4 + ((Int32.toInt8 r6).toInt32)) &&& (65535 : Int32)) ((x2 + (1 : Int32)) &&& (65535 : Int32)) (x2 + (2 : Int32)) 1 σ7) fv_no
      else
        fv_bv (zX7_bits x4 ((r4 + ((Int32.toInt8 r6).toInt32)) &&& (65535 : Int32)) (fv_si σ5 4358 ((x2 + (4 : Int32)) &&& (65535 : Int32)))) (fun σ9 =>
          fv_ri 1 σ9) fv_no) fv_no) fv_no
noncomputable def zX7_instruction_145 (N : Nat) (x1 : Int32) (x2 : Int32) (x3 : Int32) (x4 : Int32) (σ : fv_S) : Option fv_O :=
  zX7_instruction_152 N x1 x2 x3 x4 6 σ
noncomputable def zX7_instruction_63 (N : Nat) (x1 : Int32) (x2 : Int32) (x3 : Int32) (x4 : Int32) (s1 : Int32) (σ : fv_S) : Option fv_O :=
  fv_bv (zX7_refreshBy s1 σ) (fun σ10 =>
    if ¬ x3 = 0 then
      if ¬ x3 = (1 : Int32) then
        if ¬ x3 = (2 : Int32) then
          if x3 = (3 : Int32) then
            zX7_instruction_145 N x1 x2 x3 x4 σ10
          else
            if ¬ x3 = (5 : Int32) then
              zX7_instruction_152 N x1 x2 x3 x4 7 σ10
            else
              zX7_instruction_145 N x1 x2 x3 x4 σ10
        else
          fv_bv (zX7_extra x4 ((x2 + (2 : Int32)) &&& (65535 : Int32)) σ10) (fun σ11 =>
            fv_ri 1 σ11) fv_no
      else
        fv_bi (zX7_hl (fv_si σ10 4358 ((x2 + (2 : Int32)) &&& (65535 : Int32)))) (fun r13 σ12 =>
          fv_bv (zX7_bits x4 r13 σ12) (fun σ14 =>
            fv_ri 1 σ14) fv_no) fv_no
    else
      fv_bi (zX7_hl σ10) (fun r16 σ15 =>
        fv_bi (zX7_plain N x4 2 r16 x2 ((x2 + (1 : Int32)) &&& (65535 : Int32)) σ15) (fun r18 σ17 =>
          fv_ri r18 σ17) fv_no) fv_no) fv_no
noncomputable def zX7_instruction (N : Nat) (σ : fv_S) : Option fv_O :=
  fv_bi (zX2_at (fv_gi σ 4358) σ) (fun r20 σ19 =>
    if (0 : Int32) ≤ r20 then
      if fv_in r20 900 then
        if fv_in r20 900 then
          if ¬ (fv_ga σ19 9 r20) = 0 then
            zX7_instruction_63 N r20 (fv_gi σ19 4358) (fv_ga σ19 9 r20) (fv_ga σ19 10 r20) 2 (fv_si σ19 4370 0)
          else
            zX7_instruction_63 N r20 (fv_gi σ19 4358) (fv_ga σ19 9 r20) (fv_ga σ19 10 r20) 1 (fv_si σ19 4370 0)
        else none
      else none
    else
      fv_ri 0 σ19) fv_no
noncomputable def zX7_step (N : Nat) (σ : fv_S) : Option fv_O :=
  fv_bi (zX7_hasTaken σ) (fun r2 σ1 =>
    if r2 = 0 then
      fv_bi (zX7_instruction N σ1) (fun r4 σ3 =>
        fv_ri r4 σ3) fv_no
    else
      fv_ri 2 (fv_si σ1 4370 0)) fv_no
noncomputable def zX0_step (N : Nat) (σ : fv_S) : Option fv_O :=
  fv_bi (zX7_step N σ) (fun r2 σ1 =>
    fv_ri r2 σ1) fv_no
noncomputable def zX0_run_52 (N : Nat) (k19 : Int32 → Int32 → Int32 → fv_S → Option fv_O) (x1 : Int32) (x2 : Int32) (σ : fv_S) : Option fv_O :=
  k19 x1 (x2 + (1 : Int32)) 0 σ
noncomputable def zX0_run_19_b (N : Nat) (k19 : Int32 → Int32 → Int32 → fv_S → Option fv_O) (x1 : Int32) (x2 : Int32) (x3 : Int32) (σ : fv_S) : Option fv_O :=
  if x1 ≤ x2 then
    fv_ri x2 σ
  else
    if x3 = 0 then
      fv_ri x2 σ
    else
      fv_bi (zX7_step N σ) (fun r2 σ1 =>
        if r2 = 0 then
          zX0_run_52 N k19 x1 x2 σ1
        else
          if r2 = (3 : Int32) then
            zX0_run_52 N k19 x1 x2 σ1
          else
            k19 x1 (x2 + (1 : Int32)) 1 σ1) fv_no
noncomputable def zX0_run_19 (N : Nat) : Nat → Int32 → Int32 → Int32 → fv_S → Option fv_O
  | 0, _, _, _, _ => none
  | n + 1, x1, x2, x3, σ => zX0_run_19_b N (zX0_run_19 N n) x1 x2 x3 σ
noncomputable def zX0_run (N : Nat) (x1 : Int32) (σ : fv_S) : Option fv_O :=
  fv_bi (zX0_isIn (Int32.toInt64 x1) 0 20000 σ) (fun r4 σ3 =>
    if ¬ r4 = 0 then
      zX0_run_19 N N x1 0 1 σ3
    else
      fv_ri (-2) σ3) fv_no
noncomputable def zX0_outs (σ : fv_S) : Option fv_O :=
  fv_rl (fv_gl σ 4366) σ
noncomputable def zX7_clear_101_b (N : Nat) (k101 : Int32 → fv_S → Option fv_O) (x1 : Int32) (σ : fv_S) : Option fv_O :=
  if (256 : Int32) ≤ x1 then
    fv_rv (fv_si (fv_si (fv_si (fv_si (fv_sl σ 4366 0) 4367 0) 4369 0) 4370 0) 4368 0)
  else
    if fv_in x1 256 then
      if fv_in x1 256 then
        k101 (x1 + (1 : Int32)) (fv_sa (fv_sa σ 39 x1 0) 40 x1 0)
      else none
    else none
noncomputable def zX7_clear_101 (N : Nat) : Nat → Int32 → fv_S → Option fv_O
  | 0, _, _ => none
  | n + 1, x1, σ => zX7_clear_101_b N (zX7_clear_101 N n) x1 σ
noncomputable def zX7_clear_23_b (N : Nat) (k23 : Int32 → fv_S → Option fv_O) (x1 : Int32) (σ : fv_S) : Option fv_O :=
  if (9 : Int32) ≤ x1 then
    zX7_clear_101 N N 0 (fv_si (fv_si (fv_si (fv_si (fv_si (fv_si (fv_si (fv_sa (fv_sa σ 38 0 0) 38 1 0) 4357 65535) 4358 0) 4359 0) 4360 0) 4361 0) 4362 0) 4363 0)
  else
    if fv_in x1 9 then
      if fv_in x1 9 then
        k23 (x1 + (1 : Int32)) (fv_sa (fv_sa σ 36 x1 0) 37 x1 0)
      else none
    else none
noncomputable def zX7_clear_23 (N : Nat) : Nat → Int32 → fv_S → Option fv_O
  | 0, _, _ => none
  | n + 1, x1, σ => zX7_clear_23_b N (zX7_clear_23 N n) x1 σ
noncomputable def zX7_clear_2_b (N : Nat) (k2 : Int32 → fv_S → Option fv_O) (x1 : Int32) (σ : fv_S) : Option fv_O :=
  if (65536 : Int32) ≤ x1 then
    zX7_clear_23 N N 0 σ
  else
    if fv_in x1 65536 then
      k2 (x1 + (1 : Int32)) (fv_sa σ 35 x1 ((Int32.toInt8 0).toInt32))
    else none
noncomputable def zX7_clear_2 (N : Nat) : Nat → Int32 → fv_S → Option fv_O
  | 0, _, _ => none
  | n + 1, x1, σ => zX7_clear_2_b N (zX7_clear_2 N n) x1 σ
noncomputable def zX7_clear (N : Nat) (σ : fv_S) : Option fv_O :=
  zX7_clear_2 N N 0 σ
noncomputable def zX0_clear (N : Nat) (σ : fv_S) : Option fv_O :=
  fv_bv (zX7_clear N σ) (fun σ1 =>
    fv_rv σ1) fv_no
noncomputable def zX2_add (x1 : Int32) (x2 : Int32) (x3 : Int32) (x4 : Int32) (x5 : Int32) (x6 : Int32) (x7 : Int32) (σ : fv_S) : Option fv_O :=
  if fv_in (fv_gi σ 391) 900 then
    if fv_in (fv_gi σ 391) 900 then
      if fv_in (fv_gi σ 391) 900 then
        if fv_in (fv_gi σ 391) 900 then
          if fv_in (fv_gi σ 391) 900 then
            if fv_in (fv_gi σ 391) 900 then
              if fv_in (fv_gi σ 391) 900 then
                if fv_in (((256 : Int32) * x1) + x2) 1792 then
                  fv_rv (fv_si (fv_sa (fv_sa (fv_sa (fv_sa (fv_sa (fv_sa (fv_sa (fv_sa σ 4 (fv_gi σ 391) x3) 5 (fv_gi σ 391) x4) 6 (fv_gi σ 391) x5) 7 (fv_gi σ 391) x6) 8 (fv_gi σ 391) x7) 9 (fv_gi σ 391) x1) 10 (fv_gi σ 391) x2) 11 (((256 : Int32) * x1) + x2) (fv_gi σ 391)) 391 ((fv_gi σ 391) + (1 : Int32)))
                else none
              else none
            else none
          else none
        else none
      else none
    else none
  else none
noncomputable def zX2_one (x1 : Int32) (x2 : Int32) (x3 : Int32) (x4 : Int32) (σ : fv_S) : Option fv_O :=
  fv_bv (zX2_add 0 x1 x2 x3 x4 0 0 σ) (fun σ1 =>
    fv_rv σ1) fv_no
noncomputable def zX2_two (x1 : Int32) (x2 : Int32) (x3 : Int32) (x4 : Int32) (x5 : Int32) (x6 : Int32) (σ : fv_S) : Option fv_O :=
  fv_bv (zX2_add 0 x1 x2 x3 x4 x5 x6 σ) (fun σ1 =>
    fv_rv σ1) fv_no
noncomputable def zX2_loads_62 (s1 : Int32) (s2 : Int32) (s3 : Int32) (s4 : Int32) (s5 : Int32) (s6 : Int32) (σ : fv_S) : Option fv_O :=
  fv_bv (zX2_two s1 s2 s3 s4 s5 s6 σ) (fun σ1 =>
    fv_rv σ1) fv_no
noncomputable def zX2_loads_83 (x5 : Int32) (x6 : Int32) (s1 : Int32) (s2 : Int32) (s3 : Int32) (s4 : Int32) (σ : fv_S) : Option fv_O :=
  fv_bv (zX2_two s1 s2 s3 s4 x5 x6 σ) (fun σ2 =>
    fv_rv σ2) fv_no
noncomputable def zX2_loads_37 (x1 : Int32) (x2 : Int32) (x3 : Int32) (x4 : Int32) (x5 : Int32) (s0 : Int32) (σ : fv_S) : Option fv_O :=
  if x3 = 0 then
    if (2 : Int32) ≤ x2 then
      zX2_loads_83 x5 s0 x1 4 x4 0 σ
    else
      zX2_loads_83 x5 s0 x1 4 x4 x2 σ
  else
    if (2 : Int32) ≤ x2 then
      zX2_loads_62 x1 4 x5 s0 x4 0 σ
    else
      zX2_loads_62 x1 4 x5 s0 x4 x2 σ
noncomputable def zX2_loads_24 (x1 : Int32) (x2 : Int32) (x3 : Int32) (x4 : Int32) (s0 : Int32) (σ : fv_S) : Option fv_O :=
  if ¬ x2 = (2 : Int32) then
    zX2_loads_37 x1 x2 x3 x4 s0 7 σ
  else
    zX2_loads_37 x1 x2 x3 x4 s0 2 σ
noncomputable def zX2_loads_12 (x1 : Int32) (x2 : Int32) (x3 : Int32) (s0 : Int32) (σ : fv_S) : Option fv_O :=
  if ¬ x2 = (2 : Int32) then
    zX2_loads_24 x1 x2 x3 s0 1 σ
  else
    zX2_loads_24 x1 x2 x3 s0 2 σ
noncomputable def zX2_loads (x1 : Int32) (x2 : Int32) (x3 : Int32) (σ : fv_S) : Option fv_O :=
  if (2 : Int32) ≤ x2 then
    zX2_loads_12 x1 x2 x3 7 σ
  else
    zX2_loads_12 x1 x2 x3 9 σ
noncomputable def zX2_low_114 (s1 : Int32) (s2 : Int32) (σ : fv_S) : Option fv_O :=
  fv_bv (zX2_one s1 s2 6 0 σ) (fun σ1 =>
    fv_rv σ1) fv_no
noncomputable def zX2_low_198 (x4 : Int32) (s1 : Int32) (s2 : Int32) (σ : fv_S) : Option fv_O :=
  fv_bv (zX2_one s1 s2 2 x4 σ) (fun σ2 =>
    fv_rv σ2) fv_no
noncomputable def zX2_low_17 (x1 : Int32) (x2 : Int32) (x3 : Int32) (x4 : Int32) (s0 : Int32) (σ : fv_S) : Option fv_O :=
  if x3 = 0 then
    if ¬ x2 = 0 then
      if ¬ x2 = (1 : Int32) then
        if (4 : Int32) ≤ x2 then
          fv_bv (zX2_two x1 3 3 (x2 - (4 : Int32)) 6 0 σ) (fun σ3 =>
            fv_rv σ3) fv_no
        else
          if ¬ x2 = (2 : Int32) then
            zX2_low_114 x1 3 σ
          else
            zX2_low_114 x1 2 σ
      else
        fv_bv (zX2_two x1 1 2 4 2 5 σ) (fun σ4 =>
          fv_rv σ4) fv_no
    else
      fv_bv (zX2_one x1 0 0 0 σ) (fun σ5 =>
        fv_rv σ5) fv_no
  else if x3 = 1 then
    if s0 = 0 then
      fv_bv (zX2_two x1 4 2 x4 5 0 σ) (fun σ6 =>
        fv_rv σ6) fv_no
    else
      fv_bv (zX2_two x1 5 2 2 2 x4 σ) (fun σ7 =>
        fv_rv σ7) fv_no
  else if x3 = 2 then
    fv_bv (zX2_loads x1 x4 s0 σ) (fun σ8 =>
      fv_rv σ8) fv_no
  else if x3 = 3 then
    if s0 = 0 then
      zX2_low_198 x4 x1 6 σ
    else
      zX2_low_198 x4 x1 7 σ
  else if x3 = 4 then
    fv_bv (zX2_one x1 6 1 x2 σ) (fun σ9 =>
      fv_rv σ9) fv_no
  else if x3 = 5 then
    fv_bv (zX2_one x1 7 1 x2 σ) (fun σ10 =>
      fv_rv σ10) fv_no
  else if x3 = 6 then
    fv_bv (zX2_two x1 4 1 x2 4 0 σ) (fun σ11 =>
      fv_rv σ11) fv_no
  else 
    fv_bv (zX2_one x1 ((8 : Int32) + x2) 0 0 σ) (fun σ12 =>
      fv_rv σ12) fv_no
noncomputable def zX2_low (x1 : Int32) (x2 : Int32) (x3 : Int32) (σ : fv_S) : Option fv_O :=
  if ¬ (x2 &&& (1 : Int32)) = (1 : Int32) then
    zX2_low_17 x1 x2 x3 (x2 >>> (1 : Int32)) 0 σ
  else
    zX2_low_17 x1 x2 x3 (x2 >>> (1 : Int32)) 1 σ
noncomputable def zX2_arithmeticWord (x0 : Int32) (σ : fv_S) : Option fv_O :=
  if ¬ x0 = 0 then
    fv_ri (((17 : Int32) + x0) - (1 : Int32)) σ
  else
    fv_ri 5 σ
noncomputable def zX2_arithmetic_14 (x1 : Int32) (x2 : Int32) (x3 : Int32) (x4 : Int32) (σ : fv_S) : Option fv_O :=
  fv_bi (zX2_arithmeticWord x2 σ) (fun r2 σ1 =>
    fv_bv (zX2_two x1 r2 1 7 x3 x4 σ1) (fun σ3 =>
      fv_rv σ3) fv_no) fv_no
noncomputable def zX2_arithmetic (x1 : Int32) (x2 : Int32) (x3 : Int32) (x4 : Int32) (σ : fv_S) : Option fv_O :=
  if x2 = 0 then
    zX2_arithmetic_14 x1 x2 x3 x4 σ
  else
    if x2 = (1 : Int32) then
      zX2_arithmetic_14 x1 x2 x3 x4 σ
    else
      if ¬ x2 = (3 : Int32) then
        fv_bi (zX2_arithmeticWord x2 σ) (fun r5 σ4 =>
          fv_bv (zX2_one x1 r5 x3 x4 σ4) (fun σ6 =>
            fv_rv σ6) fv_no) fv_no
      else
        zX2_arithmetic_14 x1 x2 x3 x4 σ
noncomputable def zX2_stacked (x0 : Int32) (σ : fv_S) : Option fv_O :=
  if ¬ x0 = (3 : Int32) then
    fv_ri x0 σ
  else
    fv_ri 4 σ
noncomputable def zX2_others_129 (s1 : Int32) (s2 : Int32) (σ : fv_S) : Option fv_O :=
  fv_bv (zX2_one s1 s2 0 0 σ) (fun σ1 =>
    fv_rv σ1) fv_no
noncomputable def zX2_others (x1 : Int32) (x2 : Int32) (σ : fv_S) : Option fv_O :=
  if x2 = 0 then
    fv_bv (zX2_one x1 27 5 0 σ) (fun σ2 =>
      fv_rv σ2) fv_no
  else if x2 = 1 then
    fv_rv σ
  else if x2 = 2 then
    fv_bv (zX2_two x1 28 8 0 1 7 σ) (fun σ3 =>
      fv_rv σ3) fv_no
  else if x2 = 3 then
    fv_bv (zX2_two x1 29 1 7 8 0 σ) (fun σ4 =>
      fv_rv σ4) fv_no
  else if x2 = 4 then
    fv_bv (zX2_two x1 1 9 2 2 2 σ) (fun σ5 =>
      fv_rv σ5) fv_no
  else if x2 = 5 then
    fv_bv (zX2_two x1 1 2 1 2 2 σ) (fun σ6 =>
      fv_rv σ6) fv_no
  else 
    if ¬ x2 = (6 : Int32) then
      zX2_others_129 x1 31 σ
    else
      zX2_others_129 x1 30 σ
noncomputable def zX2_high_17 (x1 : Int32) (x2 : Int32) (x3 : Int32) (x4 : Int32) (s0 : Int32) (σ : fv_S) : Option fv_O :=
  if x3 = 0 then
    fv_bv (zX2_one x1 24 3 x2 σ) (fun σ1 =>
      fv_rv σ1) fv_no
  else if x3 = 1 then
    if ¬ s0 = 0 then
      if ¬ x4 = 0 then
        if ¬ x4 = (1 : Int32) then
          if ¬ x4 = (2 : Int32) then
            fv_bv (zX2_two x1 4 2 3 2 2 σ) (fun σ2 =>
              fv_rv σ2) fv_no
          else
            fv_bv (zX2_one x1 27 1 6 σ) (fun σ3 =>
              fv_rv σ3) fv_no
        else
          fv_bv (zX2_one x1 26 0 0 σ) (fun σ4 =>
            fv_rv σ4) fv_no
      else
        fv_bv (zX2_one x1 24 0 0 σ) (fun σ5 =>
          fv_rv σ5) fv_no
    else
      fv_bi (zX2_stacked x4 σ) (fun r7 σ6 =>
        fv_bv (zX2_one x1 25 2 r7 σ6) (fun σ8 =>
          fv_rv σ8) fv_no) fv_no
  else if x3 = 2 then
    fv_bv (zX2_two x1 27 3 x2 5 0 σ) (fun σ9 =>
      fv_rv σ9) fv_no
  else if x3 = 3 then
    fv_bv (zX2_others x1 x2 σ) (fun σ10 =>
      fv_rv σ10) fv_no
  else if x3 = 4 then
    fv_bv (zX2_two x1 32 3 x2 5 0 σ) (fun σ11 =>
      fv_rv σ11) fv_no
  else if x3 = 5 then
    if ¬ s0 = 0 then
      if ¬ x4 = 0 then
        fv_rv σ
      else
        fv_bv (zX2_one x1 32 5 0 σ) (fun σ12 =>
          fv_rv σ12) fv_no
    else
      fv_bi (zX2_stacked x4 σ) (fun r14 σ13 =>
        fv_bv (zX2_one x1 33 2 r14 σ13) (fun σ15 =>
          fv_rv σ15) fv_no) fv_no
  else if x3 = 6 then
    fv_bv (zX2_arithmetic x1 x2 4 0 σ) (fun σ16 =>
      fv_rv σ16) fv_no
  else 
    fv_bv (zX2_one x1 34 12 ((8 : Int32) * x2) σ) (fun σ17 =>
      fv_rv σ17) fv_no
noncomputable def zX2_high (x1 : Int32) (x2 : Int32) (x3 : Int32) (σ : fv_S) : Option fv_O :=
  if ¬ (x2 &&& (1 : Int32)) = (1 : Int32) then
    zX2_high_17 x1 x2 x3 (x2 >>> (1 : Int32)) 0 σ
  else
    zX2_high_17 x1 x2 x3 (x2 >>> (1 : Int32)) 1 σ
noncomputable def zX2_plain (x1 : Int32) (σ : fv_S) : Option fv_O :=
  if ¬ (x1 >>> (6 : Int32)) = 0 then
    if ¬ x1 = (118 : Int32) then
      if ¬ (x1 >>> (6 : Int32)) = (1 : Int32) then
        if ¬ (x1 >>> (6 : Int32)) = (2 : Int32) then
          fv_bv (zX2_high x1 ((x1 >>> (3 : Int32)) &&& (7 : Int32)) (x1 &&& (7 : Int32)) σ) (fun σ1 =>
            fv_rv σ1) fv_no
        else
          fv_bv (zX2_arithmetic x1 ((x1 >>> (3 : Int32)) &&& (7 : Int32)) 1 (x1 &&& (7 : Int32)) σ) (fun σ2 =>
            fv_rv σ2) fv_no
      else
        fv_bv (zX2_two x1 4 1 ((x1 >>> (3 : Int32)) &&& (7 : Int32)) 1 (x1 &&& (7 : Int32)) σ) (fun σ3 =>
          fv_rv σ3) fv_no
    else
      fv_bv (zX2_one x1 16 0 0 σ) (fun σ4 =>
        fv_rv σ4) fv_no
  else
    fv_bv (zX2_low x1 ((x1 >>> (3 : Int32)) &&& (7 : Int32)) (x1 &&& (7 : Int32)) σ) (fun σ5 =>
      fv_rv σ5) fv_no
noncomputable def zX2_bits_62 (x1 : Int32) (s1 : Int32) (s2 : Int32) (s3 : Int32) (s4 : Int32) (σ : fv_S) : Option fv_O :=
  fv_bv (zX2_add s1 s2 (s3 + s4) 1 (x1 &&& (7 : Int32)) 0 0 σ) (fun σ1 =>
    fv_rv σ1) fv_no
noncomputable def zX2_bits (x1 : Int32) (σ : fv_S) : Option fv_O :=
  if (x1 >>> (6 : Int32)) ≤ 0 then
    if ((x1 >>> (3 : Int32)) &&& (7 : Int32)) = (6 : Int32) then
      fv_rv σ
    else
      if ¬ ((x1 >>> (3 : Int32)) &&& (7 : Int32)) = (7 : Int32) then
        zX2_bits_62 x1 1 x1 35 ((x1 >>> (3 : Int32)) &&& (7 : Int32)) σ
      else
        zX2_bits_62 x1 1 x1 35 6 σ
  else
    fv_bv (zX2_add 1 x1 (((42 : Int32) + (x1 >>> (6 : Int32))) - (1 : Int32)) 11 ((x1 >>> (3 : Int32)) &&& (7 : Int32)) 1 (x1 &&& (7 : Int32)) σ) (fun σ2 =>
      fv_rv σ2) fv_no
noncomputable def zX2_last (x1 : Int32) (x2 : Int32) (σ : fv_S) : Option fv_O :=
  if (2 : Int32) ≤ x2 then
    if (4 : Int32) ≤ x2 then
      if (6 : Int32) ≤ x2 then
        fv_rv σ
      else
        fv_bv (zX2_add 2 x1 (((49 : Int32) + x2) - (4 : Int32)) 0 0 0 0 σ) (fun σ1 =>
          fv_rv σ1) fv_no
    else
      fv_bv (zX2_add 2 x1 4 1 7 14 (x2 - (2 : Int32)) σ) (fun σ2 =>
        fv_rv σ2) fv_no
  else
    fv_bv (zX2_add 2 x1 4 14 x2 1 7 σ) (fun σ3 =>
      fv_rv σ3) fv_no
noncomputable def zX2_middle_123 (x4 : Int32) (s1 : Int32) (s2 : Int32) (s3 : Int32) (σ : fv_S) : Option fv_O :=
  fv_bv (zX2_add s1 s2 s3 2 2 2 x4 σ) (fun σ1 =>
    fv_rv σ1) fv_no
noncomputable def zX2_middle_253 (s1 : Int32) (s2 : Int32) (s3 : Int32) (s4 : Int32) (s5 : Int32) (σ : fv_S) : Option fv_O :=
  fv_bv (zX2_add s1 s2 s3 s4 s5 0 0 σ) (fun σ2 =>
    fv_rv σ2) fv_no
noncomputable def zX2_middle_235 (x1 : Int32) (x2 : Int32) (σ : fv_S) : Option fv_O :=
  if ¬ x2 = 0 then
    zX2_middle_253 2 x1 48 13 (x2 - (1 : Int32)) σ
  else
    zX2_middle_253 2 x1 48 13 0 σ
noncomputable def zX2_middle_17 (x1 : Int32) (x2 : Int32) (x3 : Int32) (x4 : Int32) (s0 : Int32) (σ : fv_S) : Option fv_O :=
  if x3 = 0 then
    if x2 = (6 : Int32) then
      fv_rv σ
    else
      fv_bv (zX2_add 2 x1 29 1 x2 9 3 σ) (fun σ3 =>
        fv_rv σ3) fv_no
  else if x3 = 1 then
    if x2 = (6 : Int32) then
      fv_rv σ
    else
      fv_bv (zX2_add 2 x1 28 9 3 1 x2 σ) (fun σ4 =>
        fv_rv σ4) fv_no
  else if x3 = 2 then
    if s0 = 0 then
      zX2_middle_123 x4 2 x1 19 σ
    else
      zX2_middle_123 x4 2 x1 17 σ
  else if x3 = 3 then
    if ¬ x4 = (2 : Int32) then
      if s0 = 0 then
        fv_bv (zX2_add 2 x1 4 7 0 2 x4 σ) (fun σ5 =>
          fv_rv σ5) fv_no
      else
        fv_bv (zX2_add 2 x1 4 2 x4 7 0 σ) (fun σ6 =>
          fv_rv σ6) fv_no
    else
      fv_rv σ
  else if x3 = 4 then
    if ¬ x2 = 0 then
      fv_rv σ
    else
      fv_bv (zX2_add 2 x1 45 0 0 0 0 σ) (fun σ7 =>
        fv_rv σ7) fv_no
  else if x3 = 5 then
    if (2 : Int32) ≤ x2 then
      fv_rv σ
    else
      fv_bv (zX2_add 2 x1 ((46 : Int32) + x2) 0 0 0 0 σ) (fun σ8 =>
        fv_rv σ8) fv_no
  else if x3 = 6 then
    if x2 = 0 then
      zX2_middle_235 x1 x2 σ
    else
      if x2 = (2 : Int32) then
        zX2_middle_235 x1 x2 σ
      else
        if ¬ x2 = (3 : Int32) then
          fv_rv σ
        else
          zX2_middle_235 x1 x2 σ
  else 
    fv_bv (zX2_last x1 x2 σ) (fun σ9 =>
      fv_rv σ9) fv_no
noncomputable def zX2_middle (x1 : Int32) (x2 : Int32) (x3 : Int32) (σ : fv_S) : Option fv_O :=
  if ¬ (x2 &&& (1 : Int32)) = (1 : Int32) then
    zX2_middle_17 x1 x2 x3 (x2 >>> (1 : Int32)) 0 σ
  else
    zX2_middle_17 x1 x2 x3 (x2 >>> (1 : Int32)) 1 σ
noncomputable def zX2_extra_31 (x1 : Int32) (x2 : Int32) (x3 : Int32) (x4 : Int32) (σ : fv_S) : Option fv_O :=
  if ¬ x2 = (2 : Int32) then
    fv_rv σ
  else
    if (4 : Int32) ≤ x4 then
      fv_rv σ
    else
      if x3 ≤ (3 : Int32) then
        fv_rv σ
      else
        fv_bv (zX2_add 2 x1 (((51 : Int32) + ((4 : Int32) * (x3 - (4 : Int32)))) + x4) 0 0 0 0 σ) (fun σ1 =>
          fv_rv σ1) fv_no
noncomputable def zX2_extra (x1 : Int32) (σ : fv_S) : Option fv_O :=
  if ¬ (x1 >>> (6 : Int32)) = (1 : Int32) then
    zX2_extra_31 x1 (x1 >>> (6 : Int32)) ((x1 >>> (3 : Int32)) &&& (7 : Int32)) (x1 &&& (7 : Int32)) σ
  else
    fv_bv (zX2_middle x1 ((x1 >>> (3 : Int32)) &&& (7 : Int32)) (x1 &&& (7 : Int32)) σ) (fun σ2 =>
      zX2_extra_31 x1 (x1 >>> (6 : Int32)) ((x1 >>> (3 : Int32)) &&& (7 : Int32)) (x1 &&& (7 : Int32)) σ2) fv_no
noncomputable def zX2_kindWith (x0 : Int32) (x1 : Int32) (x2 : Int32) (σ : fv_S) : Option fv_O :=
  if ¬ x0 = (1 : Int32) then
    fv_ri x0 σ
  else
    if ¬ x1 = (6 : Int32) then
      fv_ri x0 σ
    else
      if x2 = 0 then
        fv_ri 10 σ
      else
        fv_ri 9 σ
noncomputable def zX2_valueWith_17 (x0 : Int32) (x1 : Int32) (x2 : Int32) (x3 : Int32) (σ : fv_S) : Option fv_O :=
  if ¬ x0 = (1 : Int32) then
    fv_ri x1 σ
  else
    if ¬ x1 = (6 : Int32) then
      fv_ri x1 σ
    else
      if x3 = 0 then
        fv_ri x2 σ
      else
        fv_ri ((5 : Int32) + x2) σ
noncomputable def zX2_valueWith (x0 : Int32) (x1 : Int32) (x2 : Int32) (x3 : Int32) (σ : fv_S) : Option fv_O :=
  if ¬ x0 = (2 : Int32) then
    zX2_valueWith_17 x0 x1 x2 x3 σ
  else
    if ¬ x1 = (2 : Int32) then
      zX2_valueWith_17 x0 x1 x2 x3 σ
    else
      fv_ri ((6 : Int32) + x2) σ
noncomputable def zX2_indexed_190 (N : Nat) (k148 : Int32 → Int32 → fv_S → Option fv_O) (x1 : Int32) (x5 : Int32) (x6 : Int32) (s0 : Int32) (σ : fv_S) : Option fv_O :=
  if fv_in x1 900 then
    if fv_in x1 900 then
      if fv_in x1 900 then
        if fv_in x1 900 then
          fv_bi (zX2_kindWith (fv_ga σ 5 x1) (fv_ga σ 6 x1) s0 σ) (fun r6 σ5 =>
            if fv_in x1 900 then
              if fv_in x1 900 then
                fv_bi (zX2_valueWith (fv_ga σ5 5 x1) (fv_ga σ5 6 x1) x5 s0 σ5) (fun r10 σ9 =>
                  if fv_in x1 900 then
                    if fv_in x1 900 then
                      fv_bi (zX2_kindWith (fv_ga σ9 7 x1) (fv_ga σ9 8 x1) s0 σ9) (fun r14 σ13 =>
                        if fv_in x1 900 then
                          if fv_in x1 900 then
                            fv_bi (zX2_valueWith (fv_ga σ13 7 x1) (fv_ga σ13 8 x1) x5 s0 σ13) (fun r18 σ17 =>
                              fv_bv (zX2_add x6 (fv_ga σ 10 x1) (fv_ga σ 4 x1) r6 r10 r14 r18 σ17) (fun σ19 =>
                                k148 x1 (x5 + (1 : Int32)) σ19) fv_no) fv_no
                          else none
                        else none) fv_no
                    else none
                  else none) fv_no
              else none
            else none) fv_no
        else none
      else none
    else none
  else none
noncomputable def zX2_indexed_169 (N : Nat) (k148 : Int32 → Int32 → fv_S → Option fv_O) (x1 : Int32) (x5 : Int32) (s0 : Int32) (σ : fv_S) : Option fv_O :=
  if fv_in x1 900 then
    if ¬ (fv_ga σ 4 x1) = (27 : Int32) then
      zX2_indexed_190 N k148 x1 x5 (s0 + x5) 0 σ
    else
      zX2_indexed_190 N k148 x1 x5 (s0 + x5) 1 σ
  else none
noncomputable def zX2_indexed_148_b (N : Nat) (k148 : Int32 → Int32 → fv_S → Option fv_O) (x1 : Int32) (x5 : Int32) (σ : fv_S) : Option fv_O :=
  if (2 : Int32) ≤ x5 then
    fv_rv σ
  else
    if fv_in x1 900 then
      if ¬ (fv_ga σ 9 x1) = (1 : Int32) then
        zX2_indexed_169 N k148 x1 x5 3 σ
      else
        zX2_indexed_169 N k148 x1 x5 5 σ
    else none
noncomputable def zX2_indexed_148 (N : Nat) : Nat → Int32 → Int32 → fv_S → Option fv_O
  | 0, _, _, _ => none
  | n + 1, x1, x5, σ => zX2_indexed_148_b N (zX2_indexed_148 N n) x1 x5 σ
noncomputable def zX2_indexed_119 (N : Nat) (x1 : Int32) (x2 : Int32) (x3 : Int32) (s0 : Int32) (σ : fv_S) : Option fv_O :=
  if fv_in x1 900 then
    if (fv_ga σ 9 x1) = (2 : Int32) then
      fv_rv σ
    else
      if ¬ s0 = 0 then
        fv_rv σ
      else
        if ¬ x2 = 0 then
          zX2_indexed_148 N N x1 0 σ
        else
          if ¬ x3 = 0 then
            zX2_indexed_148 N N x1 0 σ
          else
            fv_rv σ
  else none
noncomputable def zX2_indexed_118 (N : Nat) (x1 : Int32) (x2 : Int32) (x3 : Int32) (σ : fv_S) : Option fv_O :=
  zX2_indexed_119 N x1 x2 x3 0 σ
noncomputable def zX2_indexed_93 (N : Nat) (x1 : Int32) (x2 : Int32) (s0 : Int32) (σ : fv_S) : Option fv_O :=
  if fv_in x1 900 then
    if ¬ (fv_ga σ 4 x1) = (1 : Int32) then
      zX2_indexed_118 N x1 x2 s0 σ
    else
      if fv_in x1 900 then
        if ¬ (fv_ga σ 5 x1) = (2 : Int32) then
          zX2_indexed_118 N x1 x2 s0 σ
        else
          zX2_indexed_119 N x1 x2 s0 1 σ
      else none
  else none
noncomputable def zX2_indexed_88 (N : Nat) (x1 : Int32) (x2 : Int32) (σ : fv_S) : Option fv_O :=
  zX2_indexed_93 N x1 x2 1 σ
noncomputable def zX2_indexed_92 (N : Nat) (x1 : Int32) (x2 : Int32) (σ : fv_S) : Option fv_O :=
  zX2_indexed_93 N x1 x2 0 σ
noncomputable def zX2_indexed_67 (N : Nat) (x1 : Int32) (x2 : Int32) (σ : fv_S) : Option fv_O :=
  if fv_in x1 900 then
    if ¬ (fv_ga σ 7 x1) = (1 : Int32) then
      zX2_indexed_92 N x1 x2 σ
    else
      if fv_in x1 900 then
        if ¬ (fv_ga σ 8 x1) = (6 : Int32) then
          zX2_indexed_92 N x1 x2 σ
        else
          zX2_indexed_88 N x1 x2 σ
      else none
  else none
noncomputable def zX2_indexed_45 (N : Nat) (x1 : Int32) (s0 : Int32) (σ : fv_S) : Option fv_O :=
  if fv_in x1 900 then
    if ¬ (fv_ga σ 5 x1) = (1 : Int32) then
      zX2_indexed_67 N x1 s0 σ
    else
      if fv_in x1 900 then
        if (fv_ga σ 6 x1) = (6 : Int32) then
          zX2_indexed_88 N x1 s0 σ
        else
          zX2_indexed_67 N x1 s0 σ
      else none
  else none
noncomputable def zX2_indexed_40 (N : Nat) (x1 : Int32) (σ : fv_S) : Option fv_O :=
  zX2_indexed_45 N x1 1 σ
noncomputable def zX2_indexed_44 (N : Nat) (x1 : Int32) (σ : fv_S) : Option fv_O :=
  zX2_indexed_45 N x1 0 σ
noncomputable def zX2_indexed_20 (N : Nat) (x1 : Int32) (σ : fv_S) : Option fv_O :=
  if fv_in x1 900 then
    if ¬ (fv_ga σ 7 x1) = (2 : Int32) then
      zX2_indexed_44 N x1 σ
    else
      if fv_in x1 900 then
        if ¬ (fv_ga σ 8 x1) = (2 : Int32) then
          zX2_indexed_44 N x1 σ
        else
          zX2_indexed_40 N x1 σ
      else none
  else none
noncomputable def zX2_indexed (N : Nat) (x1 : Int32) (σ : fv_S) : Option fv_O :=
  if fv_in x1 900 then
    if ¬ (fv_ga σ 5 x1) = (2 : Int32) then
      zX2_indexed_20 N x1 σ
    else
      if fv_in x1 900 then
        if (fv_ga σ 6 x1) = (2 : Int32) then
          zX2_indexed_40 N x1 σ
        else
          zX2_indexed_20 N x1 σ
      else none
  else none
